set_option maxRecDepth 100000
/-! ROWS: the arrays of references and of arrays of the whole -/
theorem xK_rno {tc : Nat → ClassId} {B : Nat → Int → Nat} {F : Nat → Int} {M : Nat → Int → Int} {G : Nat → Int → Option Nat} {f t n : Nat} {i : Int} (h0 : xsp f = none) (h : xrf f = some (t, n)) (hi : ¬ i = 0) : xK tc B F M G f i = none := by
  unfold xK
  rw [h0, h]
  exact if_neg hi
theorem xK_ino {tc : Nat → ClassId} {B : Nat → Int → Nat} {F : Nat → Int} {M : Nat → Int → Int} {G : Nat → Int → Option Nat} {f t n R : Nat} {i : Int} (h : xsp f = some (t, n, R)) (hi : ¬ (0 ≤ i ∧ i < R)) : xK tc B F M G f i = none := by
  unfold xK
  rw [h]
  exact if_neg hi
theorem xP_no {j : Nat} {tc : Nat → ClassId} {B : Nat → Int → Nat} {F : Nat → Int} {M : Nat → Int → Int} {G : Nat → Int → Option Nat} {f : Nat} {i : Int} (hf : ¬ f = 49) (h : j ≤ ownX f) : xP j tc B F M G f i = none := by
  unfold xP
  rw [if_neg hf, if_neg (by omega)]
section ROWS17
variable {p : Program} {l : Launch} {e : Env} {R : Room} {s : State} {m : MethodId} {args : Array Value} {below : List Frame} {meth : Method} {c : Code} {H : Heap} {locs : List Loc} {cells slots : Nat} {Q : State → Prop}
variable {A : Nat → Prop} {own : String} {cc : ByteArray} {nL : Nat} {rt : Option FieldType} {E : us_E} {pc : Nat} {ls : Array Slot} {rest : List Value} {B : Nat → Int → Nat} {F : Nat → Int} {M : Nat → Int → Int} {G : Nat → Int → Option Nat} {T : x_T}
theorem xi_refc {j : Nat} (C : Cx p s m args meth c A RX0 cc nL rt E) (hX : XP E A B F M G T j H) (hS : va_S A s.heap H locs) {o : Nat} (ho : B 49 0 = o) (k : Nat) {t n : Nat} (hjk : j ≤ k) (hk49 : k < 49) (hk : xin k = false) (hs0 : xsp k = none) (hA : xrf k = some (t, n)) (hG : ∀ i, G k i = none) (hg : ∀ i, j ≤ i → i < k → xin i = true) (hz : X0Z F M) (hk5 : ¬ k = 4 ∧ ¬ k = 13 ∧ ¬ k = 14 ∧ ¬ k = 27 ∧ ¬ k = 48) (hfin : (TX0 k).2.2.2 = true) (hnm : meth.name = "<init>") (hdecl : (TX0 k).1 = RX0) (hn1 : ∀ a : Nat, narrow (tyX0 k) (.ref a) = .ref a) (hn2 : ∀ a : Nat, fits (tyX0 k) (.ref a) = true) {ref : String} {index : Nat} (hlink : Cond.fieldLink RX0 index ref (TX0 k).2.1 (TX0 k).2.2.1 ∈ lw_all) (hsame : ∀ x, s.fieldFound? (TX0 k).1 (TX0 k).2.1 (TX0 k).2.2.1 = some x → s.fieldFound? ref (TX0 k).2.1 (TX0 k).2.2.1 = some x) {H1 : Heap} (he : H1[H.size]? = some (arrV (E.2 t) n (fun _ => .null))) (hz1 : H1.size = H.size + 1) (o1 : ∀ q : Nat, q < H.size → H1[q]? = H[q]?) (hdg : decode cc pc = .ok (.putfield index, 3)) (kk : ∀ (B' : Nat → Int → Nat) (H : Heap) (locs : List Loc), B' 49 0 = o → (∀ f, ¬ f = k → B' f = B f) → XP E A B' F M G T (k + 1) H → va_S A s.heap H locs → W p l e R s m args below meth c H locs cells slots Q (F0 m (pc + 3) ls rest)) : W p l e R s m args below meth c H1 locs cells slots Q (F0 m pc ls (.ref H.size :: .ref o :: rest)) := by
  have he2 : va_at E.1 us_cl (H.size, .inl (E.2 t, n, .inr (.inr (.inr (.inr (fun _ => none)))))) H1 := by
    show H1[H.size]? = some (vp_cell (E.2 t) (n, .inr (.inr (.inr (.inr (fun _ => none))))))
    rw [he, vp_cell_q]
    rfl
  have h := rw_push (x_r k 0) hX (C.a _ hS.1) he2 o1
  rw [x_adu (by omega) (Int.le_refl 0), x_ceu (by omega) (Int.le_refl 0)] at h
  have hok : ownX k = k := by
    unfold ownX
    rw [if_neg (by omega), if_neg (by omega), if_neg (by omega), if_neg (by omega), if_neg (by omega)]
  refine xi_fld C (j := j) (B := B) (F := F) (M := M) (G := G) (G' := G) h ⟨Nat.le_trans hS.1 (by omega), fun x h1 h2 => (o1 x (Nat.lt_of_lt_of_le h1 hS.1)).trans (hS.2.1 x h1 h2), hS.2.2⟩ (by rw [va_up_ne _ _ (by omega)]; exact ho) k hjk hk49 hk hg hz (fun i a b => va_up_ne _ _ a) (by rw [va_up_self, fup_s]) (fun f hf => ?_) (fun f hf => ?_) (fun f hf => rfl) hfin hnm hdecl (hn1 _) (hn2 _) hlink hsame hdg (fun H1 locs1 h1 h2 => kk _ H1 locs1 (by rw [va_up_ne _ _ (by omega)]; exact ho) (fun f hf => va_up_ne _ _ hf) h1 h2)
  · have fk := ownX_le hf hk5.1 hk5.2.1 hk5.2.2.1 hk5.2.2.2.1 hk5.2.2.2.2
    subst fk
    funext i
    rw [va_up_self]
    by_cases ei : i = 0
    · subst ei
      rw [fup_s, xK_r hs0 hA]
      have ez : (fun x : Nat => G f x) = (fun _ => none) := funext fun x => hG x
      rw [ez]
    · rw [fup_n _ _ ei, xP_no (by omega) (by omega), xK_rno hs0 hA ei]
  · rw [va_up_ne _ _ (fun q => hf (by subst q; exact hok))]
theorem xi_r {j : Nat} (C : Cx p s m args meth c A RX0 cc nL rt E) (hX : XP E A B F M G T j H) (hS : va_S A s.heap H locs) {o : Nat} (ho : B 49 0 = o) (k : Nat) {t n : Nat} (hjk : j ≤ k) (hk49 : k < 49) (hk : xin k = false) (hs0 : xsp k = none) (hA : xrf k = some (t, n)) (hG : ∀ i, G k i = none) (hg : ∀ i, j ≤ i → i < k → xin i = true) (hz : X0Z F M) (hk5 : ¬ k = 4 ∧ ¬ k = 13 ∧ ¬ k = 14 ∧ ¬ k = 27 ∧ ¬ k = 48) (hfin : (TX0 k).2.2.2 = true) (hnm : meth.name = "<init>") (hdecl : (TX0 k).1 = RX0) (hn1 : ∀ a : Nat, narrow (tyX0 k) (.ref a) = .ref a) (hn2 : ∀ a : Nat, fits (tyX0 k) (.ref a) = true) {ref : String} {index : Nat} (hlink : Cond.fieldLink RX0 index ref (TX0 k).2.1 (TX0 k).2.2.1 ∈ lw_all) (hsame : ∀ x, s.fieldFound? (TX0 k).1 (TX0 k).2.1 (TX0 k).2.2.1 = some x → s.fieldFound? ref (TX0 k).2.1 (TX0 k).2.2.1 = some x) {Cn : String} (hn : n ≤ 30000) (hty : (us_T E.2)[t]? = some (E.2 t, .object Cn)) (hao : FieldType.object Cn ∈ us_AO) {ix : Nat} (hcl : Cond.classLink RX0 ix Cn ∈ lw_all) {cells' slots' : Nat} (hc' : cells + 1 = cells') (hs' : slots + n = slots') (hcells : cells' ≤ R.cells) (hslots : slots' ≤ R.slots) (d0 : decode cc pc = .ok (.anewarray ix, 3)) (hdg : decode cc (pc + 3) = .ok (.putfield index, 3)) (kk : ∀ (B' : Nat → Int → Nat) (H : Heap) (locs : List Loc), B' 49 0 = o → (∀ f, ¬ f = k → B' f = B f) → XP E A B' F M G T (k + 1) H → va_S A s.heap H locs → W p l e R s m args below meth c H locs cells' slots' Q (F0 m (pc + 6) ls rest)) : W p l e R s m args below meth c H locs cells slots Q (F0 m pc ls (.int (zi (n : Int)) :: .ref o :: rest)) := by
  subst hc'
  subst hs'
  have hneg : ¬ zi (n : Int) < 0 := fun q => by
    have := (zi_lt (a := (n : Int)) (b := 0) (by omega) (by omega)).1 q
    omega
  have hcl2 : (zi (n : Int)).toNatClampNeg = n := (zi_cl (by omega)).trans (Int.toNat_natCast n)
  have key := W.anew (p := p) (l := l) (e := e) (R := R) (s := s) (m := m) (args := args) (below := below) (meth := meth) (c := c) (H := H) (locs := locs) (cells := cells) (slots := slots) (Q := Q) C.x C.b C.o (C.t _ hcl) (C.ao hao) (g := F0 m pc ls (.int (zi (n : Int)) :: .ref o :: rest)) rfl d0 rfl hneg (by rw [hcl2]; omega) hcells (by rw [hcl2]; exact hslots)
  refine key (fun cA kA comp f1 f2 f3 f4 => ?_)
  have hcA : cA = E.2 t := by
    obtain ⟨kA', comp', -, -, -, g4⟩ := (C.k.1.2 t _ hty).2
    exact Option.some.inj (f1.symm.trans g4)
  rw [hcl2]
  exact xi_refc C hX hS ho k hjk hk49 hk hs0 hA hG hg hz hk5 hfin hnm hdecl hn1 hn2 hlink hsame (by rw [Array.getElem?_push_size, arrV_new, hcA]) (by rw [Array.size_push]) (fun q hq => by rw [Array.getElem?_push, if_neg (Nat.ne_of_lt hq)]) hdg kk
theorem xi_a {j : Nat} (C : Cx p s m args meth c A RX0 cc nL rt E) (hX : XP E A B F M G T j H) (hS : va_S A s.heap H locs) {o : Nat} (ho : B 49 0 = o) (k : Nat) {t n : Nat} (hjk : j ≤ k) (hk49 : k < 49) (hk : xin k = false) (hs0 : xsp k = none) (hA : xrf k = some (t, n)) (hG : ∀ i, G k i = none) (hg : ∀ i, j ≤ i → i < k → xin i = true) (hz : X0Z F M) (hk5 : ¬ k = 4 ∧ ¬ k = 13 ∧ ¬ k = 14 ∧ ¬ k = 27 ∧ ¬ k = 48) (hfin : (TX0 k).2.2.2 = true) (hnm : meth.name = "<init>") (hdecl : (TX0 k).1 = RX0) (hn1 : ∀ a : Nat, narrow (tyX0 k) (.ref a) = .ref a) (hn2 : ∀ a : Nat, fits (tyX0 k) (.ref a) = true) {ref : String} {index : Nat} (hlink : Cond.fieldLink RX0 index ref (TX0 k).2.1 (TX0 k).2.2.1 ∈ lw_all) (hsame : ∀ x, s.fieldFound? (TX0 k).1 (TX0 k).2.1 (TX0 k).2.2.1 = some x → s.fieldFound? ref (TX0 k).2.1 (TX0 k).2.2.1 = some x) (hn : n ≤ 30000) (ht4 : t = 4) {ix : Nat} (hcl : Cond.classLink RX0 ix "[I" ∈ lw_all) {cells' slots' : Nat} (hc' : cells + 1 = cells') (hs' : slots + n = slots') (hcells : cells' ≤ R.cells) (hslots : slots' ≤ R.slots) (d0 : decode cc pc = .ok (.anewarray ix, 3)) (hdg : decode cc (pc + 3) = .ok (.putfield index, 3)) (kk : ∀ (B' : Nat → Int → Nat) (H : Heap) (locs : List Loc), B' 49 0 = o → (∀ f, ¬ f = k → B' f = B f) → XP E A B' F M G T (k + 1) H → va_S A s.heap H locs → W p l e R s m args below meth c H locs cells' slots' Q (F0 m (pc + 6) ls rest)) : W p l e R s m args below meth c H locs cells slots Q (F0 m pc ls (.int (zi (n : Int)) :: .ref o :: rest)) := by
  subst hc'
  subst hs'
  subst ht4
  have hneg : ¬ zi (n : Int) < 0 := fun q => by
    have := (zi_lt (a := (n : Int)) (b := 0) (by omega) (by omega)).1 q
    omega
  have hcl2 : (zi (n : Int)).toNatClampNeg = n := (zi_cl (by omega)).trans (Int.toNat_natCast n)
  intro T1 hT X
  obtain ⟨vm', cA, hW', f1, X', st⟩ := va_anewA X C.x (t := .int) C.o (C.t _ hcl) (C.ao (by decide +kernel)) (g := F0 m pc ls (.int (zi (n : Int)) :: .ref o :: rest)) rfl (by rw [C.b]; exact d0) rfl hneg (by rw [hcl2]; omega) hcells (by rw [hcl2]; exact hslots)
  have hcA : cA = E.2 4 := Option.some.inj (f1.symm.trans (C.k.1.2 4 _ rfl).2)
  rw [hcl2] at X' st
  have hh : ((T1.setVm vm').pushCell { cls := cA, slots := Array.replicate n .null }).heap = H.push { cls := cA, slots := Array.replicate n .null } := by rw [← hT]; rfl
  obtain ⟨t, a1, b1⟩ := xi_refc C hX hS ho k hjk hk49 hk hs0 hA hG hg hz hk5 hfin hnm hdecl hn1 hn2 hlink hsame (H1 := H.push { cls := cA, slots := Array.replicate n .null }) (rest := rest) (by rw [Array.getElem?_push_size, arrV_new, hcA]) (by rw [Array.size_push]) (fun q hq => by rw [Array.getElem?_push, if_neg (Nat.ne_of_lt hq)]) hdg kk _ hh X'
  refine ⟨t, st t ?_, b1⟩
  rw [hT]
  exact a1
theorem xi_mi {j : Nat} (C : Cx p s m args meth c A RX0 cc nL rt E) (hX : XP E A B F M G T j H) (hS : va_S A s.heap H locs) {o : Nat} (ho : B 49 0 = o) (k fr : Nat) {n q2 : Nat} (hjk : j ≤ k) (hk49 : k < 49) (hfr : 49 < fr ∧ fr < 54) (hk : xin k = false) (hs0 : xsp k = none) (hA : xrf k = some (4, n)) (hr : xsp fr = some (0, q2, n)) (hM : ∀ i, M fr i = 0) (hown : ∀ f, ownX f = k ↔ f = k ∨ f = fr) (hg : ∀ i, j ≤ i → i < k → xin i = true) (hz : X0Z F M) (hfin : (TX0 k).2.2.2 = true) (hnm : meth.name = "<init>") (hdecl : (TX0 k).1 = RX0) (hn1 : ∀ a : Nat, narrow (tyX0 k) (.ref a) = .ref a) (hn2 : ∀ a : Nat, fits (tyX0 k) (.ref a) = true) {ref : String} {index : Nat} (hlink : Cond.fieldLink RX0 index ref (TX0 k).2.1 (TX0 k).2.2.1 ∈ lw_all) (hsame : ∀ x, s.fieldFound? (TX0 k).1 (TX0 k).2.1 (TX0 k).2.2.1 = some x → s.fieldFound? ref (TX0 k).2.1 (TX0 k).2.2.1 = some x) (hn : 1 ≤ n ∧ n ≤ 30000) (hq2 : q2 ≤ 30000) {ix : Nat} (hcl : Cond.classLink RX0 ix ("[" ++ (FieldType.array .int).toString) ∈ lw_all) (harr : Cond.arrayClass FieldType.int ∈ lw_all) {cells' slots' : Nat} (hc' : cells + (1 + n) = cells') (hs' : slots + (n + n * q2) = slots') (hcells : cells' ≤ R.cells) (hslots : slots' ≤ R.slots) (d0 : decode cc pc = .ok (.multianewarray ix 2, 4)) (hdg : decode cc (pc + 4) = .ok (.putfield index, 3)) (kk : ∀ (B' : Nat → Int → Nat) (G' : Nat → Int → Option Nat) (H : Heap) (locs : List Loc), B' 49 0 = o → (∀ f, ¬ f = k → G' f = G f) → (∀ i : Int, 0 ≤ i → i < n → G' k i = some (B' fr i)) → (∀ f, ¬ f = k → ¬ f = fr → B' f = B f) → XP E A B' F M G' T (k + 1) H → va_S A s.heap H locs → W p l e R s m args below meth c H locs cells' slots' Q (F0 m (pc + 7) ls rest)) : W p l e R s m args below meth c H locs cells slots Q (F0 m pc ls (.int (zi (q2 : Int)) :: .int (zi (n : Int)) :: .ref o :: rest)) := by
  subst hc'
  subst hs'
  have hneg : ∀ v : Nat, v ≤ 30000 → ¬ zi (v : Int) < 0 := fun v hv q => by
    have := (zi_lt (a := (v : Int)) (b := 0) (by omega) (by omega)).1 q
    omega
  have hcl2 : ∀ v : Nat, v ≤ 30000 → (zi (v : Int)).toNatClampNeg = v := fun v hv => (zi_cl (by omega)).trans (Int.toNat_natCast v)
  have hkk : ownX k = k := (hown k).2 (Or.inl rfl)
  have hkf : ownX fr = k := (hown fr).2 (Or.inr rfl)
  intro T1 hT X
  obtain ⟨vm', cA, comp, hW', f1, f2, -, -, X', st⟩ := X.multianewarray2K C.x (ty := .int) C.o (C.t _ hcl) (C.ao (by decide +kernel)) (C.t _ harr) (g := F0 m pc ls (.int (zi (q2 : Int)) :: .int (zi (n : Int)) :: .ref o :: rest)) rfl (by rw [C.b]; exact d0) rfl (hneg n hn.2) (hneg q2 hq2) (by rw [hcl2 n hn.2]; omega) (by rw [hcl2 q2 hq2]; show q2 * 4 ≤ 536870912; omega) (by rw [hcl2 q2 hq2]; omega) rfl rfl (by rw [hcl2 n hn.2]; exact hcells) (by rw [hcl2 n hn.2, hcl2 q2 hq2]; exact hslots)
  have hcA : cA = E.2 4 := Option.some.inj (f1.symm.trans (C.k.1.2 4 _ rfl).2)
  have hco : comp = E.2 0 := Option.some.inj (f2.symm.trans (C.k.1.2 0 _ rfl).2)
  subst hcA
  subst hco
  rw [hcl2 n hn.2, hcl2 q2 hq2] at X' st
  generalize hF : Multi.fill (T1.setVm vm') (E.2 4) (E.2 0) n q2 (defaultValue .int) n = T2 at X' st
  have hh0 : (T1.setVm vm').heap = H := hT
  obtain ⟨z1, z2, z3, z4⟩ := fill_h (T1.setVm vm') (E.2 4) (E.2 0) n q2 (defaultValue .int) n
  rw [hF, hh0] at z1 z2 z3 z4
  rw [outer_e] at z3
  have z4 : ∀ i : Nat, i < n → T2.heap[H.size + 1 + i]? = some (vp_cell (E.2 0) (q2, .inl (fun _ => zi 0))) := fun i hi => by rw [z4 i hi, inner_e]; rfl
  let B' : Nat → Int → Nat := va_up (va_up B k (fup (B k) 0 H.size)) fr (fun i => H.size + 1 + i.toNat)
  let G' : Nat → Int → Option Nat := va_up G k (fun i => if 0 ≤ i ∧ i < n then some (H.size + 1 + i.toNat) else none)
  have hkfr : ¬ k = fr := by omega
  have bk : B' k 0 = H.size := by
    show va_up (va_up B k (fup (B k) 0 H.size)) fr _ k 0 = _
    rw [va_up_ne _ _ hkfr, va_up_self, fup_s]
  have bf : ∀ i : Int, B' fr i = H.size + 1 + i.toNat := fun i => by
    show va_up (va_up B k (fup (B k) 0 H.size)) fr _ fr i = _
    rw [va_up_self]
  have bo : ∀ f, ¬ f = k → ¬ f = fr → B' f = B f := fun f a b => by
    show va_up (va_up B k (fup (B k) 0 H.size)) fr _ f = _
    rw [va_up_ne _ _ b, va_up_ne _ _ a]
  have gk : ∀ i : Int, G' k i = if 0 ≤ i ∧ i < n then some (H.size + 1 + i.toNat) else none := fun i => congrFun (va_up_self _ _ _) i
  let K : Nat → Int → Option va_E := fun f => if ownX f = k then xK E.2 B' F M G' f else xP j E.2 B F M G f
  have kn : ∀ f, ownX f = k → K f = xK E.2 B' F M G' f := fun f hf => if_pos hf
  have ko : ∀ f, ¬ ownX f = k → K f = xP j E.2 B F M G f := fun f hf => if_neg hf
  have kk0 : xK E.2 B' F M G' k 0 = some (.inl (E.2 4, n, .inr (.inr (.inr (.inr (fun x : Nat => G' k x)))))) := xK_r hs0 hA
  have kf0 : ∀ i : Int, 0 ≤ i ∧ i < n → xK E.2 B' F M G' fr i = some (.inl (E.2 0, q2, .inl (fun _ => zi 0))) := fun i hi => by
    rw [xK_i hr hi]
    have ez : (fun x : Nat => zi (xrow q2 (M fr) i x)) = (fun _ => zi 0) := funext fun x => by
      unfold xrow
      split
      · rw [hM]
      · rfl
    rw [ez]
  have hw : x_H E.1 A B' K T T2.heap := by
    refine rw_more hX z2 (fun r hr0 => ?_) (fun r e9 hr0 hr1 => ?_) (fun r1 r2 a1 a2 b1 b2 hab => ?_)
    · unfold x_ce x_ad at *
      by_cases q : r % 128 < 100
      · rw [if_pos q] at hr0 ⊢
        rw [if_pos q, if_pos q, if_pos q]
        by_cases w : ownX (r % 128) = k
        · exact absurd (xP_no (fun y => by rw [y] at w; have : (49 : Nat) = k := w; omega) (by omega)) hr0
        · rw [ko _ w, bo _ (fun y => w (by rw [y]; exact hkk)) (fun y => w (by rw [y]; exact hkf))]
          exact ⟨rfl, rfl⟩
      · rw [if_neg q] at hr0 ⊢
        rw [if_neg q, if_neg q, if_neg q]
        exact ⟨rfl, rfl⟩
    · unfold x_ce at hr0 hr1
      by_cases q : r % 128 < 100
      · rw [if_pos q] at hr0 hr1
        by_cases w : ownX (r % 128) = k
        · rw [kn _ w] at hr1
          have ea : x_ad B' T r = B' (r % 128) ((r / 128 : Nat) : Int) := if_pos q
          rw [ea]
          rcases (hown _).1 w with y | y
          · rw [y] at hr1 ⊢
            by_cases i0 : ((r / 128 : Nat) : Int) = 0
            · rw [i0] at hr1 ⊢
              rw [kk0] at hr1
              cases hr1
              rw [bk]
              refine ⟨?_, Nat.le_refl _, C.a _ hS.1⟩
              show T2.heap[H.size]? = some (vp_cell (E.2 4) (n, .inr (.inr (.inr (.inr (fun x : Nat => G' k x))))))
              rw [z3, vp_cell_q]
              have ez : (fun x : Nat => va_rf (if x < n then some (H.size + 1 + x) else none)) = (fun x : Nat => va_rf (G' k x)) := funext fun x => by
                rw [gk]
                by_cases u : x < n
                · rw [if_pos u, if_pos ⟨by omega, by omega⟩, Int.toNat_natCast]
                · rw [if_neg u, if_neg (by omega)]
              rw [ez]
            · rw [xK_rno hs0 hA i0] at hr1
              cases hr1
          · rw [y] at hr1 ⊢
            by_cases i0 : 0 ≤ ((r / 128 : Nat) : Int) ∧ ((r / 128 : Nat) : Int) < n
            · rw [kf0 _ i0] at hr1
              cases hr1
              rw [bf, Int.toNat_natCast]
              exact ⟨z4 _ (by omega), by omega, C.a _ (Nat.le_trans hS.1 (by omega))⟩
            · rw [xK_ino hr i0] at hr1
              cases hr1
        · rw [ko _ w] at hr1
          rw [hr0] at hr1
          cases hr1
      · rw [if_neg q] at hr0 hr1
        rw [hr0] at hr1
        cases hr1
    · have new : ∀ r, x_ce (xP j E.2 B F M G) T r = none → x_ce K T r ≠ none → (r % 128 = k ∧ r / 128 = 0 ∧ x_ad B' T r = H.size) ∨ (r % 128 = fr ∧ r / 128 < n ∧ x_ad B' T r = H.size + 1 + r / 128) := by
        intro r hr0 hr1
        unfold x_ce at hr0 hr1
        by_cases q : r % 128 < 100
        · rw [if_pos q] at hr0 hr1
          by_cases w : ownX (r % 128) = k
          · rw [kn _ w] at hr1
            have ea : x_ad B' T r = B' (r % 128) ((r / 128 : Nat) : Int) := if_pos q
            rw [ea]
            rcases (hown _).1 w with y | y
            · rw [y] at hr1 ⊢
              by_cases i0 : ((r / 128 : Nat) : Int) = 0
              · rw [i0, bk]
                exact Or.inl ⟨rfl, by omega, rfl⟩
              · exact absurd (xK_rno hs0 hA i0) hr1
            · rw [y] at hr1 ⊢
              by_cases i0 : 0 ≤ ((r / 128 : Nat) : Int) ∧ ((r / 128 : Nat) : Int) < n
              · rw [bf, Int.toNat_natCast]
                exact Or.inr ⟨rfl, by omega, rfl⟩
              · exact absurd (xK_ino hr i0) hr1
          · rw [ko _ w] at hr1
            exact absurd hr0 hr1
        · rw [if_neg q] at hr0 hr1
          exact absurd hr0 hr1
      rcases new r1 a1 b1 with ⟨u1, u2, u3⟩ | ⟨u1, u2, u3⟩ <;> rcases new r2 a2 b2 with ⟨v1, v2, v3⟩ | ⟨v1, v2, v3⟩ <;> omega
  obtain ⟨t, a1, b1⟩ := xi_fld C (j := j) (B := B) (F := F) (M := M) (G := G) (G' := G') (o := o) (a := H.size) (rest := rest) (ls := ls) (cells := cells + (1 + n)) (slots := slots + (n + n * q2)) (Q := Q) hw (locs := locs ++ List.map (fun j => { base := T1.heap.size, slot := j }) (List.range n)) ⟨Nat.le_trans hS.1 (by omega), fun x h1 h2 => (z2 x (Nat.lt_of_lt_of_le h1 hS.1)).trans (hS.2.1 x h1 h2), fun z hz9 => by
      rcases List.mem_append.mp hz9 with y | y
      · exact hS.2.2 z y
      · obtain ⟨w, -, hw2⟩ := List.mem_map.mp y
        rw [← hw2]
        exact C.a _ (by rw [hT]; exact hS.1)⟩ (by rw [bo 49 (by omega) (by omega)]; exact ho) k hjk hk49 hk hg hz (fun i a b => bo i a (by omega)) bk kn ko (fun f hf => va_up_ne _ _ hf) hfin hnm hdecl (hn1 _) (hn2 _) hlink hsame hdg (fun H1 locs1 h1 h2 => kk B' G' H1 locs1 (by rw [bo 49 (by omega) (by omega)]; exact ho) (fun f hf => va_up_ne _ _ hf) (fun i i0 i1 => by rw [gk, if_pos ⟨i0, i1⟩, bf]) bo h1 h2) T2 rfl (by rw [← Nat.add_assoc, ← Nat.add_assoc]; exact X')
  refine ⟨t, st t ?_, b1⟩
  rw [hT]
  exact a1
theorem xi_mz {j : Nat} (C : Cx p s m args meth c A RX0 cc nL rt E) (hX : XP E A B F M G T j H) (hS : va_S A s.heap H locs) {o : Nat} (ho : B 49 0 = o) (k fr : Nat) {n q2 : Nat} (hjk : j ≤ k) (hk49 : k < 49) (hfr : 49 < fr ∧ fr < 54) (hk : xin k = false) (hs0 : xsp k = none) (hA : xrf k = some (5, n)) (hr : xsp fr = some (3, q2, n)) (hM : ∀ i, M fr i = 0) (hown : ∀ f, ownX f = k ↔ f = k ∨ f = fr) (hg : ∀ i, j ≤ i → i < k → xin i = true) (hz : X0Z F M) (hfin : (TX0 k).2.2.2 = true) (hnm : meth.name = "<init>") (hdecl : (TX0 k).1 = RX0) (hn1 : ∀ a : Nat, narrow (tyX0 k) (.ref a) = .ref a) (hn2 : ∀ a : Nat, fits (tyX0 k) (.ref a) = true) {ref : String} {index : Nat} (hlink : Cond.fieldLink RX0 index ref (TX0 k).2.1 (TX0 k).2.2.1 ∈ lw_all) (hsame : ∀ x, s.fieldFound? (TX0 k).1 (TX0 k).2.1 (TX0 k).2.2.1 = some x → s.fieldFound? ref (TX0 k).2.1 (TX0 k).2.2.1 = some x) (hn : 1 ≤ n ∧ n ≤ 30000) (hq2 : q2 ≤ 30000) {ix : Nat} (hcl : Cond.classLink RX0 ix ("[" ++ (FieldType.array .boolean).toString) ∈ lw_all) (harr : Cond.arrayClass FieldType.boolean ∈ lw_all) {cells' slots' : Nat} (hc' : cells + (1 + n) = cells') (hs' : slots + (n + n * q2) = slots') (hcells : cells' ≤ R.cells) (hslots : slots' ≤ R.slots) (d0 : decode cc pc = .ok (.multianewarray ix 2, 4)) (hdg : decode cc (pc + 4) = .ok (.putfield index, 3)) (kk : ∀ (B' : Nat → Int → Nat) (G' : Nat → Int → Option Nat) (H : Heap) (locs : List Loc), B' 49 0 = o → (∀ f, ¬ f = k → G' f = G f) → (∀ i : Int, 0 ≤ i → i < n → G' k i = some (B' fr i)) → (∀ f, ¬ f = k → ¬ f = fr → B' f = B f) → XP E A B' F M G' T (k + 1) H → va_S A s.heap H locs → W p l e R s m args below meth c H locs cells' slots' Q (F0 m (pc + 7) ls rest)) : W p l e R s m args below meth c H locs cells slots Q (F0 m pc ls (.int (zi (q2 : Int)) :: .int (zi (n : Int)) :: .ref o :: rest)) := by
  subst hc'
  subst hs'
  have hneg : ∀ v : Nat, v ≤ 30000 → ¬ zi (v : Int) < 0 := fun v hv q => by
    have := (zi_lt (a := (v : Int)) (b := 0) (by omega) (by omega)).1 q
    omega
  have hcl2 : ∀ v : Nat, v ≤ 30000 → (zi (v : Int)).toNatClampNeg = v := fun v hv => (zi_cl (by omega)).trans (Int.toNat_natCast v)
  have hkk : ownX k = k := (hown k).2 (Or.inl rfl)
  have hkf : ownX fr = k := (hown fr).2 (Or.inr rfl)
  intro T1 hT X
  obtain ⟨vm', cA, comp, hW', f1, f2, -, -, X', st⟩ := X.multianewarray2K C.x (ty := .boolean) C.o (C.t _ hcl) (C.ao (by decide +kernel)) (C.t _ harr) (g := F0 m pc ls (.int (zi (q2 : Int)) :: .int (zi (n : Int)) :: .ref o :: rest)) rfl (by rw [C.b]; exact d0) rfl (hneg n hn.2) (hneg q2 hq2) (by rw [hcl2 n hn.2]; omega) (by rw [hcl2 q2 hq2]; show q2 * 1 ≤ 536870912; omega) (by rw [hcl2 q2 hq2]; omega) rfl rfl (by rw [hcl2 n hn.2]; exact hcells) (by rw [hcl2 n hn.2, hcl2 q2 hq2]; exact hslots)
  have hcA : cA = E.2 5 := Option.some.inj (f1.symm.trans (C.k.1.2 5 _ rfl).2)
  have hco : comp = E.2 3 := Option.some.inj (f2.symm.trans (C.k.1.2 3 _ rfl).2)
  subst hcA
  subst hco
  rw [hcl2 n hn.2, hcl2 q2 hq2] at X' st
  generalize hF : Multi.fill (T1.setVm vm') (E.2 5) (E.2 3) n q2 (defaultValue .boolean) n = T2 at X' st
  have hh0 : (T1.setVm vm').heap = H := hT
  obtain ⟨z1, z2, z3, z4⟩ := fill_h (T1.setVm vm') (E.2 5) (E.2 3) n q2 (defaultValue .boolean) n
  rw [hF, hh0] at z1 z2 z3 z4
  rw [outer_e] at z3
  have z4 : ∀ i : Nat, i < n → T2.heap[H.size + 1 + i]? = some (vp_cell (E.2 3) (q2, .inl (fun _ => zi 0))) := fun i hi => by rw [z4 i hi, inner_e]; rfl
  let B' : Nat → Int → Nat := va_up (va_up B k (fup (B k) 0 H.size)) fr (fun i => H.size + 1 + i.toNat)
  let G' : Nat → Int → Option Nat := va_up G k (fun i => if 0 ≤ i ∧ i < n then some (H.size + 1 + i.toNat) else none)
  have hkfr : ¬ k = fr := by omega
  have bk : B' k 0 = H.size := by
    show va_up (va_up B k (fup (B k) 0 H.size)) fr _ k 0 = _
    rw [va_up_ne _ _ hkfr, va_up_self, fup_s]
  have bf : ∀ i : Int, B' fr i = H.size + 1 + i.toNat := fun i => by
    show va_up (va_up B k (fup (B k) 0 H.size)) fr _ fr i = _
    rw [va_up_self]
  have bo : ∀ f, ¬ f = k → ¬ f = fr → B' f = B f := fun f a b => by
    show va_up (va_up B k (fup (B k) 0 H.size)) fr _ f = _
    rw [va_up_ne _ _ b, va_up_ne _ _ a]
  have gk : ∀ i : Int, G' k i = if 0 ≤ i ∧ i < n then some (H.size + 1 + i.toNat) else none := fun i => congrFun (va_up_self _ _ _) i
  let K : Nat → Int → Option va_E := fun f => if ownX f = k then xK E.2 B' F M G' f else xP j E.2 B F M G f
  have kn : ∀ f, ownX f = k → K f = xK E.2 B' F M G' f := fun f hf => if_pos hf
  have ko : ∀ f, ¬ ownX f = k → K f = xP j E.2 B F M G f := fun f hf => if_neg hf
  have kk0 : xK E.2 B' F M G' k 0 = some (.inl (E.2 5, n, .inr (.inr (.inr (.inr (fun x : Nat => G' k x)))))) := xK_r hs0 hA
  have kf0 : ∀ i : Int, 0 ≤ i ∧ i < n → xK E.2 B' F M G' fr i = some (.inl (E.2 3, q2, .inl (fun _ => zi 0))) := fun i hi => by
    rw [xK_i hr hi]
    have ez : (fun x : Nat => zi (xrow q2 (M fr) i x)) = (fun _ => zi 0) := funext fun x => by
      unfold xrow
      split
      · rw [hM]
      · rfl
    rw [ez]
  have hw : x_H E.1 A B' K T T2.heap := by
    refine rw_more hX z2 (fun r hr0 => ?_) (fun r e9 hr0 hr1 => ?_) (fun r1 r2 a1 a2 b1 b2 hab => ?_)
    · unfold x_ce x_ad at *
      by_cases q : r % 128 < 100
      · rw [if_pos q] at hr0 ⊢
        rw [if_pos q, if_pos q, if_pos q]
        by_cases w : ownX (r % 128) = k
        · exact absurd (xP_no (fun y => by rw [y] at w; have : (49 : Nat) = k := w; omega) (by omega)) hr0
        · rw [ko _ w, bo _ (fun y => w (by rw [y]; exact hkk)) (fun y => w (by rw [y]; exact hkf))]
          exact ⟨rfl, rfl⟩
      · rw [if_neg q] at hr0 ⊢
        rw [if_neg q, if_neg q, if_neg q]
        exact ⟨rfl, rfl⟩
    · unfold x_ce at hr0 hr1
      by_cases q : r % 128 < 100
      · rw [if_pos q] at hr0 hr1
        by_cases w : ownX (r % 128) = k
        · rw [kn _ w] at hr1
          have ea : x_ad B' T r = B' (r % 128) ((r / 128 : Nat) : Int) := if_pos q
          rw [ea]
          rcases (hown _).1 w with y | y
          · rw [y] at hr1 ⊢
            by_cases i0 : ((r / 128 : Nat) : Int) = 0
            · rw [i0] at hr1 ⊢
              rw [kk0] at hr1
              cases hr1
              rw [bk]
              refine ⟨?_, Nat.le_refl _, C.a _ hS.1⟩
              show T2.heap[H.size]? = some (vp_cell (E.2 5) (n, .inr (.inr (.inr (.inr (fun x : Nat => G' k x))))))
              rw [z3, vp_cell_q]
              have ez : (fun x : Nat => va_rf (if x < n then some (H.size + 1 + x) else none)) = (fun x : Nat => va_rf (G' k x)) := funext fun x => by
                rw [gk]
                by_cases u : x < n
                · rw [if_pos u, if_pos ⟨by omega, by omega⟩, Int.toNat_natCast]
                · rw [if_neg u, if_neg (by omega)]
              rw [ez]
            · rw [xK_rno hs0 hA i0] at hr1
              cases hr1
          · rw [y] at hr1 ⊢
            by_cases i0 : 0 ≤ ((r / 128 : Nat) : Int) ∧ ((r / 128 : Nat) : Int) < n
            · rw [kf0 _ i0] at hr1
              cases hr1
              rw [bf, Int.toNat_natCast]
              exact ⟨z4 _ (by omega), by omega, C.a _ (Nat.le_trans hS.1 (by omega))⟩
            · rw [xK_ino hr i0] at hr1
              cases hr1
        · rw [ko _ w] at hr1
          rw [hr0] at hr1
          cases hr1
      · rw [if_neg q] at hr0 hr1
        rw [hr0] at hr1
        cases hr1
    · have new : ∀ r, x_ce (xP j E.2 B F M G) T r = none → x_ce K T r ≠ none → (r % 128 = k ∧ r / 128 = 0 ∧ x_ad B' T r = H.size) ∨ (r % 128 = fr ∧ r / 128 < n ∧ x_ad B' T r = H.size + 1 + r / 128) := by
        intro r hr0 hr1
        unfold x_ce at hr0 hr1
        by_cases q : r % 128 < 100
        · rw [if_pos q] at hr0 hr1
          by_cases w : ownX (r % 128) = k
          · rw [kn _ w] at hr1
            have ea : x_ad B' T r = B' (r % 128) ((r / 128 : Nat) : Int) := if_pos q
            rw [ea]
            rcases (hown _).1 w with y | y
            · rw [y] at hr1 ⊢
              by_cases i0 : ((r / 128 : Nat) : Int) = 0
              · rw [i0, bk]
                exact Or.inl ⟨rfl, by omega, rfl⟩
              · exact absurd (xK_rno hs0 hA i0) hr1
            · rw [y] at hr1 ⊢
              by_cases i0 : 0 ≤ ((r / 128 : Nat) : Int) ∧ ((r / 128 : Nat) : Int) < n
              · rw [bf, Int.toNat_natCast]
                exact Or.inr ⟨rfl, by omega, rfl⟩
              · exact absurd (xK_ino hr i0) hr1
          · rw [ko _ w] at hr1
            exact absurd hr0 hr1
        · rw [if_neg q] at hr0 hr1
          exact absurd hr0 hr1
      rcases new r1 a1 b1 with ⟨u1, u2, u3⟩ | ⟨u1, u2, u3⟩ <;> rcases new r2 a2 b2 with ⟨v1, v2, v3⟩ | ⟨v1, v2, v3⟩ <;> omega
  obtain ⟨t, a1, b1⟩ := xi_fld C (j := j) (B := B) (F := F) (M := M) (G := G) (G' := G') (o := o) (a := H.size) (rest := rest) (ls := ls) (cells := cells + (1 + n)) (slots := slots + (n + n * q2)) (Q := Q) hw (locs := locs ++ List.map (fun j => { base := T1.heap.size, slot := j }) (List.range n)) ⟨Nat.le_trans hS.1 (by omega), fun x h1 h2 => (z2 x (Nat.lt_of_lt_of_le h1 hS.1)).trans (hS.2.1 x h1 h2), fun z hz9 => by
      rcases List.mem_append.mp hz9 with y | y
      · exact hS.2.2 z y
      · obtain ⟨w, -, hw2⟩ := List.mem_map.mp y
        rw [← hw2]
        exact C.a _ (by rw [hT]; exact hS.1)⟩ (by rw [bo 49 (by omega) (by omega)]; exact ho) k hjk hk49 hk hg hz (fun i a b => bo i a (by omega)) bk kn ko (fun f hf => va_up_ne _ _ hf) hfin hnm hdecl (hn1 _) (hn2 _) hlink hsame hdg (fun H1 locs1 h1 h2 => kk B' G' H1 locs1 (by rw [bo 49 (by omega) (by omega)]; exact ho) (fun f hf => va_up_ne _ _ hf) (fun i i0 i1 => by rw [gk, if_pos ⟨i0, i1⟩, bf]) bo h1 h2) T2 rfl (by rw [← Nat.add_assoc, ← Nat.add_assoc]; exact X')
  refine ⟨t, st t ?_, b1⟩
  rw [hT]
  exact a1
end ROWS17
