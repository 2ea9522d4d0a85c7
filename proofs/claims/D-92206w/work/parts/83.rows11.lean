set_option maxRecDepth 100000
/-! ROWS: nest mates read the whole; a claim joins its family; bytes; a fault is caught -/
section ROWS11
variable {p : Program} {l : Launch} {e : Env} {R : Room} {s : State} {m : MethodId} {args : Array Value} {below : List Frame} {meth : Method} {c : Code} {H : Heap} {locs : List Loc} {cells slots : Nat} {Q : State → Prop}
variable {A : Nat → Prop} {own : String} {cc : ByteArray} {nL : Nat} {rt : Option FieldType} {E : us_E} {pc : Nat} {ls : Array Slot} {rest : List Value} {B : Nat → Int → Nat} {F : Nat → Int} {M : Nat → Int → Int} {G : Nat → Int → Option Nat} {T : x_T}
theorem x_giN (C : Cx p s m args meth c A own cc nL rt E) (hX : XH E A B F M G T H) (k : Nat) (hk : k < 49) (hi : xin k = true) {ref host : String} {index : Nat} (hlink : Cond.fieldLinkNest own index ref (TX0 k).2.1 (TX0 k).2.2.1 host ∈ us_N) (hsame : ∀ x, s.fieldFound? (TX0 k).1 (TX0 k).2.1 (TX0 k).2.2.1 = some x → s.fieldFound? ref (TX0 k).2.1 (TX0 k).2.2.1 = some x) (v : Int) (hv : F k = v) {b : Int × Int} (hb : xfb k = some b) (hdg : decode cc pc = .ok (.getfield index, 3)) (kk : b.1 ≤ v ∧ v ≤ b.2 → W p l e R s m args below meth c H locs cells slots Q (F0 m (pc + 3) ls (.int (zi v) :: rest))) : W p l e R s m args below meth c H locs cells slots Q (F0 m pc ls (.ref (B 49 0) :: rest)) := by
  have key := g_getN C hX.1 (x_r 49 0) (Cn := RX0) (T := TX0) (N := 49) (ci := 0) (fs := xF B F) (by rw [x_cef (by omega) (Int.le_refl 0)]; exact xK_49) rfl in_X0 k hk hlink hsame (v := .int (zi v)) (by rw [xF_get hk, if_pos hi, hv]) hdg (kk (hv ▸ hX.2.1 k b hb))
  rw [x_adf (by omega) (Int.le_refl 0)] at key
  exact key
theorem x_gaN (C : Cx p s m args meth c A own cc nL rt E) (hX : XH E A B F M G T H) (k : Nat) (hk : k < 49) (hi : xin k = false) {ref host : String} {index : Nat} (hlink : Cond.fieldLinkNest own index ref (TX0 k).2.1 (TX0 k).2.2.1 host ∈ us_N) (hsame : ∀ x, s.fieldFound? (TX0 k).1 (TX0 k).2.1 (TX0 k).2.2.1 = some x → s.fieldFound? ref (TX0 k).2.1 (TX0 k).2.2.1 = some x) (hdg : decode cc pc = .ok (.getfield index, 3)) (kk : W p l e R s m args below meth c H locs cells slots Q (F0 m (pc + 3) ls (.ref (B k 0) :: rest))) : W p l e R s m args below meth c H locs cells slots Q (F0 m pc ls (.ref (B 49 0) :: rest)) := by
  have key := g_getN C hX.1 (x_r 49 0) (Cn := RX0) (T := TX0) (N := 49) (ci := 0) (fs := xF B F) (by rw [x_cef (by omega) (Int.le_refl 0)]; exact xK_49) rfl in_X0 k hk hlink hsame (v := .ref (B k 0)) (by rw [xF_get hk, if_neg (by rw [hi]; decide)]) hdg kk
  rw [x_adf (by omega) (Int.le_refl 0)] at key
  exact key
/-- bytes -/
abbrev tB (E : us_E) (a n : Nat) (g : Int → Int) : Nat × va_E := (a, .inl (E.2 1, n, .inl (fun j : Nat => zi (g j))))
theorem x_newb (C : Cx p s m args meth c A own cc nL rt E) (hX : XH E A B F M G T H) (hS : va_S A s.heap H locs) (j : Nat) (hj : j < 28) {v : Int} (hv : 0 ≤ v ∧ v ≤ 1000) (harr : Cond.arrayClass FieldType.byte ∈ lw_all) (hcells : cells + 1 ≤ R.cells) (hslots : slots + v.toNat ≤ R.slots) (hdg : decode cc pc = .ok (.newarray .byte, 2)) (kk : ∀ (a : Nat) (H : Heap), XH E A B F M G (va_up T j (some (tB E a v.toNat (fun _ => 0)))) H → va_S A s.heap H locs → W p l e R s m args below meth c H locs (cells + 1) (slots + v.toNat) Q (F0 m (pc + 2) ls (.ref a :: rest))) : W p l e R s m args below meth c H locs cells slots Q (F0 m pc ls (.int (zi v) :: rest)) := by
  have hneg : ¬ zi v < 0 := fun q => by
    have := (zi_lt (a := v) (b := 0) (by omega) (by omega)).1 q
    omega
  refine va_newaK C.x C.b (atype := .byte) (C.t _ harr) rfl hdg rfl (n := zi v) hneg (zi_cl (by omega)) (by show v.toNat * 1 ≤ 536870912; omega) hcells hslots rfl fun H1 cA e1 z1 o1 hAr hNm => ?_
  have hcA : cA = E.2 1 := Option.some.inj (hNm.symm.trans (C.k.1.2 1 _ rfl).2)
  have he : va_at E.1 us_cl (H.size, .inl (E.2 1, v.toNat, .inl (fun _ => zi 0))) H1 := by
    show H1[H.size]? = some (vp_cell (E.2 1) (v.toNat, .inl (fun _ => zi 0)))
    rw [e1, hcA]
    rfl
  have h := rw_push (100 + j) hX.1 (C.a _ hS.1) he o1
  rw [show va_up (x_ad B T) (100 + j) H.size = _ from x_tad (q := tB E H.size v.toNat (fun _ => 0)) hj, show va_up (x_ce (xK E.2 B F M G) T) (100 + j) (some (.inl (E.2 1, v.toNat, .inl (fun _ => zi 0)))) = _ from x_tce (q := tB E H.size v.toNat (fun _ => 0)) hj] at h
  exact kk H.size H1 ⟨h, hX.2⟩ ⟨Nat.le_trans hS.1 (by omega), fun x h1 h2 => (o1 x (Nat.lt_of_lt_of_le h1 hS.1)).trans (hS.2.1 x h1 h2), hS.2.2⟩
theorem vp_cell_e {cA : ClassId} {n : Nat} {f g : Nat → Int32} (h : ∀ j, j < n → f j = g j) : vp_cell cA (n, .inl f) = vp_cell cA (n, .inl g) := by
  rw [vp_cell_i, vp_cell_i]
  unfold arrV
  have e : (fun j : Fin n => Value.int (f j.val)) = (fun j : Fin n => Value.int (g j.val)) := funext fun j => by rw [h j.val j.isLt]
  rw [e]
theorem fits_b {v : Int} (h : -128 ≤ v ∧ v ≤ 127) : fits .byte (.int (zi v)) = true := by
  have key : ∀ n : Fin 256, fits .byte (.int (zi ((n.val : Int) - 128))) = true := by decide +kernel
  have := key ⟨(v + 128).toNat, by omega⟩
  rw [show (((⟨(v + 128).toNat, by omega⟩ : Fin 256).val : Nat) : Int) - 128 = v by show (((v + 128).toNat : Nat) : Int) - 128 = v; omega] at this
  exact this
theorem g_acopyb (C : Cx p s m args meth c A own cc nL rt E) {ad : Nat → Nat} {ce : Nat → Option va_E} (hX : rw_H E.1 A ad ce H) (hS : va_S A s.heap H locs) (hz : ls.size = nL) (k0 k1 t : Nat) {cA : ClassId} {n0 n1 n : Nat} {f g : Nat → Int32} (h0 : ce k0 = some (.inl (cA, n0, .inl f))) (h1 : ce k1 = some (.inl (cA, n1, .inl g))) (ht : (us_T E.2)[t]? = some (cA, .byte)) (hn : n ≤ n0 ∧ n ≤ n1) (hfit : ∀ i, i < n0 → fits .byte (.int (f i)) = true) (hn2 : n < 2147483648) {index : Nat} (hlink : Cond.methodLink own index arraycopyName ∈ lw_all) (hnat : Cond.native arraycopyName ∈ lw_all) (hstat : Cond.static arraycopyName ∈ lw_all) (hini : Cond.initialized "java/lang/System" ∈ lw_all) (hfr : 1 ≤ R.frames) (hlo : (rest.map fun v => v.category).sum + (nativeFrameWords "java/lang/System" "arraycopy" 5 + 11) ≤ R.locals) (hdg : decode cc pc = .ok (.invokestatic index, 3))
    (kk : ∀ (H1 : Heap) (locs1 : List Loc), rw_H E.1 A ad (va_up ce k1 (some (.inl (cA, n1, .inl (va_cpy f g 0 0 n))))) H1 → va_S A s.heap H1 locs1 → W p l e R s m args below meth c H1 locs1 cells slots Q (F0 m (pc + 3) ls rest)) : W p l e R s m args below meth c H locs cells slots Q (F0 m pc ls (.int (zi n) :: .int (zi 0) :: .ref (ad k1) :: .int (zi 0) :: .ref (ad k0) :: rest)) := by
  have z0 : (zi 0).toNatClampNeg = 0 := zi_cl (by omega)
  have zn : (zi (n : Int)).toNatClampNeg = n := by rw [zi_cl (by omega)]; omega
  have z0l : ¬ zi 0 < 0 := by decide
  have znl : ¬ zi (n : Int) < 0 := fun q => by
    have := (zi_lt (a := (n : Int)) (b := 0) (by omega) (by omega)).1 q
    omega
  have i0 : (zi 0).toInt = 0 := rfl
  have inn : (zi (n : Int)).toInt = n := zi_t (by omega)
  intro T hT X
  have hc0 : H[ad k0]? = some (vp_cell cA (n0, .inl f)) := hX.1 k0 _ h0
  have hc1 : H[ad k1]? = some (vp_cell cA (n1, .inl g)) := hX.1 k1 _ h1
  obtain ⟨-, q0, hk0, cm0, hkk0⟩ := (C.k.1.2 t _ ht).1 n0 (fun j => .int (f j))
  obtain ⟨-, q1, hk1, cm1, hkk1⟩ := (C.k.1.2 t _ ht).1 n1 (fun j => .int (g j))
  obtain ⟨vm', X', step⟩ := X.arraycopy C.x C.o (C.t _ hlink) (C.t _ hnat) (C.t _ hstat) (C.t _ hini) (src := ad k0) (dst := ad k1) (cs := vp_cell cA (n0, .inl f)) (cd := vp_cell cA (n1, .inl g)) (srcPos := zi 0) (destPos := zi 0) (n := zi n) (by rw [hT]; exact hc0) (by rw [hT]; exact hc1)
    (fun _ h => by cases h) (fun _ h => by cases h) (fun h => by cases h) (fun h => by cases h) hk0 hk1 hkk0 hkk1 (by simp [show refKind FieldType.byte = false from rfl]) z0l z0l znl
    (by rw [i0, inn]; show ¬ _ > ((arrV cA n0 (fun j => .int (f j))).slots.size : Int); rw [arrV_size]; omega)
    (by rw [i0, inn]; show ¬ _ > ((arrV cA n1 (fun j => .int (g j))).slots.size : Int); rw [arrV_size]; omega)
    (fun vm₁ _ i hi => by
      have e : (vp_cell cA (n0, .inl f)).slots.getD ((zi 0).toNatClampNeg + i) .null = .int (f ((zi 0).toNatClampNeg + i)) := by
        show (arrV cA n0 (fun j => .int (f j))).slots.getD _ _ = _
        rw [zn] at hi
        rw [Array.getD_eq_getD_getElem?, arrV_read _ _ (by omega)]
        rfl
      exact ⟨by rw [e]; exact hfit _ (by rw [zn] at hi; omega), by rw [e]; exact trivial⟩)
    (g := F0 m pc ls (.int (zi n) :: .int (zi 0) :: .ref (ad k1) :: .int (zi 0) :: .ref (ad k0) :: rest)) rfl (by show ls.size = _; rw [C.l, hz]) (rest := rest) rfl (by rw [C.b]; exact hdg) hfr (by show 2 * 0 + _ + _ ≤ _; omega)
  have e1 : copied (vp_cell cA (n0, .inl f)) (vp_cell cA (n1, .inl g)) (zi 0) (zi 0) (zi n) = vp_cell cA (n1, .inl (va_cpy f g 0 0 n)) := by
    have w := va_copied (fun z => .int z) cA cA (n0 := n0) (n1 := n1) (sp := 0) (dp := 0) (n := n) f g (by omega)
    rw [← z0] at w
    conv at w => lhs; rw [z0]
    unfold copied
    rw [zn, z0]
    rw [z0] at w
    exact w
  rw [e1] at X' step
  have hl : ad k1 < H.size := (Array.getElem?_eq_some_iff.mp hc1).1
  have hheap : ((T.setVm vm').setCell (ad k1) (vp_cell cA (n1, .inl (va_cpy f g 0 0 n)))).heap = H.setIfInBounds (ad k1) (vp_cell cA (n1, .inl (va_cpy f g 0 0 n))) := by rw [← hT]; rfl
  have oq : ∀ q : Nat, q ≠ ad k1 → (H.setIfInBounds (ad k1) (vp_cell cA (n1, .inl (va_cpy f g 0 0 n))))[q]? = H[q]? := fun q hq => by simp [Array.getElem?_setIfInBounds, Ne.symm hq]
  obtain ⟨t, a1, b1⟩ := kk _ _ (rw_set hX h1 (show (H.setIfInBounds (ad k1) _)[ad k1]? = some _ by simp [Array.getElem?_setIfInBounds, hl]) oq) ⟨by simp; exact hS.1, fun q g1 g2 => by
      rw [oq q (fun e => g2 (by rw [e]; exact hX.2.2 k1 (rw_some h1)))]
      exact hS.2.1 q g1 g2, fun q hq => by
      rcases List.mem_append.mp hq with h | h
      · exact hS.2.2 q h
      · obtain ⟨z, -, hz⟩ := List.mem_map.mp h
        rw [← hz]
        exact hX.2.2 k1 (rw_some h1)⟩ _ hheap X'
  exact ⟨t, step t a1, b1⟩

theorem x_topN (C : Cx p s m args meth c A own cc nL rt E) (hX : XH E A B F M G T H) (hS : va_S A s.heap H locs) (j : Nat) (hj : j < 28) {a : Nat} {fs : List Value} {ci : Nat} {Cn : String} {T1 : u_T} {N : Nat} (hc : us_cl[ci]? = some (Cn, T1, N)) (hin : ∀ w ∈ u_ws Cn T1 N, w ∈ lw_all) (hT : T j = some (a, .inr (ci, fs))) (ty0 : Nat → FieldType) (hty : ∀ k, k < N → parseFieldDescriptor (T1 k).2.2.1 = some (ty0 k)) (hnm : ∀ a, a < N → ∀ b, b < N → a ≠ b → (T1 a).2.1 ≠ (T1 b).2.1) (f : Nat) (hf : f < N) {ref host : String} {index : Nat} (hlink : Cond.fieldLinkNest own index ref (T1 f).2.1 (T1 f).2.2.1 host ∈ us_N) (hsame : ∀ x, s.fieldFound? (T1 f).1 (T1 f).2.1 (T1 f).2.2.1 = some x → s.fieldFound? ref (T1 f).2.1 (T1 f).2.2.1 = some x) (hfin : (T1 f).2.2.2 = false) {v : Value} (hn : narrow (ty0 f) v = v) (hfit : fits (ty0 f) v = true) (hl : f < fs.length) {T' : x_T} (hT' : va_up T j (some (a, .inr (ci, fs.set f v))) = T') (hdg : decode cc pc = .ok (.putfield index, 3))
    (kk : ∀ (H : Heap) (locs : List Loc), XH E A B F M G T' H → va_S A s.heap H locs → W p l e R s m args below meth c H locs cells slots Q (F0 m (pc + 3) ls rest)) : W p l e R s m args below meth c H locs cells slots Q (F0 m pc ls (v :: .ref a :: rest)) := by
  have key := g_putN C hX.1 hS (100 + j) (x_cet hj hT) hc hin ty0 hty hnm f hf hlink hsame hfin hn hfit hl (rest := rest) (cells := cells) (slots := slots) hdg (fun H1 locs1 h1 h2 => kk H1 locs1 (by
    subst hT'
    exact ⟨x_tset hj hT h1, hX.2⟩) h2)
  rw [x_adt hj hT] at key
  exact key
theorem x_acopyb (C : Cx p s m args meth c A own cc nL rt E) (hX : XH E A B F M G T H) (hS : va_S A s.heap H locs) (hz : ls.size = nL) {j a : Nat} {v : Int} {g : Int → Int} (hj : j < 28) (hT : T j = some (tB E a v.toNat g)) (hv : 0 ≤ v ∧ v ≤ 160) {index : Nat} (hlink : Cond.methodLink own index arraycopyName ∈ lw_all) (hnat : Cond.native arraycopyName ∈ lw_all) (hstat : Cond.static arraycopyName ∈ lw_all) (hini : Cond.initialized "java/lang/System" ∈ lw_all) (hfr : 1 ≤ R.frames) (hlo : (rest.map fun v => v.category).sum + (nativeFrameWords "java/lang/System" "arraycopy" 5 + 11) ≤ R.locals) (hdg : decode cc pc = .ok (.invokestatic index, 3)) {T' : x_T} (hT' : va_up T j (some (tB E a v.toNat (M 45))) = T')
    (kk : ∀ (H1 : Heap) (locs1 : List Loc), XH E A B F M G T' H1 → va_S A s.heap H1 locs1 → W p l e R s m args below meth c H1 locs1 cells slots Q (F0 m (pc + 3) ls rest)) : W p l e R s m args below meth c H locs cells slots Q (F0 m pc ls (.int (zi v) :: .int (zi 0) :: .ref a :: .int (zi 0) :: .ref (B 45 0) :: rest)) := by
  obtain ⟨n, rfl⟩ := Int.eq_ofNat_of_zero_le hv.1
  have en : ((n : Int)).toNat = n := Int.toNat_natCast n
  rw [en] at hT hT'
  have h45 : x_ce (xK E.2 B F M G) T (x_r 45 0) = some (.inl (E.2 1, 160, .inl (fun j : Nat => zi (xrow 160 (M 45) 0 j)))) := by rw [x_cef (by omega) (Int.le_refl 0)]; exact xK_i rfl (by omega)
  have key := g_acopyb C hX.1 hS hz (x_r 45 0) (100 + j) 1 (n0 := 160) (n1 := n) (n := n) (rest := rest) h45 (x_cet hj hT) rfl ⟨by omega, Nat.le_refl _⟩ (fun i hi => fits_b (by rw [xrow_in ⟨by omega, by omega⟩]; exact hX.2.2.1 45 (-128, 127) rfl _)) (by omega) hlink hnat hstat hini hfr hlo hdg (fun H1 locs1 k1 k2 => kk H1 locs1 (by
    subst hT'
    have z := k1.1 (100 + j) _ (va_up_self _ _ _)
    have z : H1[x_ad B T (100 + j)]? = some (vp_cell (E.2 1) (n, .inl (va_cpy (fun j : Nat => zi (xrow 160 (M 45) 0 j)) (fun j : Nat => zi (g j)) 0 0 n))) := z
    rw [vp_cell_e (g := fun j : Nat => zi (M 45 j)) (fun i hi => by
      have l1 : va_cpy (fun j : Nat => zi (xrow 160 (M 45) 0 j)) (fun j : Nat => zi (g j)) 0 0 n i = zi (xrow 160 (M 45) 0 ((0 + (i - 0) : Nat) : Int)) := if_pos ⟨Nat.zero_le _, by omega⟩
      rw [l1, show 0 + (i - 0) = i by omega, xrow_in ⟨by omega, by omega⟩, Int.mul_zero, Int.zero_add])] at z
    have k3 := rw_set (k := 100 + j) k1 (va_up_self _ _ _) (show va_at E.1 us_cl (x_ad B T (100 + j), .inl (E.2 1, n, .inl (fun j : Nat => zi (M 45 j)))) H1 from z) (fun _ _ => rfl)
    rw [up_up] at k3
    exact ⟨x_tset hj hT k3, hX.2⟩) k2)
  rw [x_adf (by omega) (Int.le_refl 0), x_adt hj hT] at key
  exact key
/-- caught by a row of this method's table that names the fault's own class -/
theorem r_catch (C : Cx p s m args meth c A own cc nL rt E) {hh : List (Nat × Nat × Nat × Nat)} (htab : c.exceptionTable.toList = tableOf hh) {En : String} {ce : Cell} {q : Nat} (pre : List ExceptionTableEntry) (x : ExceptionTableEntry) (suf : List ExceptionTableEntry) (hsplit : tableOf hh = pre ++ x :: suf)
    (hpass : ∀ z ∈ pre, covers z pc = false ∨ (z.catchType ≠ 0 ∧ ∃ nm : String, (Cond.classLink own z.catchType nm).before args s = true ∧ va_Nc En nm s)) (hx : covers x pc = true) (h0 : x.catchType ≠ 0)
    (hlink : Cond.classLink own x.catchType En ∈ lw_all) (hcell : H[q]? = some ce) (hv : ce.vm = .none) (hcl : s.vm.findClass En = some ce.cls)
    (kk : W p l e R s m args below meth c H locs cells slots Q (F0 m x.handlerPc ls [.ref q])) : vx_W p l e R s m args below meth c H locs cells slots Q (F0 m pc ls rest) q := by
  intro T hT X
  have hpl : e.platform.magicAccessors = ({} : Platform).magicAccessors := by rw [X.admits.platform]
  obtain ⟨c5, hc5, hcl5⟩ := Cond.classLink_spec C.o (C.t _ hlink) e.platform hpl
  have e5 : ce.cls = c5 := Option.some.inj (hcl.symm.trans hc5)
  obtain ⟨vm', X', st⟩ := X.thenCaughtThrough q (g := F0 m pc ls rest) rfl (Steps.refl _) (by rw [hT]; exact hcell) (by rw [hv]; rfl) (by obtain ⟨k9, h9, -⟩ := Vm.findClass_spec hcl; exact ⟨k9, h9⟩) pre x suf (htab.trans hsplit)
    (fun z hz => by
      rcases hpass z hz with h | ⟨hz0, nm, hl1, hn1⟩
      · exact Or.inl h
      · obtain ⟨c6, hc6, hcl6⟩ := Cond.classLink_spec C.o hl1 e.platform hpl
        obtain ⟨a8, b8, h1, h2, h3⟩ := hn1
        cases Option.some.inj (h1.symm.trans hcl)
        cases Option.some.inj (h2.symm.trans hc6)
        exact Or.inr ⟨hz0, _, hcl6, h3⟩) hx (Or.inr ⟨h0, c5, hcl5, by rw [e5]; exact va_asg _ _⟩)
  obtain ⟨t, a1, b1⟩ := kk (T.setVm vm') hT X'
  exact ⟨t, st.trans a1, b1⟩
end ROWS11
theorem xK_jclaim {tc : Nat → ClassId} {B : Nat → Int → Nat} {F : Nat → Int} {M : Nat → Int → Int} {G : Nat → Int → Option Nat} {a1 : Nat} {c0 c1 c2 c3 c4 : Int} (hk : 0 ≤ F 43) : va_up (va_up (xK tc B F M G) 49 (fup (xK tc B F M G 49) 0 (some (.inr (0, (xF B F).set 43 (.int (zi (F 43 + 1)))))))) 59 (fup ((va_up (xK tc B F M G) 49 (fup (xK tc B F M G 49) 0 (some (.inr (0, (xF B F).set 43 (.int (zi (F 43 + 1)))))))) 59) (F 43) (some (.inr (4, [.int (zi c0), .int (zi c1), .int (zi c2), .int (zi c3), .int (zi c4)])))) = xK tc (va_up B 59 (fup (B 59) (F 43) a1)) (va_up F 43 (F 43 + 1)) (va_up (va_up (va_up (va_up (va_up M 205 (fup (M 205) (F 43) c0)) 206 (fup (M 206) (F 43) c1)) 207 (fup (M 207) (F 43) c2)) 208 (fup (M 208) (F 43) c3)) 209 (fup (M 209) (F 43) c4)) G := by
  have fk : va_up F 43 (F 43 + 1) 43 = F 43 + 1 := va_up_self _ _ _
  have m205 : (va_up (va_up (va_up (va_up (va_up M 205 (fup (M 205) (F 43) c0)) 206 (fup (M 206) (F 43) c1)) 207 (fup (M 207) (F 43) c2)) 208 (fup (M 208) (F 43) c3)) 209 (fup (M 209) (F 43) c4)) 205 = fup (M 205) (F 43) c0 := rfl
  have m206 : (va_up (va_up (va_up (va_up (va_up M 205 (fup (M 205) (F 43) c0)) 206 (fup (M 206) (F 43) c1)) 207 (fup (M 207) (F 43) c2)) 208 (fup (M 208) (F 43) c3)) 209 (fup (M 209) (F 43) c4)) 206 = fup (M 206) (F 43) c1 := rfl
  have m207 : (va_up (va_up (va_up (va_up (va_up M 205 (fup (M 205) (F 43) c0)) 206 (fup (M 206) (F 43) c1)) 207 (fup (M 207) (F 43) c2)) 208 (fup (M 208) (F 43) c3)) 209 (fup (M 209) (F 43) c4)) 207 = fup (M 207) (F 43) c2 := rfl
  have m208 : (va_up (va_up (va_up (va_up (va_up M 205 (fup (M 205) (F 43) c0)) 206 (fup (M 206) (F 43) c1)) 207 (fup (M 207) (F 43) c2)) 208 (fup (M 208) (F 43) c3)) 209 (fup (M 209) (F 43) c4)) 208 = fup (M 208) (F 43) c3 := rfl
  have m209 : (va_up (va_up (va_up (va_up (va_up M 205 (fup (M 205) (F 43) c0)) 206 (fup (M 206) (F 43) c1)) 207 (fup (M 207) (F 43) c2)) 208 (fup (M 208) (F 43) c3)) 209 (fup (M 209) (F 43) c4)) 209 = fup (M 209) (F 43) c4 := rfl
  funext f i
  by_cases eo : f = 59
  · subst eo
    rw [va_up_self, xKe_59, fk, m205, m206, m207, m208, m209]
    by_cases ei : i = F 43
    · subst ei
      rw [fup_s, if_pos ⟨hk, by omega⟩, fup_s, fup_s, fup_s, fup_s, fup_s]
    · rw [fup_n _ _ ei, va_up_ne _ _ (by decide), xKe_59]
      by_cases q : 0 ≤ i ∧ i < F 43
      · rw [if_pos q, if_pos ⟨q.1, by omega⟩, fup_n _ _ ei, fup_n _ _ ei, fup_n _ _ ei, fup_n _ _ ei, fup_n _ _ ei]
      · rw [if_neg q, if_neg (by omega)]
  rw [va_up_ne _ _ eo]
  by_cases e49 : f = 49
  · subst e49
    rw [va_up_self, xKe_49]
    by_cases ei : i = 0
    · subst ei
      rw [fup_s, if_pos rfl, xF_set rfl, xF_B (B' := (va_up B 59 (fup (B 59) (F 43) a1))) (fun k hk => by rw [va_up_ne _ _ (by omega)])]
    · rw [fup_n _ _ ei, if_neg ei, xKe_49, if_neg ei]
  rw [va_up_ne _ _ e49]
  by_cases e54 : f = 54
  · subst e54
    exact xKe_54.trans (xKe_54 (B := (va_up B 59 (fup (B 59) (F 43) a1))) (F := (va_up F 43 (F 43 + 1))) (M := (va_up (va_up (va_up (va_up (va_up M 205 (fup (M 205) (F 43) c0)) 206 (fup (M 206) (F 43) c1)) 207 (fup (M 207) (F 43) c2)) 208 (fup (M 208) (F 43) c3)) 209 (fup (M 209) (F 43) c4)))).symm
  by_cases e55 : f = 55
  · subst e55
    exact xKe_55.trans (xKe_55 (B := (va_up B 59 (fup (B 59) (F 43) a1))) (F := (va_up F 43 (F 43 + 1))) (M := (va_up (va_up (va_up (va_up (va_up M 205 (fup (M 205) (F 43) c0)) 206 (fup (M 206) (F 43) c1)) 207 (fup (M 207) (F 43) c2)) 208 (fup (M 208) (F 43) c3)) 209 (fup (M 209) (F 43) c4)))).symm
  by_cases e56 : f = 56
  · subst e56
    exact xKe_56.trans (xKe_56 (B := (va_up B 59 (fup (B 59) (F 43) a1))) (F := (va_up F 43 (F 43 + 1))) (M := (va_up (va_up (va_up (va_up (va_up M 205 (fup (M 205) (F 43) c0)) 206 (fup (M 206) (F 43) c1)) 207 (fup (M 207) (F 43) c2)) 208 (fup (M 208) (F 43) c3)) 209 (fup (M 209) (F 43) c4)))).symm
  by_cases e57 : f = 57
  · subst e57
    exact xKe_57.trans (xKe_57 (B := (va_up B 59 (fup (B 59) (F 43) a1))) (F := (va_up F 43 (F 43 + 1))) (M := (va_up (va_up (va_up (va_up (va_up M 205 (fup (M 205) (F 43) c0)) 206 (fup (M 206) (F 43) c1)) 207 (fup (M 207) (F 43) c2)) 208 (fup (M 208) (F 43) c3)) 209 (fup (M 209) (F 43) c4)))).symm
  by_cases e58 : f = 58
  · subst e58
    exact xKe_58.trans (xKe_58 (B := (va_up B 59 (fup (B 59) (F 43) a1))) (F := (va_up F 43 (F 43 + 1))) (M := (va_up (va_up (va_up (va_up (va_up M 205 (fup (M 205) (F 43) c0)) 206 (fup (M 206) (F 43) c1)) 207 (fup (M 207) (F 43) c2)) 208 (fup (M 208) (F 43) c3)) 209 (fup (M 209) (F 43) c4)))).symm
  by_cases e60 : f = 60
  · subst e60
    exact xKe_60.trans (xKe_60 (B := (va_up B 59 (fup (B 59) (F 43) a1))) (F := (va_up F 43 (F 43 + 1))) (M := (va_up (va_up (va_up (va_up (va_up M 205 (fup (M 205) (F 43) c0)) 206 (fup (M 206) (F 43) c1)) 207 (fup (M 207) (F 43) c2)) 208 (fup (M 208) (F 43) c3)) 209 (fup (M 209) (F 43) c4)))).symm
  by_cases e61 : f = 61
  · subst e61
    exact xKe_61.trans (xKe_61 (B := (va_up B 59 (fup (B 59) (F 43) a1))) (F := (va_up F 43 (F 43 + 1))) (M := (va_up (va_up (va_up (va_up (va_up M 205 (fup (M 205) (F 43) c0)) 206 (fup (M 206) (F 43) c1)) 207 (fup (M 207) (F 43) c2)) 208 (fup (M 208) (F 43) c3)) 209 (fup (M 209) (F 43) c4)))).symm
  exact xK_oth (by omega) (fun q => by rw [va_up_ne _ _ (by omega), va_up_ne _ _ (by omega), va_up_ne _ _ (by omega), va_up_ne _ _ (by omega), va_up_ne _ _ (by omega)])
section Jclaim
variable {p : Program} {l : Launch} {e : Env} {R : Room} {s : State} {m : MethodId} {args : Array Value} {below : List Frame} {meth : Method} {c : Code} {H : Heap} {locs : List Loc} {cells slots : Nat} {Q : State → Prop}
variable {A : Nat → Prop} {own : String} {cc : ByteArray} {nL : Nat} {rt : Option FieldType} {E : us_E} {pc : Nat} {ls : Array Slot} {rest : List Value} {B : Nat → Int → Nat} {F : Nat → Int} {M : Nat → Int → Int} {G : Nat → Int → Option Nat} {T : x_T}
theorem x_pclaim (C : Cx p s m args meth c A own cc nL rt E) (hX : XH E A B F M G T H) (hS : va_S A s.heap H locs) {a1 : Nat} {c0 c1 c2 c3 c4 : Int} (hT4 : T 4 = some (a1, .inr (4, [.int (zi c0), .int (zi c1), .int (zi c2), .int (zi c3), .int (zi c4)]))) (hG : G 42 (F 43) = some a1) (hk : F 43 ≤ 19) (hc0 : 0 ≤ c0 ∧ c0 ≤ 4) (hc1 : 0 ≤ c1 ∧ c1 ≤ 99) (hc2 : 0 ≤ c2 ∧ c2 ≤ 99) (hc3 : 0 ≤ c3 ∧ c3 ≤ 1048575) (hc4 : -4 ≤ c4 ∧ c4 ≤ 99) {ref host : String} {index : Nat} (hlink : Cond.fieldLinkNest own index ref (TX0 43).2.1 (TX0 43).2.2.1 host ∈ us_N) (hsame : ∀ x, s.fieldFound? (TX0 43).1 (TX0 43).2.1 (TX0 43).2.2.1 = some x → s.fieldFound? ref (TX0 43).2.1 (TX0 43).2.2.1 = some x) (hdg : decode cc pc = .ok (.putfield index, 3)) (kk : ∀ (H : Heap) (locs : List Loc), XH E A (va_up B 59 (fup (B 59) (F 43) a1)) (va_up F 43 (F 43 + 1)) (va_up (va_up (va_up (va_up (va_up M 205 (fup (M 205) (F 43) c0)) 206 (fup (M 206) (F 43) c1)) 207 (fup (M 207) (F 43) c2)) 208 (fup (M 208) (F 43) c3)) 209 (fup (M 209) (F 43) c4)) G (va_up T 4 none) H → va_S A s.heap H locs → W p l e R s m args below meth c H locs cells slots Q (F0 m (pc + 3) ls rest)) : W p l e R s m args below meth c H locs cells slots Q (F0 m pc ls (.int (zi (F 43 + 1)) :: .ref (B 49 0) :: rest)) := by
  have hkr : 0 ≤ F 43 ∧ F 43 ≤ 20 := hX.2.1 43 (0, 20) rfl
  have key := g_putN C hX.1 hS (x_r 49 0) (Cn := RX0) (T := TX0) (N := 49) (ci := 0) (fs := xF B F) (by rw [x_cef (by omega) (Int.le_refl 0)]; exact xK_49) rfl in_X0 tyX0 tyX0_ok nmX0 43 (by decide) hlink hsame rfl (v := .int (zi (F 43 + 1))) rfl rfl (by show 43 < (List.map _ (List.range 49)).length; rw [List.length_map, List.length_range]; decide) hdg (fun H1 locs1 h1 h2 => kk H1 locs1 (by
    rw [x_ceu (by omega) (Int.le_refl 0)] at h1
    have h4 := x_join h1 (f := 59) (i := F 43) (j := 4) (a := a1) (e := .inr (4, [.int (zi c0), .int (zi c1), .int (zi c2), .int (zi c3), .int (zi c4)])) (by decide) hkr.1 (by decide) hT4
    rw [xK_jclaim (a1 := a1) hkr.1] at h4
    have hb : ∀ (k : Nat) (v : Int) (b : Int × Int), xmb k = some b → (b.1 ≤ v ∧ v ≤ b.2) → ∀ x : Int, b.1 ≤ fup (M k) (F 43) v x ∧ fup (M k) (F 43) v x ≤ b.2 := fun k v b hq hv x => by
      by_cases z : x = F 43
      · rw [z, fup_s]; exact hv
      · rw [fup_n _ _ z]; exact hX.2.2.1 k b hq x
    refine ⟨h4, mb_up hX.2.1 (fun q hq => by cases hq; exact ⟨by show 0 ≤ F 43 + 1; omega, by show F 43 + 1 ≤ 20; omega⟩), fun f q hq x => ?_, fun f g0 hg x h0 hx => ?_⟩
    · by_cases e9 : f = 209
      · subst e9; cases hq; exact hb 209 c4 _ rfl hc4 x
      rw [va_up_ne _ _ e9]
      by_cases e8 : f = 208
      · subst e8; cases hq; exact hb 208 c3 _ rfl hc3 x
      rw [va_up_ne _ _ e8]
      by_cases e7 : f = 207
      · subst e7; cases hq; exact hb 207 c2 _ rfl hc2 x
      rw [va_up_ne _ _ e7]
      by_cases e6 : f = 206
      · subst e6; cases hq; exact hb 206 c1 _ rfl hc1 x
      rw [va_up_ne _ _ e6]
      by_cases e5 : f = 205
      · subst e5; cases hq; exact hb 205 c0 _ rfl hc0 x
      rw [va_up_ne _ _ e5]
      exact hX.2.2.1 f q hq x
    · by_cases e1 : f = 42
      · subst e1
        cases hg
        have hx2 : x < F 43 + 1 := hx
        rw [va_up_self]
        by_cases z : x = F 43
        · rw [z, fup_s]; exact hG
        · rw [fup_n _ _ z]; exact hX.2.2.2 42 59 rfl x h0 (by show x < F 43; omega)
      · have en : xgn (va_up F 43 (F 43 + 1)) f = xgn F f := by
          unfold xgn
          split <;> first | rfl | exact absurd rfl e1
        have eg : ¬ g0 = 59 := fun z => by
          subst z
          unfold xgf at hg
          split at hg <;> first | (cases hg; done) | exact absurd rfl e1
        rw [va_up_ne _ _ eg]
        exact hX.2.2.2 f g0 hg x h0 (by rw [← en]; exact hx)) h2)
  rw [x_adf (by omega) (Int.le_refl 0)] at key
  exact key
end Jclaim
