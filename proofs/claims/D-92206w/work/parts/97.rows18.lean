set_option maxRecDepth 100000
/-! ROWS: the four sheets -/
noncomputable def xQ (E : us_E) (cn : Int) (B : Nat → Int → Nat) (F : Nat → Int) (M : Nat → Int → Int) (G : Nat → Int → Option Nat) : Nat → Int → Option va_E := fun f => if f = 48 then (fun i => if i = 0 then some (.inl (E.2 10, 4, .inr (.inr (.inr (.inr (fun j : Nat => (fun z : Int => if 0 ≤ z ∧ z < cn then some (B 60 z) else none) j)))))) else none) else if f = 60 then (fun i => if 0 ≤ i ∧ i < cn then some (.inr (5, [.null, .int (zi 0)])) else none) else xP 46 E.2 B F M G f
theorem hd_X1_init : yX1_init.cls = RX1 ∧ yX1_init.cls ≠ "java/lang/invoke/MethodHandle" ∧ yX1_init.cls ≠ "java/lang/invoke/VarHandle" ∧ (parseMethodDescriptor yX1_init.desc).map (fun d => d.parameters.length) = some 0 := by decide +kernel
abbrev rm_X1_init : Room := { frames := 1, cells := 0, slots := 0, locals := 20 }
set_option maxHeartbeats 8000000 in
theorem met_X1_init (l : Launch) (E : us_E) (A : Nat → Prop) (H0 : Heap) (o : Nat) : cMet l yX1_init cX1_init 1 none rm_X1_init A E [.ref o] (fun H => H = H0) (qv A (fun H => (H = H0))) := by
  refine cMet.of (by decide) (Nat.le_of_ble_eq_true rfl) (fun p e s m args below meth c C hnm hX hS ls hl => ?_)
  have C : Cx p s m args meth c A RX1 cX1_init 1 none E := C
  have hX : s.heap = H0 := hX
  have hl : lv_has ls 1 [(0, .ref o)] := hl
  generalize hH : s.heap = H at hX
  have hS : va_S A s.heap H [] := by rw [← hH]; exact hS
  generalize hlocs : ([] : List Loc) = locs at hS ⊢
  obtain ⟨QQ, hQQ⟩ : ∃ zQQ, MQ below (qv A (fun H => (H = H0))) args s (rm_X1_init).cells (rm_X1_init).slots A = zQQ := ⟨_, rfl⟩
  rw [hQQ]
  refine lv_aload_n C.x C.b dX1_init_0 rfl (lv_at hl 0 rfl) ?_
  refine r_obj C hl.1 q727 (Nat.le_of_ble_eq_true rfl) (by decide) dX1_init_1 ?_
  rw [← hQQ]
  exact r_vret C hS (Nat.le_of_ble_eq_true rfl) (Nat.le_of_ble_eq_true rfl) dX1_init_4 hX
section ROWS18
variable {p : Program} {l : Launch} {e : Env} {R : Room} {s : State} {m : MethodId} {args : Array Value} {below : List Frame} {meth : Method} {c : Code} {H : Heap} {locs : List Loc} {cells slots : Nat} {Q : State → Prop}
variable {A : Nat → Prop} {own : String} {cc : ByteArray} {nL : Nat} {rt : Option FieldType} {E : us_E} {pc : Nat} {ls : Array Slot} {rest : List Value} {B : Nat → Int → Nat} {F : Nat → Int} {M : Nat → Int → Int} {G : Nat → Int → Option Nat} {T : x_T}
theorem g_aastO (C : Cx p s m args meth c A own cc nL rt E) {ad : Nat → Nat} {ce : Nat → Option va_E} (hX : rw_H E.1 A ad ce H) (hS : va_S A s.heap H locs) (ka ko t : Nat) {n ci : Nat} {f : Int → Option Nat} {vs : List Value} (ha : ce ka = some (.inl (E.2 t, n, .inr (.inr (.inr (.inr (fun j : Nat => f j))))))) (hko : ce ko = some (.inr (ci, vs))) {r : vw_C} (hc : us_cl[ci]? = some r) (ht : (us_T E.2)[t]? = some (E.2 t, .object r.1)) {i : Int} (hi : 0 ≤ i ∧ i < n) (hn : n < 2147483648) (hdg : decode cc pc = .ok (.aastore, 1)) (kk : ∀ (H1 : Heap) (locs1 : List Loc), rw_H E.1 A ad (va_up ce ka (some (.inl (E.2 t, n, .inr (.inr (.inr (.inr (fun j : Nat => fup f i (some (ad ko)) j)))))))) H1 → va_S A s.heap H1 locs1 → W p l e R s m args below meth c H1 locs1 cells slots Q (F0 m (pc + 1) ls rest)) : W p l e R s m args below meth c H locs cells slots Q (F0 m pc ls (.ref (ad ko) :: .int (zi i) :: .ref (ad ka) :: rest)) := by
  have c0 : H[ad ka]? = some (vp_cell (E.2 t) (n, .inr (.inr (.inr (.inr (fun j : Nat => f j)))))) := hX.1 _ _ ha
  have hAa : A (ad ka) := hX.2.2 _ (rw_some ha)
  obtain ⟨r', hr', cellV, g1, g2, g3, -⟩ := hX.1 _ _ hko
  have hcls := (C.k.1.1 ci r hc).2
  obtain ⟨kA, comp, k1, k2, k3, -⟩ := (C.k.1.2 t _ ht).2
  have hcomp : comp = E.1.1 ci := Option.some.inj (k3.symm.trans hcls.1)
  subst hcomp
  obtain ⟨kC, hkC, -⟩ := hcls.2
  have hin : vp_in (zi i) n := zi_in hi hn
  have hneg : ¬ zi i < 0 := fun q => hin (Or.inl q)
  have hlt : (zi i).toNatClampNeg < n := Nat.not_le.mp fun q => hin (Or.inr q)
  have hcl : (zi i).toNatClampNeg = i.toNat := zi_cl (by omega)
  have hsz : (zi i).toNatClampNeg < (vp_cell (E.2 t) (n, .inr (.inr (.inr (.inr (fun j : Nat => f j)))))).slots.size := by rw [vp_cell_q, arrV_size]; exact hlt
  refine W.aast C.x C.b (a := ad ka) (v := ad ko) c0 (fun q h => by cases h) (fun h => by cases h) k1 k2 rfl hkC ⟨hneg, hsz⟩ g1 (fun q h => by rw [g3] at h; cases h) (by rw [g2]; exact hkC) (by rw [g2]; exact va_assign hcls) rfl rfl hdg fun H1 e z oq => ?_
  refine kk H1 _ (rw_set hX ha ?_ oq) (hS.put z oq hAa)
  show H1[ad ka]? = some (vp_cell (E.2 t) (n, .inr (.inr (.inr (.inr (fun x : Nat => fup f i (some (ad ko)) x))))))
  rw [e]
  rw [vp_cell_q, vp_cell_q, arrV_store]
  congr 2
  funext q
  rw [hcl]
  by_cases hq : q = i.toNat
  · subst hq
    have h5 : ((i.toNat : Nat) : Int) = i := Int.toNat_of_nonneg (by omega)
    simp [updV, h5, fup_s, va_rf]
  · have h5 : ¬ ((q : Nat) : Int) = i := by omega
    simp only [updV, if_neg hq, fup_n _ _ h5]
theorem xQ_st {cn : Int} {a : Nat} (h0 : 0 ≤ cn ∧ cn < 4) (hz : X0Z F M) : va_up (va_up (xQ E cn B F M G) 60 (fup (xQ E cn B F M G 60) cn (some (.inr (5, [.null, .int (zi 0)]))))) 48 (fup ((va_up (xQ E cn B F M G) 60 (fup (xQ E cn B F M G 60) cn (some (.inr (5, [.null, .int (zi 0)]))))) 48) 0 (some (.inl (E.2 10, 4, .inr (.inr (.inr (.inr (fun j : Nat => fup (fun z : Int => if 0 ≤ z ∧ z < cn then some (B 60 z) else none) cn (some a) j)))))))) = xQ E (cn + 1) (va_up B 60 (fup (B 60) cn a)) F M G := by
  have b60 : va_up B 60 (fup (B 60) cn a) 60 = fup (B 60) cn a := va_up_self _ _ _
  funext f i
  by_cases e8 : f = 48
  · subst e8
    rw [va_up_self, va_up_ne _ _ (by decide)]
    by_cases ei : i = 0
    · subst ei
      rw [fup_s]
      show _ = (some (.inl (E.2 10, 4, .inr (.inr (.inr (.inr (fun j : Nat => (fun z : Int => if 0 ≤ z ∧ z < cn + 1 then some (va_up B 60 (fup (B 60) cn a) 60 z) else none) j)))))) : Option va_E)
      rw [b60]
      have ez : (fun j : Nat => fup (fun z : Int => if 0 ≤ z ∧ z < cn then some (B 60 z) else none) cn (some a) (j : Int)) = (fun j : Nat => (fun z : Int => if 0 ≤ z ∧ z < cn + 1 then some (fup (B 60) cn a z) else none) (j : Int)) := by
        funext j
        by_cases q : (j : Int) = cn
        · rw [q, fup_s]
          show _ = if 0 ≤ cn ∧ cn < cn + 1 then some (fup (B 60) cn a cn) else none
          rw [if_pos ⟨h0.1, by omega⟩, fup_s]
        · rw [fup_n _ _ q]
          show (if 0 ≤ (j : Int) ∧ (j : Int) < cn then some (B 60 j) else none) = (if 0 ≤ (j : Int) ∧ (j : Int) < cn + 1 then some (fup (B 60) cn a j) else none)
          rw [fup_n _ _ q]
          by_cases z : 0 ≤ (j : Int) ∧ (j : Int) < cn
          · rw [if_pos z, if_pos ⟨z.1, by omega⟩]
          · rw [if_neg z, if_neg (by omega)]
      rw [ez]
    · rw [fup_n _ _ ei]
      show (if i = 0 then _ else none) = (if i = 0 then _ else none)
      rw [if_neg ei, if_neg ei]
  rw [va_up_ne _ _ e8]
  by_cases e6 : f = 60
  · subst e6
    rw [va_up_self]
    show fup (fun i : Int => (if 0 ≤ i ∧ i < cn then some (.inr (5, [.null, .int (zi 0)])) else none : Option va_E)) cn _ i = (if 0 ≤ i ∧ i < cn + 1 then some (.inr (5, [.null, .int (zi 0)])) else none : Option va_E)
    by_cases ei : i = cn
    · subst ei
      rw [fup_s, if_pos ⟨h0.1, by omega⟩]
    · rw [fup_n _ _ ei]
      by_cases z : 0 ≤ i ∧ i < cn
      · rw [if_pos z, if_pos ⟨z.1, by omega⟩]
      · rw [if_neg z, if_neg (by omega)]
  rw [va_up_ne _ _ e6]
  unfold xQ
  rw [if_neg e8, if_neg e8, if_neg e6, if_neg e6]
  unfold xP
  by_cases e9 : f = 49
  · rw [if_pos e9, if_pos e9]
    have e2 : xFp 46 B F = xFp 46 (va_up B 60 (fup (B 60) cn a)) F := by
      unfold xFp
      apply List.map_congr_left
      intro k hk
      have := List.mem_range.mp hk
      rw [va_up_ne B _ (show ¬ k = 60 by omega)]
    rw [e2]
  · rw [if_neg e9, if_neg e9, xK_B (B' := va_up B 60 (fup (B 60) cn a)) hz e9]
abbrev XQ (E : us_E) (A : Nat → Prop) (B : Nat → Int → Nat) (F : Nat → Int) (M : Nat → Int → Int) (G : Nat → Int → Option Nat) (T : x_T) (cn : Int) (H : Heap) : Prop := x_H E.1 A B (xQ E cn B F M G) T H
theorem xs_step (C : Cx p s m args meth c A own cc nL rt E) {cn : Int} (hX : XQ E A B F M G T cn H) (hS : va_S A s.heap H locs) (h0 : 0 ≤ cn ∧ cn < 4) (hz : X0Z F M) {o aA : Nat} (hls : ls.size = nL) (ho : B 49 0 = o) (ha : B 48 0 = aA) {ix : Nat} (hcl : Cond.classLink own ix RX1 ∈ lw_all) (hinst : Cond.instantiable RX1 2 ∈ lw_all) (hini : Cond.initialized RX1 ∈ lw_all) {idx : Nat} {host : String} (hlk : Cond.methodLinkNest own idx yX1_init host ∈ us_N) (hcode : Cond.code yX1_init cX1_init 1 none ∈ lw_all) (hinsm : Cond.instanceMethod yX1_init ∈ lw_all) (hR : rm_X1_init.frames + 1 ≤ R.frames ∧ 8 + (1 + 11) + rm_X1_init.locals ≤ R.locals) {cells' slots' : Nat} (hc' : cells + 1 = cells') (hs' : slots + 2 = slots') (hcells : cells' ≤ R.cells) (hslots : slots' ≤ R.slots)
    (d0 : decode cc pc = .ok (.new ix, 3)) (d3 : decode cc (pc + 3) = .ok (.dup, 1)) (d4 : decode cc (pc + 4) = .ok (.invokespecial idx, 3)) (d7 : decode cc (pc + 7) = .ok (.aastore, 1)) (hrest : (rest.map fun v => v.category).sum ≤ 2)
    (kk : ∀ (B' : Nat → Int → Nat) (H : Heap) (locs : List Loc), B' 49 0 = o → B' 48 0 = aA → (∀ f, ¬ f = 60 → B' f = B f) → XQ E A B' F M G T (cn + 1) H → va_S A s.heap H locs → W p l e R s m args below meth c H locs cells' slots' Q (F0 m (pc + 8) ls rest)) : W p l e R s m args below meth c H locs cells slots Q (F0 m pc ls (.int (zi cn) :: .ref aA :: rest)) := by
  subst hc'
  subst hs'
  refine g_new C hX hS (x_r 60 cn) (ci := 5) (Cn := RX1) (T1 := TX1) (N := 2) rfl in_X1 tyX1 tyX1_ok hcl hinst hini (fs := [.null, .int (zi 0)]) (fun j hj => by rcases (show j = 0 ∨ j = 1 by omega) with rfl | rfl <;> rfl) hcells hslots d0 (fun H1 h1 h2 => ?_)
  refine lv_dup C.x C.b d3 rfl ?_
  refine r_callNIv (As := []) (rest := .ref H.size :: .int (zi cn) :: .ref aA :: rest) (cells' := cells + 1) (slots' := slots + 2) C (met_X1_init l E A H1 H.size) hcode hini hlk hinsm rfl hd_X1_init.2 rfl hR rfl h2 hls rfl (by simp only [List.map_cons, List.sum_cons]; show 1 + (1 + (1 + _)) ≤ 8; omega) d4 rfl rfl ⟨hcells, hslots⟩ (fun H2 locs2 hp hS2 => ?_)
  subst hp
  rw [x_adu (by omega) h0.1, x_ceu (by omega) h0.1] at h1
  have e1 : x_ad (va_up B 60 (fup (B 60) cn H.size)) T (x_r 60 cn) = H.size := by rw [x_adf (by omega) h0.1, va_up_self, fup_s]
  have e2 : x_ad (va_up B 60 (fup (B 60) cn H.size)) T (x_r 48 0) = aA := by rw [x_adf (by omega) (Int.le_refl 0), va_up_ne _ _ (by decide)]; exact ha
  have key : W p l e R s m args below meth c H2 locs2 (cells + 1) (slots + 2) Q (F0 m (pc + 7) ls (.ref (x_ad (va_up B 60 (fup (B 60) cn H.size)) T (x_r 60 cn)) :: .int (zi cn) :: .ref (x_ad (va_up B 60 (fup (B 60) cn H.size)) T (x_r 48 0)) :: rest)) := g_aastO C h1 hS2 (x_r 48 0) (x_r 60 cn) 10 (n := 4) (ci := 5) (f := fun z : Int => if 0 ≤ z ∧ z < cn then some (B 60 z) else none) (vs := [.null, .int (zi 0)]) (by rw [x_cef (by omega) (Int.le_refl 0), va_up_ne _ _ (by decide)]; rfl) (by rw [x_cef (by omega) h0.1, va_up_self, fup_s]) (r := (RX1, TX1, 2)) rfl rfl (show 0 ≤ cn ∧ cn < (4 : Nat) by omega) (by decide) d7 (fun H3 locs3 h3 hS3 => kk (va_up B 60 (fup (B 60) cn H.size)) H3 locs3 (by rw [va_up_ne _ _ (by decide)]; exact ho) (by rw [va_up_ne _ _ (by decide)]; exact ha) (fun f hf => va_up_ne _ _ hf) (by
    rw [e1, x_ceu (by omega) (Int.le_refl 0), xQ_st h0 hz] at h3
    exact h3) hS3)
  rw [e1, e2] at key
  exact key
theorem xQ_0 (hz : X0Z F M) {a : Nat} : va_up (xP 46 E.2 B F M G) 48 (fup (xP 46 E.2 B F M G 48) 0 (some (.inl (E.2 10, 4, .inr (.inr (.inr (.inr (fun _ => none)))))))) = xQ E 0 (va_up B 48 (fup (B 48) 0 a)) F M G := by
  funext f i
  by_cases e8 : f = 48
  · subst e8
    rw [va_up_self]
    by_cases ei : i = 0
    · subst ei
      rw [fup_s]
      show _ = (some (.inl (E.2 10, 4, .inr (.inr (.inr (.inr (fun j : Nat => (fun z : Int => if 0 ≤ z ∧ z < 0 then some (va_up B 48 (fup (B 48) 0 a) 60 z) else none) j)))))) : Option va_E)
      have ez : (fun j : Nat => (fun z : Int => if 0 ≤ z ∧ z < 0 then some (va_up B 48 (fup (B 48) 0 a) 60 z) else none) (j : Int)) = (fun _ => none) := funext fun j => if_neg (by omega)
      rw [ez]
    · rw [fup_n _ _ ei, xP_no (by decide) (by decide)]
      show none = (if i = 0 then _ else none)
      rw [if_neg ei]
  rw [va_up_ne _ _ e8]
  by_cases e6 : f = 60
  · subst e6
    rw [xP_no (by decide) (by decide)]
    show none = (if 0 ≤ i ∧ i < 0 then _ else none)
    rw [if_neg (by omega)]
  unfold xQ
  rw [if_neg e8, if_neg e6]
  unfold xP
  by_cases e9 : f = 49
  · rw [if_pos e9, if_pos e9]
    have e2 : xFp 46 B F = xFp 46 (va_up B 48 (fup (B 48) 0 a)) F := by
      unfold xFp
      apply List.map_congr_left
      intro k hk
      have := List.mem_range.mp hk
      by_cases q : xin k = true
      · rw [if_pos q, if_pos q]
      · rw [if_neg q, if_neg q]
        by_cases z : k < 46
        · rw [if_pos z, if_pos z, va_up_ne B _ (show ¬ k = 48 by omega)]
        · rw [if_neg z, if_neg z]
    rw [e2]
  · rw [if_neg e9, if_neg e9, xK_B (B' := va_up B 48 (fup (B 48) 0 a)) hz e9]
theorem xQ_new (hz : X0Z F M) (hM : ∀ i, M 204 i = 0) {f : Nat} (hf : ownX f = 48) : xQ E 4 B F M G f = xK E.2 B F M (va_up G 48 (fun i => if 0 ≤ i ∧ i < 4 then some (B 60 i) else none)) f := by
  have hf2 : f = 48 ∨ f = 60 := by
    unfold ownX at hf
    split at hf
    · omega
    split at hf
    · omega
    split at hf
    · omega
    split at hf
    · omega
    split at hf
    · omega
    omega
  funext i
  rcases hf2 with rfl | rfl
  · show (if i = 0 then _ else none) = _
    by_cases ei : i = 0
    · subst ei
      rw [if_pos rfl, xK_r (f := 48) (t := 10) (n := 4) rfl rfl, va_up_self]
    · rw [if_neg ei, xK_rno (f := 48) (t := 10) (n := 4) rfl rfl ei]
  · show (if 0 ≤ i ∧ i < 4 then _ else none) = _
    rw [xKe_60, hz.2.2.2.2 i, if_pos rfl, hM i]
theorem xQ_old {f : Nat} (hf : ¬ ownX f = 48) : xQ E 4 B F M G f = xP 46 E.2 B F M G f := by
  unfold xQ
  rw [if_neg (fun q => hf (by subst q; rfl)), if_neg (fun q => hf (by subst q; rfl))]
end ROWS18
