set_option maxRecDepth 100000
/-! A ROW: ints copied from one array of the world to another -/
theorem xK_cp {tc : Nat → ClassId} {B : Nat → Int → Nat} {F : Nat → Int} {M : Nat → Int → Int} {G : Nat → Int → Option Nat} {f t n : Nat} {g : Int → Int} (h : xsp f = some (t, n, 1)) (hf : f < 100) :
    va_up (xK tc B F M G) f (fup (xK tc B F M G f) 0 (some (.inl (tc t, n, .inl (fun x : Nat => zi (xrow n g 0 x)))))) = xK tc B F (va_up M f g) G := by
  funext f' i'
  by_cases e : f' = f
  · subst e
    rw [va_up_self]
    by_cases e2 : i' = 0
    · subst e2
      rw [fup_s, xK_i h (by omega), va_up_self]
    · rw [fup_n _ _ e2]
      unfold xK
      rw [h]
      show (if 0 ≤ i' ∧ i' < (1 : Int) then _ else none) = (if 0 ≤ i' ∧ i' < (1 : Int) then _ else none)
      rw [if_neg (by omega), if_neg (by omega)]
  · rw [va_up_ne _ _ e]
    unfold xK
    rw [va_up_ne M _ e, xpr_M (F' := F) (vup200 hf) ⟨rfl, rfl, rfl⟩, xob_M (vup200 hf)]
def acp (a b : Int → Int) (n : Int) : Int → Int := fun j => if 0 ≤ j ∧ j < n then a j else b j
theorem acp_in {a b : Int → Int} {n j : Int} (h : 0 ≤ j ∧ j < n) : acp a b n j = a j := if_pos h
section ROWS5
variable {p : Program} {l : Launch} {e : Env} {R : Room} {s : State} {m : MethodId} {args : Array Value} {below : List Frame} {meth : Method} {c : Code} {H : Heap} {locs : List Loc} {cells slots : Nat} {Q : State → Prop}
variable {A : Nat → Prop} {own : String} {cc : ByteArray} {nL : Nat} {rt : Option FieldType} {E : us_E} {pc : Nat} {ls : Array Slot} {rest : List Value} {B : Nat → Int → Nat} {F : Nat → Int} {M : Nat → Int → Int} {G : Nat → Int → Option Nat} {T : x_T}
theorem g_acopy (C : Cx p s m args meth c A own cc nL rt E) {ad : Nat → Nat} {ce : Nat → Option va_E} (hX : rw_H E.1 A ad ce H) (hS : va_S A s.heap H locs) (hz : ls.size = nL) (k0 k1 t : Nat) {cA : ClassId} {n0 n1 n : Nat} {f g : Nat → Int32} (h0 : ce k0 = some (.inl (cA, n0, .inl f))) (h1 : ce k1 = some (.inl (cA, n1, .inl g))) (ht : (us_T E.2)[t]? = some (cA, .int)) (hn : n ≤ n0 ∧ n ≤ n1) (hn2 : n < 2147483648) {index : Nat} (hlink : Cond.methodLink own index arraycopyName ∈ lw_all) (hnat : Cond.native arraycopyName ∈ lw_all) (hstat : Cond.static arraycopyName ∈ lw_all) (hini : Cond.initialized "java/lang/System" ∈ lw_all) (hfr : 1 ≤ R.frames) (hlo : (rest.map fun v => v.category).sum + (nativeFrameWords "java/lang/System" "arraycopy" 5 + 11) ≤ R.locals) (hdg : decode cc pc = .ok (.invokestatic index, 3))
    (kk : ∀ (H1 : Heap) (locs1 : List Loc), rw_H E.1 A ad (va_up ce k1 (some (.inl (cA, n1, .inl (va_cpy f g 0 0 n))))) H1 → va_S A s.heap H1 locs1 → W p l e R s m args below meth c H1 locs1 cells slots Q (F0 m (pc + 3) ls rest)) : W p l e R s m args below meth c H locs cells slots Q (F0 m pc ls (.int (zi n) :: .int (zi 0) :: .ref (ad k1) :: .int (zi 0) :: .ref (ad k0) :: rest)) := by
  have z0 : (zi 0).toNatClampNeg = 0 := zi_cl (by omega)
  have zn : (zi (n : Int)).toNatClampNeg = n := by rw [zi_cl (by omega)]; omega
  have z0l : ¬ zi 0 < 0 := by decide
  have znl : ¬ zi (n : Int) < 0 := fun q => by
    have := (zi_lt (a := (n : Int)) (b := 0) (by omega) (by omega)).1 q
    omega
  have i0 : (zi 0).toInt = 0 := rfl
  have inn : (zi (n : Int)).toInt = n := zi_t (by omega)
  intro T hT X
  have hc0 : H[ad k0]? = some (vp_cell cA (n0, .inl f)) := hX.1 k0 _ h0
  have hc1 : H[ad k1]? = some (vp_cell cA (n1, .inl g)) := hX.1 k1 _ h1
  obtain ⟨-, q0, hk0, cm0, hkk0⟩ := (C.k.1.2 t _ ht).1 n0 (fun j => .int (f j))
  obtain ⟨-, q1, hk1, cm1, hkk1⟩ := (C.k.1.2 t _ ht).1 n1 (fun j => .int (g j))
  obtain ⟨vm', X', step⟩ := X.arraycopy C.x C.o (C.t _ hlink) (C.t _ hnat) (C.t _ hstat) (C.t _ hini) (src := ad k0) (dst := ad k1) (cs := vp_cell cA (n0, .inl f)) (cd := vp_cell cA (n1, .inl g)) (srcPos := zi 0) (destPos := zi 0) (n := zi n) (by rw [hT]; exact hc0) (by rw [hT]; exact hc1)
    (fun _ h => by cases h) (fun _ h => by cases h) (fun h => by cases h) (fun h => by cases h) hk0 hk1 hkk0 hkk1 (by simp [show refKind FieldType.int = false from rfl]) z0l z0l znl
    (by rw [i0, inn]; show ¬ _ > ((arrV cA n0 (fun j => .int (f j))).slots.size : Int); rw [arrV_size]; omega)
    (by rw [i0, inn]; show ¬ _ > ((arrV cA n1 (fun j => .int (g j))).slots.size : Int); rw [arrV_size]; omega)
    (fun vm₁ _ i hi => by
      have e : (vp_cell cA (n0, .inl f)).slots.getD ((zi 0).toNatClampNeg + i) .null = .int (f ((zi 0).toNatClampNeg + i)) := by
        show (arrV cA n0 (fun j => .int (f j))).slots.getD _ _ = _
        rw [zn] at hi
        rw [Array.getD_eq_getD_getElem?, arrV_read _ _ (by omega)]
        rfl
      exact ⟨by rw [e]; rfl, by rw [e]; exact trivial⟩)
    (g := F0 m pc ls (.int (zi n) :: .int (zi 0) :: .ref (ad k1) :: .int (zi 0) :: .ref (ad k0) :: rest)) rfl (by show ls.size = _; rw [C.l, hz]) (rest := rest) rfl (by rw [C.b]; exact hdg) hfr (by show 2 * 0 + _ + _ ≤ _; omega)
  have e1 : copied (vp_cell cA (n0, .inl f)) (vp_cell cA (n1, .inl g)) (zi 0) (zi 0) (zi n) = vp_cell cA (n1, .inl (va_cpy f g 0 0 n)) := by
    have w := va_copied (fun z => .int z) cA cA (n0 := n0) (n1 := n1) (sp := 0) (dp := 0) (n := n) f g (by omega)
    rw [← z0] at w
    conv at w => lhs; rw [z0]
    unfold copied
    rw [zn, z0]
    rw [z0] at w
    exact w
  rw [e1] at X' step
  have hl : ad k1 < H.size := (Array.getElem?_eq_some_iff.mp hc1).1
  have hheap : ((T.setVm vm').setCell (ad k1) (vp_cell cA (n1, .inl (va_cpy f g 0 0 n)))).heap = H.setIfInBounds (ad k1) (vp_cell cA (n1, .inl (va_cpy f g 0 0 n))) := by rw [← hT]; rfl
  have oq : ∀ q : Nat, q ≠ ad k1 → (H.setIfInBounds (ad k1) (vp_cell cA (n1, .inl (va_cpy f g 0 0 n))))[q]? = H[q]? := fun q hq => by simp [Array.getElem?_setIfInBounds, Ne.symm hq]
  obtain ⟨t, a1, b1⟩ := kk _ _ (rw_set hX h1 (show (H.setIfInBounds (ad k1) _)[ad k1]? = some _ by simp [Array.getElem?_setIfInBounds, hl]) oq) ⟨by simp; exact hS.1, fun q g1 g2 => by
      rw [oq q (fun e => g2 (by rw [e]; exact hX.2.2 k1 (rw_some h1)))]
      exact hS.2.1 q g1 g2, fun q hq => by
      rcases List.mem_append.mp hq with h | h
      · exact hS.2.2 q h
      · obtain ⟨z, -, hz⟩ := List.mem_map.mp h
        rw [← hz]
        exact hX.2.2 k1 (rw_some h1)⟩ _ hheap X'
  exact ⟨t, step t a1, b1⟩
theorem x_acopy (C : Cx p s m args meth c A own cc nL rt E) (hX : XH E A B F M G T H) (hS : va_S A s.heap H locs) (hz : ls.size = nL) (f0 f1 : Nat) {n : Nat} (h0 : xsp f0 = some (0, n, 1)) (h1 : xsp f1 = some (0, n, 1)) (hf0 : f0 < 100) (hf1 : f1 < 100) (hn2 : n < 2147483648) (hb : ∀ b, xmb f1 = some b → ∀ j : Int, b.1 ≤ M f0 j ∧ M f0 j ≤ b.2) {index : Nat} (hlink : Cond.methodLink own index arraycopyName ∈ lw_all) (hnat : Cond.native arraycopyName ∈ lw_all) (hstat : Cond.static arraycopyName ∈ lw_all) (hini : Cond.initialized "java/lang/System" ∈ lw_all) (hfr : 1 ≤ R.frames) (hlo : (rest.map fun v => v.category).sum + (nativeFrameWords "java/lang/System" "arraycopy" 5 + 11) ≤ R.locals) (hdg : decode cc pc = .ok (.invokestatic index, 3)) {M' : Nat → Int → Int} (hM : va_up M f1 (acp (M f0) (M f1) n) = M')
    (kk : ∀ (H1 : Heap) (locs1 : List Loc), XH E A B F M' G T H1 → va_S A s.heap H1 locs1 → W p l e R s m args below meth c H1 locs1 cells slots Q (F0 m (pc + 3) ls rest)) : W p l e R s m args below meth c H locs cells slots Q (F0 m pc ls (.int (zi n) :: .int (zi 0) :: .ref (B f1 0) :: .int (zi 0) :: .ref (B f0 0) :: rest)) := by
  have key := g_acopy C hX.1 hS hz (x_r f0 0) (x_r f1 0) 0 (n0 := n) (n1 := n) (n := n) (f := fun j : Nat => zi (xrow n (M f0) 0 j)) (g := fun j : Nat => zi (xrow n (M f1) 0 j)) (rest := rest) (by rw [x_cef hf0 (Int.le_refl 0)]; exact xK_i h0 (by omega)) (by rw [x_cef hf1 (Int.le_refl 0)]; exact xK_i h1 (by omega)) rfl ⟨Nat.le_refl _, Nat.le_refl _⟩ hn2 hlink hnat hstat hini hfr hlo hdg (fun H1 locs1 k1 k2 => kk H1 locs1 (by
    subst hM
    have ev : va_cpy (fun j : Nat => zi (xrow n (M f0) 0 j)) (fun j : Nat => zi (xrow n (M f1) 0 j)) 0 0 n = (fun x : Nat => zi (xrow n (acp (M f0) (M f1) n) 0 x)) := by
      funext k
      by_cases q : k < n
      · have c1 : 0 ≤ (k : Int) ∧ (k : Int) < n := by omega
        have c2 : 0 ≤ (n : Int) * 0 + (k : Int) ∧ (n : Int) * 0 + (k : Int) < n := by omega
        have l1 : va_cpy (fun j : Nat => zi (xrow n (M f0) 0 j)) (fun j : Nat => zi (xrow n (M f1) 0 j)) 0 0 n k = zi (xrow n (M f0) 0 ((0 + (k - 0) : Nat) : Int)) := if_pos ⟨Nat.zero_le _, by omega⟩
        rw [l1, show 0 + (k - 0) = k by omega, xrow_in c1, xrow_in c1, acp_in c2]
      · have c1 : ¬ (0 ≤ (k : Int) ∧ (k : Int) < n) := by omega
        have l1 : va_cpy (fun j : Nat => zi (xrow n (M f0) 0 j)) (fun j : Nat => zi (xrow n (M f1) 0 j)) 0 0 n k = zi (xrow n (M f1) 0 (k : Int)) := if_neg (by omega)
        have l2 : xrow n (M f1) 0 (k : Int) = 0 := if_neg c1
        have l3 : xrow n (acp (M f0) (M f1) n) 0 (k : Int) = 0 := if_neg c1
        rw [l1, l2, l3]
    rw [ev, x_ceu hf1 (Int.le_refl 0), xK_cp h1 hf1] at k1
    refine ⟨k1, hX.2.1, fun k q hq j => ?_, hX.2.2.2⟩
    by_cases e : k = f1
    · subst e
      rw [va_up_self]
      unfold acp
      by_cases z : 0 ≤ j ∧ j < (n : Int)
      · rw [if_pos z]; exact hb q hq j
      · rw [if_neg z]; exact hX.2.2.1 k q hq j
    · rw [va_up_ne M _ e]; exact hX.2.2.1 k q hq j) k2)
  rw [x_adf hf0 (Int.le_refl 0), x_adf hf1 (Int.le_refl 0)] at key
  exact key
end ROWS5
