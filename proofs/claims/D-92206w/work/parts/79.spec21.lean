set_option maxRecDepth 100000
/-! THE PLAIN LAW for the component: tokens as its reader has them -/
def t8 (b : Int → Int) : Int → Int := fun j => b j % 256
noncomputable def lkx (b : Int → Int) (n k : Int) : Int := sel (k < n) (b k % 256) (-4)
theorem t8_r (b : Int → Int) (j : Int) : 0 ≤ t8 b j ∧ t8 b j ≤ 255 := by unfold t8; omega
theorem lkx_in {b : Int → Int} {n k : Int} (h : k < n) : lkx b n k = t8 b k ∧ lk (t8 b) n k = t8 b k := by
  unfold lkx lk
  rw [sel_t h, sel_t h]
  exact ⟨rfl, rfl⟩
theorem lkx_out {b : Int → Int} {n k : Int} (h : ¬ k < n) : lkx b n k = -4 ∧ lk (t8 b) n k = -1 := by
  unfold lkx lk
  rw [sel_f h, sel_f h]
  exact ⟨rfl, rfl⟩
theorem lkx_c (b : Int → Int) (n k : Int) : (k < n ∧ lkx b n k = lk (t8 b) n k ∧ 0 ≤ lk (t8 b) n k ∧ lk (t8 b) n k ≤ 255) ∨ (n ≤ k ∧ lkx b n k = -4 ∧ lk (t8 b) n k = -1) := by
  rcases Int.lt_or_le k n with h | h
  · have a := lkx_in (b := b) h
    have r := t8_r b k
    exact Or.inl ⟨h, by omega, by omega, by omega⟩
  · have a := lkx_out (b := b) (show ¬ k < n by omega)
    exact Or.inr ⟨h, a.1, a.2⟩
def spW (b : Int → Int) (n f p : Int) (i : Nat) : Prop := lenZ i = p - f ∧ ∀ j : Int, 0 ≤ j → j < lenZ i → byZ i j = lkx b n (f + j)
theorem spW_e {b : Int → Int} {n f p : Int} {i : Nat} {L : Nat} {bs : List Int} (hL : lenZ i = L) (hb : ∀ j : Nat, j < L → byZ i j = bs.getD j 0 ∧ 0 ≤ bs.getD j 0) : spW b n f p i ↔ (p - f = L ∧ ∀ j : Nat, j < L → lk (t8 b) n (f + j) = bs.getD j 0) := by
  unfold spW
  rw [hL]
  constructor
  · intro h
    refine ⟨h.1.symm, fun j hj => ?_⟩
    have z := h.2 j (Int.natCast_nonneg j) (by omega)
    have y := hb j hj
    rcases lkx_c b n (f + j) with q | q
    · rw [← q.2.1, ← z, y.1]
    · rw [q.2.1] at z; omega
  · intro h
    refine ⟨h.1.symm, fun j h0 hj => ?_⟩
    obtain ⟨j, rfl⟩ := Int.eq_ofNat_of_zero_le h0
    have z := h.2 j (by omega)
    have y := hb j (by omega)
    rcases lkx_c b n (f + j) with q | q
    · rw [q.2.1, z, y.1]
    · rw [q.2.2] at z; omega
theorem spW_0 {b : Int → Int} {n f p : Int} : spW b n f p 0 ↔ isW (t8 b) n f p 4 115 105 103 110 0 := by
  rw [spW_e (L := 4) (bs := [115, 105, 103, 110]) rfl (by decide +kernel)]
  unfold isW
  constructor
  · intro h
    have a := h.2 0 (by omega); have b := h.2 1 (by omega); have c := h.2 2 (by omega); have d := h.2 3 (by omega)
    rw [show f + ((0 : Nat) : Int) = f by omega] at a
    exact ⟨⟨⟨h.1, a, b⟩, Or.inr ⟨c, d⟩⟩, Or.inl (by omega)⟩
  · intro h
    refine ⟨h.1.1.1, fun j hj => ?_⟩
    have c := h.1.2.resolve_left (by omega)
    rcases (show j = 0 ∨ j = 1 ∨ j = 2 ∨ j = 3 by omega) with rfl | rfl | rfl | rfl
    · rw [show f + ((0 : Nat) : Int) = f by omega]; exact h.1.1.2.1
    · exact h.1.1.2.2
    · exact c.1
    · exact c.2
theorem spW_1 {b : Int → Int} {n f p : Int} : spW b n f p 1 ↔ isW (t8 b) n f p 5 115 111 117 110 100 := by
  rw [spW_e (L := 5) (bs := [115, 111, 117, 110, 100]) rfl (by decide +kernel)]
  unfold isW
  constructor
  · intro h
    have a := h.2 0 (by omega); have b := h.2 1 (by omega); have c := h.2 2 (by omega); have d := h.2 3 (by omega); have e := h.2 4 (by omega)
    rw [show f + ((0 : Nat) : Int) = f by omega] at a
    exact ⟨⟨⟨h.1, a, b⟩, Or.inr ⟨c, d⟩⟩, Or.inr e⟩
  · intro h
    refine ⟨h.1.1.1, fun j hj => ?_⟩
    have c := h.1.2.resolve_left (by omega)
    have e := h.2.resolve_left (by omega)
    rcases (show j = 0 ∨ j = 1 ∨ j = 2 ∨ j = 3 ∨ j = 4 by omega) with rfl | rfl | rfl | rfl | rfl
    · rw [show f + ((0 : Nat) : Int) = f by omega]; exact h.1.1.2.1
    · exact h.1.1.2.2
    · exact c.1
    · exact c.2
    · exact e
theorem spW_2 {b : Int → Int} {n f p : Int} : spW b n f p 2 ↔ isW (t8 b) n f p 4 119 111 114 100 0 := by
  rw [spW_e (L := 4) (bs := [119, 111, 114, 100]) rfl (by decide +kernel)]
  unfold isW
  constructor
  · intro h
    have a := h.2 0 (by omega); have b := h.2 1 (by omega); have c := h.2 2 (by omega); have d := h.2 3 (by omega)
    rw [show f + ((0 : Nat) : Int) = f by omega] at a
    exact ⟨⟨⟨h.1, a, b⟩, Or.inr ⟨c, d⟩⟩, Or.inl (by omega)⟩
  · intro h
    refine ⟨h.1.1.1, fun j hj => ?_⟩
    have c := h.1.2.resolve_left (by omega)
    rcases (show j = 0 ∨ j = 1 ∨ j = 2 ∨ j = 3 by omega) with rfl | rfl | rfl | rfl
    · rw [show f + ((0 : Nat) : Int) = f by omega]; exact h.1.1.2.1
    · exact h.1.1.2.2
    · exact c.1
    · exact c.2
theorem spW_3 {b : Int → Int} {n f p : Int} : spW b n f p 3 ↔ isW (t8 b) n f p 4 110 97 109 101 0 := by
  rw [spW_e (L := 4) (bs := [110, 97, 109, 101]) rfl (by decide +kernel)]
  unfold isW
  constructor
  · intro h
    have a := h.2 0 (by omega); have b := h.2 1 (by omega); have c := h.2 2 (by omega); have d := h.2 3 (by omega)
    rw [show f + ((0 : Nat) : Int) = f by omega] at a
    exact ⟨⟨⟨h.1, a, b⟩, Or.inr ⟨c, d⟩⟩, Or.inl (by omega)⟩
  · intro h
    refine ⟨h.1.1.1, fun j hj => ?_⟩
    have c := h.1.2.resolve_left (by omega)
    rcases (show j = 0 ∨ j = 1 ∨ j = 2 ∨ j = 3 by omega) with rfl | rfl | rfl | rfl
    · rw [show f + ((0 : Nat) : Int) = f by omega]; exact h.1.1.2.1
    · exact h.1.1.2.2
    · exact c.1
    · exact c.2
theorem spW_4 {b : Int → Int} {n f p : Int} : spW b n f p 4 ↔ (isW (t8 b) n f p 6 116 111 110 103 117 ∧ lk (t8 b) n (f + 5) = 101) := by
  rw [spW_e (L := 6) (bs := [116, 111, 110, 103, 117, 101]) rfl (by decide +kernel)]
  unfold isW
  constructor
  · intro h
    have a := h.2 0 (by omega); have b := h.2 1 (by omega); have c := h.2 2 (by omega); have d := h.2 3 (by omega); have e := h.2 4 (by omega); have g := h.2 5 (by omega)
    rw [show f + ((0 : Nat) : Int) = f by omega] at a
    exact ⟨⟨⟨⟨h.1, a, b⟩, Or.inr ⟨c, d⟩⟩, Or.inr e⟩, g⟩
  · intro h
    refine ⟨h.1.1.1.1, fun j hj => ?_⟩
    have c := h.1.1.2.resolve_left (by omega)
    have e := h.1.2.resolve_left (by omega)
    rcases (show j = 0 ∨ j = 1 ∨ j = 2 ∨ j = 3 ∨ j = 4 ∨ j = 5 by omega) with rfl | rfl | rfl | rfl | rfl | rfl
    · rw [show f + ((0 : Nat) : Int) = f by omega]; exact h.1.1.1.2.1
    · exact h.1.1.1.2.2
    · exact c.1
    · exact c.2
    · exact e
    · exact h.2
theorem spW_5 {b : Int → Int} {n f p : Int} : spW b n f p 5 ↔ isW (t8 b) n f p 2 111 110 0 0 0 := by
  rw [spW_e (L := 2) (bs := [111, 110]) rfl (by decide +kernel)]
  unfold isW
  constructor
  · intro h
    have a := h.2 0 (by omega); have b := h.2 1 (by omega)
    rw [show f + ((0 : Nat) : Int) = f by omega] at a
    exact ⟨⟨⟨h.1, a, b⟩, Or.inl (by omega)⟩, Or.inl (by omega)⟩
  · intro h
    refine ⟨h.1.1.1, fun j hj => ?_⟩
    rcases (show j = 0 ∨ j = 1 by omega) with rfl | rfl
    · rw [show f + ((0 : Nat) : Int) = f by omega]; exact h.1.1.2.1
    · exact h.1.1.2.2
/-- the first name that is spelt there -/
theorem nmv_x {b : Int → Int} {n f p v : Int} (hv : 0 ≤ v ∧ v ≤ 6) (hno : ∀ i : Nat, (i : Int) < v → ¬ spW b n f p i) (hex : v = 6 ∨ spW b n f p v.toNat) : nmv (t8 b) n f p = sel (v < 6) v (-4) := by
  have n0 := fun q : 0 < v => hno 0 (by omega); have n1 := fun q : 1 < v => hno 1 (by omega); have n2 := fun q : 2 < v => hno 2 (by omega)
  have n3 := fun q : 3 < v => hno 3 (by omega); have n4 := fun q : 4 < v => hno 4 (by omega); have n5 := fun q : 5 < v => hno 5 (by omega)
  rw [spW_0] at n0; rw [spW_1] at n1; rw [spW_2] at n2; rw [spW_3] at n3; rw [spW_4] at n4; rw [spW_5] at n5
  unfold nmv
  rcases (show v = 0 ∨ v = 1 ∨ v = 2 ∨ v = 3 ∨ v = 4 ∨ v = 5 ∨ v = 6 by omega) with rfl | rfl | rfl | rfl | rfl | rfl | rfl
  · have y := spW_0.1 (hex.resolve_left (by omega))
    rw [sel_t y, sel_t (by omega)]
  · have y := spW_1.1 (hex.resolve_left (by omega))
    rw [sel_f (n0 (by omega)), sel_t y, sel_t (by omega)]
  · have y := spW_2.1 (hex.resolve_left (by omega))
    rw [sel_f (n0 (by omega)), sel_f (n1 (by omega)), sel_t y, sel_t (by omega)]
  · have y := spW_3.1 (hex.resolve_left (by omega))
    rw [sel_f (n0 (by omega)), sel_f (n1 (by omega)), sel_f (n2 (by omega)), sel_t y, sel_t (by omega)]
  · have y := spW_4.1 (hex.resolve_left (by omega))
    rw [sel_f (n0 (by omega)), sel_f (n1 (by omega)), sel_f (n2 (by omega)), sel_f (n3 (by omega)), sel_t y, sel_t (by omega)]
  · have y := spW_5.1 (hex.resolve_left (by omega))
    rw [sel_f (n0 (by omega)), sel_f (n1 (by omega)), sel_f (n2 (by omega)), sel_f (n3 (by omega)), sel_f (n4 (by omega)), sel_t y, sel_t (by omega)]
  · rw [sel_f (n0 (by omega)), sel_f (n1 (by omega)), sel_f (n2 (by omega)), sel_f (n3 (by omega)), sel_f (n4 (by omega)), sel_f (n5 (by omega)), sel_f (by omega)]
/-- what the reader holds behind a token -/
def TokX (t : Int → Int) (n p fr to kd vl : Int) : Prop := (te t n p = 0 ∧ fr = tf t n p ∧ to = tp t n p ∧ kd = sel (tk t n p = 4) 3 (tk t n p)) ∧ ((tk t n p = 1 ∨ tk t n p = 2) → vl = tv t n p) ∧ (tk t n p = 3 → vl = 59) ∧ (tk t n p = 4 → vl = 44)
theorem tokx_end {t : Int → Int} {n p v : Int} (h : tc1 t n p < 0) : TokX t n p (tf t n p) (tf t n p) 0 v := by
  have e1 : tk t n p = 0 := sel_t h
  exact ⟨⟨sel_t h, rfl, (sel_t h).symm, by rw [e1, sel_f (by omega)]⟩, fun z => absurd z (by omega), fun z => absurd z (by omega), fun z => absurd z (by omega)⟩
theorem tokx_lt {t : Int → Int} {n p q v : Int} (h0 : ¬ tc1 t n p < 0) (h1 : isLt (tc1 t n p)) (hq : q = rn isLt t n (tf t n p)) (hv : nmv t n (tf t n p) q = sel (v < 6) v (-4)) (hr : 0 ≤ v) : (v < 6 → TokX t n p (tf t n p) q 1 v) ∧ (¬ v < 6 → ¬ te t n p = 0) := by
  have e1 : tk t n p = 1 := by unfold tk; rw [sel_f h0, sel_t h1]
  have e2 : tp t n p = q := by unfold tp; rw [sel_f h0, sel_t h1, hq]
  have e4 : tv t n p = nmv t n (tf t n p) q := by rw [← e2]; exact sel_t h1
  have e3 : te t n p = bI (nmv t n (tf t n p) q = -4) := by unfold te; rw [sel_f h0, sel_t h1, e4]
  refine ⟨fun z => ⟨⟨by rw [e3, hv, sel_t z]; exact bI_f (by omega), rfl, e2.symm, by rw [e1, sel_f (by omega)]⟩, fun _ => by rw [e4, hv, sel_t z], fun y => absurd y (by omega), fun y => absurd y (by omega)⟩, fun z y => ?_⟩
  rw [e3, hv, sel_f z, bI_t rfl] at y
  omega
theorem tokx_dg {t : Int → Int} {n p q v : Int} (h0 : ¬ tc1 t n p < 0) (h1 : ¬ isLt (tc1 t n p)) (h2 : isDg (tc1 t n p)) (hq : q = rn isDg t n (tf t n p)) (hv : v = nuv t n (tf t n p) (q - tf t n p)) : (q - tf t n p ≤ 2 → TokX t n p (tf t n p) q 2 v) ∧ (¬ q - tf t n p ≤ 2 → ¬ te t n p = 0) := by
  have e1 : tk t n p = 2 := by unfold tk; rw [sel_f h0, sel_f h1, sel_t h2]
  have e2 : tp t n p = q := by unfold tp; rw [sel_f h0, sel_f h1, sel_t h2, hq]
  have e4 : tv t n p = v := by rw [hv, ← e2]; exact sel_f h1
  have e3 : te t n p = bI (¬ q - tf t n p ≤ 2) := by unfold te; rw [sel_f h0, sel_f h1, sel_t h2, e2]
  refine ⟨fun z => ⟨⟨by rw [e3]; exact bI_f (fun y => y z), rfl, e2.symm, by rw [e1, sel_f (by omega)]⟩, fun _ => e4.symm, fun y => absurd y (by omega), fun y => absurd y (by omega)⟩, fun z y => ?_⟩
  rw [e3, bI_t z] at y
  omega
theorem tokx_ot {t : Int → Int} {n p v : Int} (h0 : ¬ tc1 t n p < 0) (h1 : ¬ isLt (tc1 t n p)) (h2 : ¬ isDg (tc1 t n p)) (hv : v = tc1 t n p) : ((v = 59 ∨ v = 44) → TokX t n p (tf t n p) (tf t n p + 1) 3 v) ∧ (¬ (v = 59 ∨ v = 44) → ¬ te t n p = 0) := by
  have e1 : tk t n p = sel (tc1 t n p = 59) 3 4 := by unfold tk; rw [sel_f h0, sel_f h1, sel_f h2]
  have e2 : tp t n p = tf t n p + 1 := by unfold tp; rw [sel_f h0, sel_f h1, sel_f h2]
  have e3 : te t n p = bI (¬ (tc1 t n p = 59 ∨ tc1 t n p = 44)) := by unfold te; rw [sel_f h0, sel_f h1, sel_f h2]
  subst hv
  refine ⟨fun z => ⟨⟨by rw [e3]; exact bI_f (fun y => y z), rfl, e2.symm, ?_⟩, fun y => ?_, fun y => ?_, fun y => ?_⟩, fun z y => ?_⟩
  · rw [e1]
    by_cases q : tc1 t n p = 59
    · rw [sel_t q, sel_f (by omega)]
    · rw [sel_f q, sel_t rfl]
  · rw [e1] at y
    by_cases q : tc1 t n p = 59
    · rw [sel_t q] at y; omega
    · rw [sel_f q] at y; omega
  · rw [e1] at y
    by_cases q : tc1 t n p = 59
    · exact q
    · rw [sel_f q] at y; omega
  · rw [e1] at y
    by_cases q : tc1 t n p = 59
    · rw [sel_t q] at y; omega
    · exact z.resolve_left q
  · rw [e3, bI_t z] at y
    omega
