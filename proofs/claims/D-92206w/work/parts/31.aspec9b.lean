set_option maxRecDepth 100000
/-! a box: what is in it isn't looked at -/
def Bx (p : Prop) : Prop := p
theorem Bx.i {p : Prop} (h : p) : Bx p := h
theorem Bx.o {p : Prop} (h : Bx p) : p := h
theorem tok_b {t : Int → Int} {n p : Int} (ht : ∀ j, 0 ≤ t j ∧ t j ≤ 255) (hp : 0 ≤ p ∧ p ≤ n) : (p ≤ tf t n p ∧ tf t n p ≤ n) ∧ (tf t n p ≤ tp t n p ∧ tp t n p ≤ n) ∧ (0 ≤ te t n p ∧ te t n p ≤ 1) := by
  have h := tok_r ht hp
  exact ⟨h.1, h.2.1, h.2.2.2.2.2⟩
