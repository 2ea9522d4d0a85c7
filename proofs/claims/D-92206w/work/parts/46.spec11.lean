set_option maxRecDepth 100000
/-! THE PLAIN LAW for the component: each row of a word once -/
theorem KP_onto2 {P : Int → Int → Prop} {tl : Int → Int} {t i : Int} (htl : ∀ a, 0 ≤ tl a) (ht : 0 ≤ t) (hi : 0 ≤ i) {w : Int} (h0 : 0 ≤ w) (hw : w < KP P tl t i) : ∃ a b : Int, 0 ≤ a ∧ 0 ≤ b ∧ (a < t ∧ b < tl a ∨ a = t ∧ b < i) ∧ P a b ∧ KP P tl a b = w := by
  by_cases q : w < KP P tl t 0
  · obtain ⟨a, b, h1, h2, h3, h4, h5, h6⟩ := KP_onto htl ht h0 q
    exact ⟨a, b, h1, h3, Or.inl ⟨h2, h4⟩, h5, h6⟩
  · revert hw
    refine int_ind (P := fun k => w < KP P tl t k → ∃ a b : Int, 0 ≤ a ∧ 0 ≤ b ∧ (a < t ∧ b < tl a ∨ a = t ∧ b < k) ∧ P a b ∧ KP P tl a b = w) hi (fun z => absurd z q) (fun m a1 a2 ih z => ?_)
    rw [KP_s a1] at z
    by_cases y : w < KP P tl t m
    · obtain ⟨a, b, h1, h2, h3, h4⟩ := ih y
      exact ⟨a, b, h1, h2, by omega, h4⟩
    · by_cases p : P t m
      · rw [bI_t p] at z; exact ⟨t, m, ht, a1, Or.inr ⟨rfl, by omega⟩, p, by omega⟩
      · rw [bI_f p] at z; omega
section FRS
variable {sg : Int → Int} {tc : Int → Int → Int} {tl : Int → Int} {m9 m10 m11 : Int → Int} {t i : Int}
theorem peq.tr {a b c d e f n : Int} (h : peq sg tc a b c d n) (g : peq sg tc a b e f n) : peq sg tc c d e f n := fun j h1 h2 => (h j h1 h2).symm.trans (g j h1 h2)
/-- of the words that are like one, the first is the first of its row -/
theorem FR_least {a b : Int} : ∀ (n : Nat) (c d : Int), 0 ≤ c → 0 ≤ d → d < tl c → (∀ x, tl x ≤ 24) → 24 * c + d < n → wh tc tl c d → ln tc tl c d = ln tc tl a b → peq sg tc a b c d (ln tc tl a b) → ∃ c' d' : Int, 0 ≤ c' ∧ 0 ≤ d' ∧ d' < tl c' ∧ (c' < c ∨ c' = c ∧ d' ≤ d) ∧ FR sg tc tl c' d' ∧ ln tc tl c' d' = ln tc tl a b ∧ peq sg tc a b c' d' (ln tc tl a b)
  | 0, c, d, h1, h2, h3, h24, h4, h5, h6, h7 => absurd h4 (by omega)
  | n + 1, c, d, h1, h2, h3, h24, h4, h5, h6, h7 => by
    by_cases q : FR sg tc tl c d
    · exact ⟨c, d, h1, h2, h3, Or.inr ⟨rfl, Int.le_refl _⟩, q, h6, h7⟩
    · have z : ∃ e f : Int, 0 ≤ e ∧ 0 ≤ f ∧ f < tl e ∧ (e < c ∨ e = c ∧ f < d) ∧ wh tc tl e f ∧ ln tc tl e f = ln tc tl c d ∧ peq sg tc c d e f (ln tc tl c d) := Classical.byContradiction (fun y => q ⟨h5, fun e f a1 a2 a3 a4 a5 a6 a7 => y ⟨e, f, a1, a2, a3, a4, a5, a6, a7⟩⟩)
      obtain ⟨e, f, a1, a2, a3, a4, a5, a6, a7⟩ := z
      have hf := h24 e
      rw [h6] at a6 a7
      have a8 : peq sg tc a b e f (ln tc tl a b) := fun j j1 j2 => (h7 j j1 j2).trans (a7 j j1 j2)
      obtain ⟨c', d', b1, b2, b3, b4, b5⟩ := FR_least (a := a) (b := b) n e f a1 a2 a3 h24 (by omega) a5 a6 a8
      exact ⟨c', d', b1, b2, b3, by omega, b5⟩
/-- a word is the first of its row when it is like none of the rows' firsts before it -/
theorem FR_new (h24 : ∀ x, tl x ≤ 24) (hw : wh tc tl t i) (h : ∀ c d : Int, 0 ≤ c → 0 ≤ d → d < tl c → (c < t ∨ c = t ∧ d < i) → FR sg tc tl c d → ¬ (ln tc tl c d = ln tc tl t i ∧ peq sg tc t i c d (ln tc tl t i))) : FR sg tc tl t i := by
  refine ⟨hw, fun c d h1 h2 h3 h4 h5 h6 h7 => ?_⟩
  obtain ⟨c', d', b1, b2, b3, b4, b5, b6, b7⟩ := FR_least (sg := sg) (a := t) (b := i) (24 * c + d + 1).toNat c d h1 h2 h3 h24 (by omega) h5 h6 h7
  exact h c' d' b1 b2 b3 (by omega) b5 ⟨b6, b7⟩
/-- the rows' firsts that begin before (t, i) are written down under their numbers -/
def WQ (sg : Int → Int) (tc : Int → Int → Int) (tl : Int → Int) (m9 m10 m11 : Int → Int) (t i : Int) : Prop := ∀ a b : Int, 0 ≤ a → 0 ≤ b → b < tl a → FR sg tc tl a b → (a < t ∨ a = t ∧ b < i) → m9 (KP (FR sg tc tl) tl a b) = a ∧ m10 (KP (FR sg tc tl) tl a b) = b ∧ m11 (KP (FR sg tc tl) tl a b) = we tc tl a b
theorem WQ.zero : WQ sg tc tl m9 m10 m11 0 0 := fun a b h1 h2 _ _ h5 => absurd h5 (by omega)
theorem WQ.at (h : WQ sg tc tl m9 m10 m11 t i) (htl : ∀ a, 0 ≤ tl a) (ht : 0 ≤ t) (hi : 0 ≤ i ∧ i ≤ tl t) {w : Int} (h0 : 0 ≤ w) (hw : w < KP (FR sg tc tl) tl t i) : ∃ a b : Int, 0 ≤ a ∧ 0 ≤ b ∧ b < tl a ∧ (a < t ∨ a = t ∧ b < i) ∧ FR sg tc tl a b ∧ KP (FR sg tc tl) tl a b = w ∧ m9 w = a ∧ m10 w = b ∧ m11 w = we tc tl a b := by
  obtain ⟨a, b, h1, h2, h3, h4, h5⟩ := KP_onto2 htl ht hi.1 h0 hw
  have hb : b < tl a := by rcases h3 with q | q; exact q.2; rw [q.1]; omega
  have z := h a b h1 h2 hb h4 (by omega)
  rw [h5] at z
  exact ⟨a, b, h1, h2, hb, by omega, h4, h5, z⟩
theorem WQ.no (h : WQ sg tc tl m9 m10 m11 t i) (hn : ¬ FR sg tc tl t i) : WQ sg tc tl m9 m10 m11 t (i + 1) := by
  intro a b h1 h2 h3 h4 h5
  by_cases q : a = t ∧ b = i
  · rw [q.1, q.2] at h4; exact absurd h4 hn
  · exact h a b h1 h2 h3 h4 (by omega)
theorem WQ.cg {k9 k10 k11 : Int → Int} (htl : ∀ a, 0 ≤ tl a) (ht : 0 ≤ t) (hi : 0 ≤ i ∧ i ≤ tl t) (h : WQ sg tc tl m9 m10 m11 t i) (e : ∀ w : Int, 0 ≤ w → w < KP (FR sg tc tl) tl t i → k9 w = m9 w ∧ k10 w = m10 w ∧ k11 w = m11 w) : WQ sg tc tl k9 k10 k11 t i := by
  intro a b h1 h2 h3 h4 h5
  have lt : KP (FR sg tc tl) tl a b + 1 ≤ KP (FR sg tc tl) tl t i := KP_lt htl h1 h2 h3 hi.1 h4 h5
  have z := e (KP (FR sg tc tl) tl a b) (KP_nn htl h1 h2) (by omega)
  rw [z.1, z.2.1, z.2.2]
  exact h a b h1 h2 h3 h4 h5
theorem WQ.put (htl : ∀ a, 0 ≤ tl a) (ht : 0 ≤ t) (hi : 0 ≤ i ∧ i ≤ tl t) {n x y z : Int} (hn : n = KP (FR sg tc tl) tl t i) (h : WQ sg tc tl m9 m10 m11 t i) : WQ sg tc tl (fup m9 n x) (fup m10 n y) (fup m11 n z) t i :=
  h.cg htl ht hi (fun w h1 h2 => by rw [fup_n _ _ (by omega), fup_n _ _ (by omega), fup_n _ _ (by omega)]; exact ⟨rfl, rfl, rfl⟩)
theorem WQ.yes (h : WQ sg tc tl m9 m10 m11 t i) {n : Int} (hn : n = KP (FR sg tc tl) tl t i) (e9 : m9 n = t) (e10 : m10 n = i) (e11 : m11 n = we tc tl t i) : WQ sg tc tl m9 m10 m11 t (i + 1) := by
  intro a b h1 h2 h3 h4 h5
  by_cases q : a = t ∧ b = i
  · rw [q.1, q.2, ← hn]; exact ⟨e9, e10, e11⟩
  · exact h a b h1 h2 h3 h4 (by omega)
theorem WQ.row (h : WQ sg tc tl m9 m10 m11 t i) (hi : i = tl t) : WQ sg tc tl m9 m10 m11 (t + 1) 0 := fun a b h1 h2 h3 h4 h5 => h a b h1 h2 h3 h4 (by
  rcases Int.lt_or_le a t with q | q
  · exact Or.inl q
  · right; have e : a = t := by omega
    rw [e] at h3; exact ⟨e, by omega⟩)
theorem KPF_r (htl : ∀ a, 0 ≤ tl a ∧ tl a ≤ 24) (ht : 0 ≤ t ∧ t ≤ 8) (hi : 0 ≤ i ∧ i ≤ 24) {P : Int → Int → Prop} : 0 ≤ KP P tl t i ∧ KP P tl t i ≤ 24 * t + i := by
  unfold KP
  have h2 := isum_bI (P := fun b => P t b) hi.1
  have h1 : 0 ≤ isum (fun a => isum (fun b => bI (P a b)) (tl a)) t ∧ isum (fun a => isum (fun b => bI (P a b)) (tl a)) t ≤ 24 * t := isum_le ht.1 (fun j _ _ => by
    have := isum_bI (P := fun b => P j b) (htl j).1
    have := htl j
    omega)
  omega
end FRS
