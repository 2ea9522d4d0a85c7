set_option maxRecDepth 100000
/-! THE PLAIN LAW for the component: the grid's signs -/
def GSx (n : Int) (ak ap : Int → Int → Int) (s : Int) : Prop := ∃ u : Int, 0 ≤ u ∧ u < n ∧ (0 < ak s u ∨ (¬ s = u ∧ 0 < ap s u))
theorem isum_pos {f : Int → Int} {n : Int} (hn : 0 ≤ n) (h : ∀ j : Int, 0 ≤ j → j < n → 0 ≤ f j) : 0 ≤ isum f n ∧ (0 < isum f n ↔ ∃ j : Int, 0 ≤ j ∧ j < n ∧ 0 < f j) := by
  refine int_ind (P := fun m => m ≤ n → 0 ≤ isum f m ∧ (0 < isum f m ↔ ∃ j : Int, 0 ≤ j ∧ j < m ∧ 0 < f j)) hn (fun _ => ⟨Int.le_refl _, fun q => absurd q (by show ¬ (0 : Int) < isum f 0; rw [isum_0]; omega), fun ⟨j, a, b, _⟩ => absurd a (by omega)⟩) (fun m h1 h2 ih hm => ?_) (Int.le_refl _)
  have i := ih (by omega)
  have z := h m h1 (by omega)
  rw [isum_s h1]
  refine ⟨by omega, fun q => ?_, fun ⟨j, a, b, d⟩ => ?_⟩
  · by_cases y : 0 < f m
    · exact ⟨m, h1, by omega, y⟩
    · obtain ⟨j, a, b, d⟩ := i.2.1 (by omega)
      exact ⟨j, a, by omega, d⟩
  · by_cases y : j = m
    · rw [y] at d; omega
    · have := i.2.2 ⟨j, a, by omega, d⟩; omega
theorem gs_sum {n s : Int} {f : Int → Int} {ak ap : Int → Int → Int} (hn : 0 ≤ n) (hf : ∀ j : Int, 0 ≤ j → j < n → f j = ak s j + sel (s = j) 0 (ap s j)) (h1 : ∀ j, 0 ≤ ak s j) (h2 : ∀ j, 0 ≤ j → j < n → 0 ≤ sel (s = j) 0 (ap s j)) : 0 < isum f n ↔ GSx n ak ap s := by
  rw [(isum_pos (f := f) hn (fun j a b => by rw [hf j a b]; have := h1 j; have := h2 j a b; omega)).2]
  constructor
  · rintro ⟨j, a, b, d⟩
    rw [hf j a b] at d
    refine ⟨j, a, b, ?_⟩
    by_cases e : s = j
    · rw [sel_t e] at d; exact Or.inl (by omega)
    · rw [sel_f e] at d
      have := h1 j
      rcases Int.lt_or_le 0 (ak s j) with w | w
      · exact Or.inl w
      · exact Or.inr ⟨e, by omega⟩
  · rintro ⟨j, a, b, d⟩
    refine ⟨j, a, b, ?_⟩
    rw [hf j a b]
    have k1 := h1 j
    have k2 := h2 j a b
    rcases d with d | ⟨e, d⟩
    · omega
    · rw [sel_f e]; omega
theorem gs_rest {P : Int → Prop} {n n' f : Int} {m : Int → Int} (h : 0 ≤ n) (hn : n ≤ n') (hf : f = gmS P n) (hm : ∀ k : Int, 0 ≤ k → k < f → m k = gsA P n k) (h8 : ¬ f < 8) : f = gmS P n' ∧ ∀ k : Int, 0 ≤ k → k < f → m k = gsA P n' k := by
  obtain ⟨d, rfl⟩ : ∃ d : Int, n' = n + d := ⟨n' - n, by omega⟩
  refine int_ind (P := fun d => f = gmS P (n + d) ∧ ∀ k : Int, 0 ≤ k → k < f → m k = gsA P (n + d) k) (show 0 ≤ d by omega) (by rw [Int.add_zero]; exact ⟨hf, hm⟩) (fun q h1 h2 ih => ?_)
  rw [← Int.add_assoc]
  exact gs_no (by omega) ih.1 ih.2 (fun z => h8 z.2)
