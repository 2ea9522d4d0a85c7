set_option maxRecDepth 100000
/-! THE PLAIN LAW for the component: what a table reads depends on the signs' places alone -/
theorem rdX_cg {sg : Int → Int} {tc : Int → Int → Int} {tl sp sp' m53 sd : Int → Int} {tm so : Int} (htm : 0 ≤ tm) (hr : ∀ t j : Int, -2 ≤ tc t j) (hs : ∀ q, 0 ≤ sg q ∧ sg q ≤ 23) (h : ∀ s : Int, 0 ≤ s → s < 24 → sp s = sp' s) : rdX sg tc tl tm sp m53 so sd = rdX sg tc tl tm sp' m53 so sd := by
  unfold rdX
  refine PS_congr (fun _ _ _ => rfl) (fun a b a0 b0 hab => ?_) htm
  by_cases w : wh tc tl a b
  · have hb : b ≤ tl a := by
      rcases hab with z | z <;> omega
    have e : ∀ j : Int, 0 ≤ j → j < we tc tl a b - b → sp (sa sg (tc a (b + j))) = sp' (sa sg (tc a (b + j))) := fun j j0 j1 => by
      have hc := wh_cell (j := b + j) w ⟨b0, hb⟩ (fun j => hr _ _) (by omega) (by omega)
      have hq := hs (tc a (b + j))
      have hsa : sa sg (tc a (b + j)) = sg (tc a (b + j)) := by
        unfold sa
        rw [sel_f (by omega)]
      rw [hsa]
      exact h _ hq.1 (by omega)
    have iff : RD sg tc tl sp so a b ↔ RD sg tc tl sp' so a b := ⟨fun z => ⟨z.1, z.2.1, z.2.2.1, fun j j0 j1 => by rw [← e j j0 j1]; exact z.2.2.2 j j0 j1⟩, fun z => ⟨z.1, z.2.1, z.2.2.1, fun j j0 j1 => by rw [e j j0 j1]; exact z.2.2.2 j j0 j1⟩⟩
    by_cases q : RD sg tc tl sp so a b
    · rw [sel_t q, sel_t (iff.1 q)]
      have hl : 0 ≤ we tc tl a b - b := by
        have := (we_E (tc := tc) (tl := tl) (t := a) (i := b) hb).1
        omega
      rw [rowS_congr (f := fun j => sd (sp (sa sg (tc a (b + j))))) (g := fun j => sd (sp' (sa sg (tc a (b + j))))) hl (fun j j0 j1 => by rw [e j j0 j1])]
    · rw [sel_f q, sel_f (fun z => q (iff.2 z))]
  · rw [sel_f (fun z => w z.1), sel_f (fun z => w z.1)]
