set_option maxRecDepth 100000
/-! THE PLAIN LAW for the component: the words spelt out in places -/
def sp6 (m : Int → Int) (k : Int) (g : Int → Int) : Int → Int := fun x => if 6 * k ≤ x ∧ x < 6 * k + 6 then g (x - 6 * k) else m x
def SPQ (sg : Int → Int) (tc : Int → Int → Int) (tl sp : Int → Int) (so : Int) (m54 m202 : Int → Int) (t i : Int) : Prop := ∀ a b : Int, 0 ≤ a → 0 ≤ b → b < tl a → RD sg tc tl sp so a b → (a < t ∨ a = t ∧ b < i) → m202 (KP (RD sg tc tl sp so) tl a b) = we tc tl a b - b ∧ ∀ j : Int, 0 ≤ j → j < we tc tl a b - b → m54 (6 * KP (RD sg tc tl sp so) tl a b + j) = sp (sa sg (tc a (b + j)))
noncomputable def rdX (sg : Int → Int) (tc : Int → Int → Int) (tl : Int → Int) (tm : Int) (sp m53 : Int → Int) (so : Int) (sd : Int → Int) : Int := PS (RD sg tc tl sp so) (fun a b => bI (m53 (4096 * (we tc tl a b - b) + rowS (fun j => sd (sp (sa sg (tc a (b + j))))) (we tc tl a b - b)) = 1)) tl tm 0
section SPQS
variable {sg : Int → Int} {tc : Int → Int → Int} {tl sp : Int → Int} {so : Int} {m54 m202 : Int → Int} {t i : Int}
theorem SPQ.zero : SPQ sg tc tl sp so m54 m202 0 0 := fun a b h1 h2 _ _ h5 => absurd h5 (by omega)
theorem SPQ.no (h : SPQ sg tc tl sp so m54 m202 t i) (hn : ¬ RD sg tc tl sp so t i) : SPQ sg tc tl sp so m54 m202 t (i + 1) := by
  intro a b h1 h2 h3 h4 h5
  by_cases q : a = t ∧ b = i
  · rw [q.1, q.2] at h4; exact absurd h4 hn
  · exact h a b h1 h2 h3 h4 (by omega)
theorem SPQ.row (h : SPQ sg tc tl sp so m54 m202 t i) (hi : i = tl t) : SPQ sg tc tl sp so m54 m202 (t + 1) 0 := fun a b h1 h2 h3 h4 h5 => h a b h1 h2 h3 h4 (by
  rcases Int.lt_or_le a t with q | q
  · exact Or.inl q
  · right; have e : a = t := by omega
    rw [e] at h3; exact ⟨e, by omega⟩)
theorem SPQ.skip (h : SPQ sg tc tl sp so m54 m202 t i) (hb : ¬ so / 2 ^ t.toNat % 2 = 1) : SPQ sg tc tl sp so m54 m202 (t + 1) 0 := fun a b h1 h2 h3 h4 h5 => h a b h1 h2 h3 h4 (by
  rcases Int.lt_or_le a t with q | q
  · exact Or.inl q
  · have e : a = t := by omega
    rw [e] at h4
    exact absurd h4.2.2.1 hb)
theorem KP_skip (ht : 0 ≤ t) (hi : 0 ≤ i ∧ i ≤ tl t) (hb : ¬ so / 2 ^ t.toNat % 2 = 1) : KP (RD sg tc tl sp so) tl (t + 1) 0 = KP (RD sg tc tl sp so) tl t i := by
  have z : ∀ n : Int, 0 ≤ n → isum (fun b => bI (RD sg tc tl sp so t b)) n = 0 := fun n _ => isum_all0 (fun b _ _ => bI_f (fun q => hb q.2.2.1))
  rw [KP_t ht]
  unfold KP
  rw [z _ (by omega), z _ hi.1]
theorem SPQ.yes (htl : ∀ a, 0 ≤ tl a) (ht : 0 ≤ t) (hi : 0 ≤ i ∧ i < tl t) {k n : Int} {g : Int → Int} (hk : k = KP (RD sg tc tl sp so) tl t i) (h : SPQ sg tc tl sp so m54 m202 t i) (hn : n = we tc tl t i - i) (hn6 : n ≤ 6) (hg : ∀ j : Int, 0 ≤ j → j < n → g j = sp (sa sg (tc t (i + j)))) : SPQ sg tc tl sp so (sp6 m54 k g) (fup m202 k n) t (i + 1) := by
  intro a b h1 h2 h3 h4 h5
  by_cases q : a = t ∧ b = i
  · rw [q.1, q.2, ← hk, fup_s]
    refine ⟨hn, fun j j0 j1 => ?_⟩
    show (if 6 * k ≤ 6 * k + j ∧ 6 * k + j < 6 * k + 6 then g (6 * k + j - 6 * k) else _) = _
    rw [if_pos ⟨by omega, by omega⟩, show 6 * k + j - 6 * k = j by omega]
    exact hg j j0 (by omega)
  · have lt : KP (RD sg tc tl sp so) tl a b + 1 ≤ KP (RD sg tc tl sp so) tl t i := KP_lt htl h1 h2 h3 hi.1 h4 (by omega)
    have z := h a b h1 h2 h3 h4 (by omega)
    have l6 := h4.2.1
    rw [fup_n _ _ (by omega)]
    refine ⟨z.1, fun j j0 j1 => ?_⟩
    show (if 6 * k ≤ 6 * KP (RD sg tc tl sp so) tl a b + j ∧ 6 * KP (RD sg tc tl sp so) tl a b + j < 6 * k + 6 then _ else m54 (6 * KP (RD sg tc tl sp so) tl a b + j)) = _
    rw [if_neg (by omega)]
    exact z.2 j j0 j1
theorem SPQ.sum {tm : Int} {m53 m33 sd : Int → Int} (htl : ∀ a, 0 ≤ tl a) (htm : 0 ≤ tm) (h : SPQ sg tc tl sp so m54 m202 tm 0) (hsp : ∀ a b j : Int, 0 ≤ b → b < tl a → RD sg tc tl sp so a b → 0 ≤ j → j < we tc tl a b - b → m33 (sp (sa sg (tc a (b + j)))) = sd (sp (sa sg (tc a (b + j))))) : isum (fun i => bI (m53 (4096 * m202 i + rowS (fun j => m33 (m54 (6 * i + j))) (m202 i)) = 1)) (KP (RD sg tc tl sp so) tl tm 0) = rdX sg tc tl tm sp m53 so sd := by
  refine KP_sum htl htm (Int.le_refl _) (fun a b q1 q2 q3 q4 q5 => ?_)
  have qb : b < tl a := by rcases q3 with z | z; exact z; omega
  have z := h a b q1 q2 qb q4 q5
  have hl := wb_lt (tl := tl) q4.1.1 qb
  show bI (m53 (4096 * m202 (KP (RD sg tc tl sp so) tl a b) + rowS (fun j => m33 (m54 (6 * KP (RD sg tc tl sp so) tl a b + j))) (m202 (KP (RD sg tc tl sp so) tl a b))) = 1) = _
  rw [z.1, rowS_congr (g := fun j => sd (sp (sa sg (tc a (b + j))))) (by omega) (fun j j0 j1 => by rw [z.2 j j0 j1]; exact hsp a b j q2 qb q4 j0 j1)]
end SPQS
