set_option maxRecDepth 100000
/-! THE PLAIN LAW for the component: the words written down, and which are alike -/
def WV (m9 m10 m11 tl : Int → Int) (tm w : Int) : Prop := (0 ≤ m9 w ∧ m9 w < tm) ∧ 0 ≤ m10 w ∧ m10 w < m11 w ∧ m11 w ≤ tl (m9 w)
def alk (sg m56 m9 m10 m11 : Int → Int) (a b k : Int) : Prop := m11 a - m10 a = m11 b - m10 b ∧ ∀ j : Int, 0 ≤ j → j < m11 a - m10 a - k → cw sg m56 m9 m10 a j = cw sg m56 m9 m10 b j
section WQS
variable {sg m56 : Int → Int} {tl : Int → Int} {m9 m10 m11 : Int → Int} {t i : Int}
theorem WQ.wv (h : WQ sg (mtc m56) tl m9 m10 m11 t i) (htl : ∀ a, 0 ≤ tl a) (ht : 0 ≤ t) (hi : 0 ≤ i ∧ i ≤ tl t) {tm w : Int} (htm : t < tm ∨ t = tm ∧ i = 0) (h0 : 0 ≤ w) (hw : w < KP (FR sg (mtc m56) tl) tl t i) : WV m9 m10 m11 tl tm w := by
  obtain ⟨a, b, h1, h2, h3, h4, h5, _, e9, e10, e11⟩ := h.at htl ht hi h0 hw
  have l1 := wb_lt (tl := tl) h5.1.1 h3
  have l2 := (we_E (tc := mtc m56) (tl := tl) (t := a) (i := b) (by omega)).2.1
  refine ⟨⟨by omega, by omega⟩, by omega, by omega, by rw [e11, e9]; exact l2⟩
theorem cw_cp {w a b j : Int} (e9 : m9 w = a) (e10 : m10 w = b) : cw sg m56 m9 m10 w j = cp sg (mtc m56) a b j := by
  unfold cw cp
  rw [e9, e10]
  rfl
/-- a word is new when it is like none of those written down -/
theorem FR_loop (htl : ∀ a, 0 ≤ tl a ∧ tl a ≤ 24) (ht : 0 ≤ t) (hi : 0 ≤ i ∧ i < tl t) {n : Int} (h : WQ sg (mtc m56) tl m9 m10 m11 t i) (hn : n = KP (FR sg (mtc m56) tl) tl t i) (e9 : m9 n = t) (e10 : m10 n = i) (e11 : m11 n = we (mtc m56) tl t i) (hw : wh (mtc m56) tl t i) : (∀ j : Int, 0 ≤ j → j < n → ¬ alk sg m56 m9 m10 m11 j n 0) ↔ FR sg (mtc m56) tl t i := by
  have hln : m11 n - m10 n = ln (mtc m56) tl t i := by rw [e11, e10]; rfl
  constructor
  · intro ha
    refine FR_new (fun x => (htl x).2) hw (fun c d h1 h2 h3 h4 h5 hq => ?_)
    have lt : KP (FR sg (mtc m56) tl) tl c d + 1 ≤ KP (FR sg (mtc m56) tl) tl t i := KP_lt (fun a => (htl a).1) h1 h2 h3 hi.1 h5 h4
    have nn := KP_nn (P := FR sg (mtc m56) tl) (fun a => (htl a).1) h1 h2
    obtain ⟨z9, z10, z11⟩ := h c d h1 h2 h3 h5 h4
    have hlc : m11 (KP (FR sg (mtc m56) tl) tl c d) - m10 (KP (FR sg (mtc m56) tl) tl c d) = ln (mtc m56) tl c d := by rw [z11, z10]; rfl
    refine ha (KP (FR sg (mtc m56) tl) tl c d) nn (by omega) ⟨by rw [hlc, hln]; exact hq.1, fun j j0 j1 => ?_⟩
    rw [cw_cp z9 z10, cw_cp e9 e10]
    rw [hlc] at j1
    exact (hq.2 j j0 (by rw [← hq.1]; omega)).symm
  · intro hF j j0 j1 ha
    obtain ⟨a, b, h1, h2, h3, h4, h5, h6, z9, z10, z11⟩ := h.at (fun a => (htl a).1) ht ⟨hi.1, by omega⟩ j0 (by omega)
    have hlc : m11 j - m10 j = ln (mtc m56) tl a b := by rw [z11, z10]; rfl
    have hl : ln (mtc m56) tl a b = ln (mtc m56) tl t i := by rw [← hlc, ← hln]; exact ha.1
    refine hF.2 a b h1 h2 h3 h4 h5.1 hl (fun x x0 x1 => ?_)
    have z := ha.2 x x0 (by rw [hlc, hl]; omega)
    rw [cw_cp z9 z10, cw_cp e9 e10] at z
    exact z.symm
end WQS
