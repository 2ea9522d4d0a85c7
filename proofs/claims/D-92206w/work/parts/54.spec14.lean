set_option maxRecDepth 100000
/-! THE PLAIN LAW for the component: endings that share a stem, told apart -/
noncomputable def lw (sg m56 m9 m11 : Int → Int) (w : Int) : Int := sa sg (m56 (24 * m9 w + (m11 w - 1)))
def PxW (sg m56 m9 m10 m11 : Int → Int) (w v : Int) : Prop := 1 < m11 w - m10 w ∧ alk sg m56 m9 m10 m11 w v 1
noncomputable def gx (sg m56 m9 m10 m11 : Int → Int) (A B w v : Int) : Int := sel (PxW sg m56 m9 m10 m11 w v) (bI (lw sg m56 m9 m11 w = A ∧ lw sg m56 m9 m11 v = B) + bI (lw sg m56 m9 m11 v = A ∧ lw sg m56 m9 m11 w = B)) 0
section AKX
variable {sg m56 : Int → Int} {tl : Int → Int} {m9 m10 m11 : Int → Int} {t i : Int}
theorem lw_lp {w a b : Int} (e9 : m9 w = a) (e11 : m11 w = we (mtc m56) tl a b) : lw sg m56 m9 m11 w = lp sg (mtc m56) tl a b := by
  show sa sg (m56 (24 * m9 w + (m11 w - 1))) = sa sg (m56 (24 * a + (b + (we (mtc m56) tl a b - b - 1))))
  rw [e9, e11, show b + (we (mtc m56) tl a b - b - 1) = we (mtc m56) tl a b - 1 by omega]
theorem PxW_akP {w v a b c d : Int} (e9 : m9 w = a) (e10 : m10 w = b) (e11 : m11 w = we (mtc m56) tl a b) (f9 : m9 v = c) (f10 : m10 v = d) (f11 : m11 v = we (mtc m56) tl c d) : PxW sg m56 m9 m10 m11 w v ↔ akP sg (mtc m56) tl a b c d := by
  have l1 : m11 w - m10 w = ln (mtc m56) tl a b := by rw [e11, e10]; rfl
  have l2 : m11 v - m10 v = ln (mtc m56) tl c d := by rw [f11, f10]; rfl
  unfold PxW alk akP
  rw [l1, l2]
  constructor
  · rintro ⟨x, y, z⟩
    exact ⟨y.symm, x, fun j j0 j1 => by have := z j j0 j1; rw [cw_cp e9 e10, cw_cp f9 f10] at this; exact this⟩
  · rintro ⟨x, y, z⟩
    exact ⟨y, x.symm, fun j j0 j1 => by rw [cw_cp e9 e10, cw_cp f9 f10]; exact z j j0 j1⟩
theorem akx_words {tm A B : Int} (htl : ∀ a, 0 ≤ tl a) (htm : 0 ≤ tm) (h : WQ sg (mtc m56) tl m9 m10 m11 tm 0) : isum (fun w => isum (fun v => gx sg m56 m9 m10 m11 A B w v) w) (KP (FR sg (mtc m56) tl) tl tm 0) = akS sg (mtc m56) tl tm A B := by
  refine KP_sum htl htm (Int.le_refl _) (fun a b q1 q2 q3 q4 q5 => ?_)
  have qb : b < tl a := by rcases q3 with z | z; exact z; omega
  obtain ⟨e9, e10, e11⟩ := h a b q1 q2 qb q4 q5
  refine KP_sum htl q1 q2 (fun c d p1 p2 p3 p4 p5 => ?_)
  have pd : d < tl c := by
    rcases p3 with z | z
    · exact z
    · rw [z]; omega
  obtain ⟨f9, f10, f11⟩ := h c d p1 p2 pd p4 (by omega)
  unfold gx akg
  rw [lw_lp e9 e11, lw_lp f9 f11]
  exact sel_c (PxW_akP e9 e10 e11 f9 f10 f11)
theorem ak_ne {w v : Int} (htl : ∀ a, 0 ≤ tl a) (ht : 0 ≤ t) (hi : 0 ≤ i ∧ i ≤ tl t) (h : WQ sg (mtc m56) tl m9 m10 m11 t i) (h0 : 0 ≤ v) (h1 : v < w) (h2 : w < KP (FR sg (mtc m56) tl) tl t i) (hp : PxW sg m56 m9 m10 m11 w v) : ¬ lw sg m56 m9 m11 w = lw sg m56 m9 m11 v := by
  obtain ⟨a, b, a1, a2, a3, a4, a5, a6, e9, e10, e11⟩ := h.at htl ht hi (show 0 ≤ w by omega) h2
  obtain ⟨c, d, c1, c2, c3, c4, c5, c6, f9, f10, f11⟩ := h.at htl ht hi h0 (show v < _ by omega)
  intro e
  rw [lw_lp e9 e11, lw_lp f9 f11] at e
  have hk := (PxW_akP e9 e10 e11 f9 f10 f11).1 hp
  have hlt : c < a ∨ c = a ∧ d < b := by
    rcases Classical.em (c < a ∨ c = a ∧ d < b) with y | y
    · exact y
    · have : KP (FR sg (mtc m56) tl) tl a b ≤ KP (FR sg (mtc m56) tl) tl c d := KP_mono htl a1 a2 (by omega) c2 (by omega)
      omega
  refine a5.2 c d c1 c2 c3 hlt c5.1 hk.1 (fun j j0 j1 => ?_)
  by_cases q : j = ln (mtc m56) tl a b - 1
  · unfold lp at e; rw [hk.1] at e; rw [q]; exact e
  · exact hk.2.2 j j0 (by omega)
theorem lw_cell {w : Int} (hr : ∀ j, -2 ≤ m56 j) (htl : ∀ a, 0 ≤ tl a) (ht : 0 ≤ t) (hi : 0 ≤ i ∧ i ≤ tl t) (h : WQ sg (mtc m56) tl m9 m10 m11 t i) (h0 : 0 ≤ w) (h2 : w < KP (FR sg (mtc m56) tl) tl t i) : 0 ≤ m56 (24 * m9 w + (m11 w - 1)) := by
  obtain ⟨a, b, a1, a2, a3, a4, a5, a6, e9, e10, e11⟩ := h.at htl ht hi h0 h2
  have l1 := wb_lt (tl := tl) a5.1.1 a3
  rw [e9, e11]
  exact wh_cell (j := we (mtc m56) tl a b - 1) a5.1 ⟨a2, by omega⟩ (fun j => hr _) (by omega) (by omega)
end AKX
theorem akS_self {sg : Int → Int} {tc : Int → Int → Int} {tl : Int → Int} {tm A : Int} (htm : 0 ≤ tm) : akS sg tc tl tm A A = 0 := by
  refine PS_0 (fun a b q1 q2 q3 => ?_) htm
  by_cases q : FR sg tc tl a b
  · rw [sel_t q]
    refine PS_0 (fun c d p1 p2 p3 => ?_) q1
    by_cases p : FR sg tc tl c d
    · rw [sel_t p]
      unfold akg
      by_cases k : akP sg tc tl a b c d
      · have hne : ¬ lp sg tc tl a b = lp sg tc tl c d := fun e => by
          by_cases hd : d < tl c
          · refine q.2 c d p1 p2 hd (by omega) p.1 k.1 (fun j j0 j1 => ?_)
            by_cases w : j = ln tc tl a b - 1
            · unfold lp at e; rw [k.1] at e; rw [w]; exact e
            · exact k.2.2 j j0 (by omega)
          · have hc : c = a ∧ d < b := by omega
            by_cases hb : b < tl a
            · rw [hc.1] at hd; omega
            · rcases q3 with z | z <;> omega
        rw [sel_t k, bI_f (fun z => hne (z.1.trans z.2.symm)), bI_f (fun z => hne (z.2.trans z.1.symm))]
        rfl
      · exact sel_f k
    · exact sel_f p
  · exact sel_f q
/-! told apart -/
def ApM2 (n : Int) (sg : Int → Int) (ap : Int → Int → Int) (v1 v2 s u v : Int) : Prop := ∃ a b : Int, 0 ≤ a ∧ 0 ≤ b ∧ b < n ∧ (a < v1 ∨ a = v1 ∧ b < v2) ∧ sg a = s ∧ sg b = u ∧ v = ap a b
def ApI (n : Int) (sg : Int → Int) (ap : Int → Int → Int) (m : Int → Int) (v1 v2 : Int) : Prop := ∀ x u : Int, 0 ≤ x → x < 24 → 0 ≤ u → u < 24 → (x = u → m (24 * x + u) = 0) ∧ (¬ x = u → IsMx (ApM2 n sg ap v1 v2 x u) (m (24 * x + u)))
theorem ApI.zero {n : Int} {sg : Int → Int} {ap : Int → Int → Int} {m : Int → Int} (h : ∀ k : Int, 0 ≤ k → k < 576 → m k = 0) : ApI n sg ap m 0 0 := fun x u a b c d => ⟨fun _ => h _ (by omega) (by omega), fun _ => by
  rw [h _ (by omega) (by omega)]
  exact ⟨Or.inl rfl, Int.le_refl _, fun v ⟨p, q, r1, r2, r3, r4, _⟩ => absurd r4 (by omega)⟩⟩
theorem ApI.row {n : Int} {sg : Int → Int} {ap : Int → Int → Int} {m : Int → Int} {v1 v2 : Int} (h : ApI n sg ap m v1 v2) (e : n ≤ v2) : ApI n sg ap m (v1 + 1) 0 := fun x u a b c d => ⟨(h x u a b c d).1, fun z => ((h x u a b c d).2 z).congr (fun v => ⟨fun ⟨p, q, r1, r2, r3, r4, r5⟩ => ⟨p, q, r1, r2, r3, by omega, r5⟩, fun ⟨p, q, r1, r2, r3, r4, r5⟩ => ⟨p, q, r1, r2, r3, by omega, r5⟩⟩)⟩
theorem ApI.fin {n : Int} {sg : Int → Int} {ap : Int → Int → Int} {m : Int → Int} (h : ApI n sg ap m n 0) : ∀ x u : Int, 0 ≤ x → x < 24 → 0 ≤ u → u < 24 → m (24 * x + u) = sel (x = u) 0 (apS n sg ap x u) := fun x u a b c d => by
  by_cases e : x = u
  · rw [sel_t e]; exact (h x u a b c d).1 e
  · rw [sel_f e]
    exact apS_e (((h x u a b c d).2 e).congr (fun v => ⟨fun ⟨p, q, r1, r2, r3, r4, r5⟩ => ⟨p, q, r1, by omega, r2, r3, r5⟩, fun ⟨p, q, r1, r4, r2, r3, r5⟩ => ⟨p, q, r1, r2, r3, by omega, r5⟩⟩))
theorem ApI.st {n : Int} {sg : Int → Int} {ap : Int → Int → Int} {m : Int → Int} {v1 v2 : Int} (h : ApI n sg ap m v1 v2) (h1 : 0 ≤ v1) (h2 : 0 ≤ v2 ∧ v2 < n) (s1 : 0 ≤ sg v1 ∧ sg v1 < 24) (s2 : 0 ≤ sg v2 ∧ sg v2 < 24) (ha : 0 ≤ ap v1 v2) {y : Int} (hy : y = sel (sg v1 = sg v2) 0 (sel (m (24 * sg v1 + sg v2) < ap v1 v2) (ap v1 v2) (m (24 * sg v1 + sg v2)))) : ApI n sg ap (fup m (24 * sg v1 + sg v2) y) v1 (v2 + 1) := by
  intro x u a b c d
  have hm := h x u a b c d
  by_cases e : x = sg v1 ∧ u = sg v2
  · rw [e.1, e.2, fup_s, hy]
    rw [e.1, e.2] at hm
    refine ⟨fun z => sel_t z, fun z => ?_⟩
    rw [sel_f z]
    refine (hm.2 z).yes (fun v => ⟨fun ⟨p, q, r1, r2, r3, r4, r5, r6, r7⟩ => ?_, fun w => w.elim (fun ⟨p, q, r1, r2, r3, r4, r5⟩ => ⟨p, q, r1, r2, r3, by omega, r5⟩) (fun w => ⟨v1, v2, h1, h2.1, h2.2, by omega, rfl, rfl, w⟩)⟩) ha
    by_cases k : p = v1 ∧ q = v2
    · rw [k.1, k.2] at r7; exact Or.inr r7
    · exact Or.inl ⟨p, q, r1, r2, r3, by omega, r5, r6, r7⟩
  · rw [fup_n _ _ (by omega)]
    refine ⟨hm.1, fun z => (hm.2 z).congr (fun v => ⟨fun ⟨p, q, r1, r2, r3, r4, r5⟩ => ⟨p, q, r1, r2, r3, by omega, r5⟩, fun ⟨p, q, r1, r2, r3, r4, r5, r6, r7⟩ => ⟨p, q, r1, r2, r3, ?_, r5, r6, r7⟩⟩)⟩
    have k : ¬ (p = v1 ∧ q = v2) := fun k => by
      rw [k.1] at r5; rw [k.2] at r6
      exact e ⟨r5.symm, r6.symm⟩
    omega
