set_option maxRecDepth 100000
/-! THE PLAIN LAW: endings that share a stem -/
theorem sel_and {α : Type} {c d : Prop} {a b : α} : sel c (sel d a b) b = sel (c ∧ d) a b := by
  by_cases h : c
  · rw [sel_t h]; exact sel_c ⟨fun z => ⟨h, z⟩, fun z => z.2⟩
  · rw [sel_f h, sel_f (fun z => h z.1)]
theorem sel_id {α : Type} (c : Prop) (a : α) : sel c a a = a := sel_by (fun _ => rfl) (fun _ => rfl)
noncomputable def cp (sg : Int → Int) (tc : Int → Int → Int) (a b j : Int) : Int := sa sg (tc a (b + j))
noncomputable def ln (tc : Int → Int → Int) (tl : Int → Int) (a b : Int) : Int := we tc tl a b - b
noncomputable def lp (sg : Int → Int) (tc : Int → Int → Int) (tl : Int → Int) (a b : Int) : Int := cp sg tc a b (ln tc tl a b - 1)
def peq (sg : Int → Int) (tc : Int → Int → Int) (a b c d n : Int) : Prop := ∀ j : Int, 0 ≤ j → j < n → cp sg tc a b j = cp sg tc c d j
def FR (sg : Int → Int) (tc : Int → Int → Int) (tl : Int → Int) (a b : Int) : Prop := wh tc tl a b ∧ ∀ c d : Int, 0 ≤ c → 0 ≤ d → d < tl c → (c < a ∨ c = a ∧ d < b) → wh tc tl c d → ln tc tl c d = ln tc tl a b → ¬ peq sg tc a b c d (ln tc tl a b)
def akP (sg : Int → Int) (tc : Int → Int → Int) (tl : Int → Int) (a b c d : Int) : Prop := ln tc tl c d = ln tc tl a b ∧ 1 < ln tc tl a b ∧ peq sg tc a b c d (ln tc tl a b - 1)
noncomputable def akg (sg : Int → Int) (tc : Int → Int → Int) (tl : Int → Int) (A B a b c d : Int) : Int := sel (akP sg tc tl a b c d) (bI (lp sg tc tl a b = A ∧ lp sg tc tl c d = B) + bI (lp sg tc tl c d = A ∧ lp sg tc tl a b = B)) 0
noncomputable def akS (sg : Int → Int) (tc : Int → Int → Int) (tl : Int → Int) (tm A B : Int) : Int := PS (FR sg tc tl) (fun a b => PS (FR sg tc tl) (fun c d => akg sg tc tl A B a b c d) tl a b) tl tm 0
theorem PS_rB {P : Int → Int → Prop} {g : Int → Int → Int} {tl : Int → Int} {t i B : Int} (htl : ∀ a, 0 ≤ tl a ∧ tl a ≤ 24) (ht : 0 ≤ t ∧ t ≤ 8) (hi : 0 ≤ i ∧ i ≤ 24) (hB : 0 ≤ B) (h : ∀ a b, 0 ≤ a → 0 ≤ b → b ≤ 24 → (a < t ∨ a = t ∧ b < i) → 0 ≤ g a b ∧ g a b ≤ B) : 0 ≤ PS P g tl t i ∧ PS P g tl t i ≤ B * 24 * t + B * i := by
  have rw_ : ∀ a b, 0 ≤ a → 0 ≤ b → b ≤ 24 → (a < t ∨ a = t ∧ b < i) → 0 ≤ sel (P a b) (g a b) 0 ∧ sel (P a b) (g a b) 0 ≤ B := fun a b q1 q2 q3 q4 => sel_rg (fun _ => h a b q1 q2 q3 q4) (fun _ => ⟨Int.le_refl _, hB⟩)
  have h1 := isum_le (f := fun a => isum (fun b => sel (P a b) (g a b) 0) (tl a)) (b := B * 24) (n := t) ht.1 (fun a q1 q2 => by
    have := isum_le (f := fun b => sel (P a b) (g a b) 0) (b := B) (n := tl a) (htl a).1 (fun b q3 q4 => rw_ a b q1 q3 (by have := (htl a).2; omega) (Or.inl q2))
    have m : B * tl a ≤ B * 24 := Int.mul_le_mul_of_nonneg_left (htl a).2 hB
    omega)
  have h2 := isum_le (f := fun b => sel (P t b) (g t b) 0) (b := B) (n := i) hi.1 (fun b q3 q4 => rw_ t b ht.1 q3 (by omega) (Or.inr ⟨rfl, q4⟩))
  unfold PS
  omega
theorem akg_r {sg : Int → Int} {tc : Int → Int → Int} {tl : Int → Int} {A B a b c d : Int} : 0 ≤ akg sg tc tl A B a b c d ∧ akg sg tc tl A B a b c d ≤ 2 := sel_rg (fun _ => by
  have h1 := bI_01 (lp sg tc tl a b = A ∧ lp sg tc tl c d = B)
  have h2 := bI_01 (lp sg tc tl c d = A ∧ lp sg tc tl a b = B)
  omega) (fun _ => by omega)
theorem akS_r {sg : Int → Int} {tc : Int → Int → Int} {tl : Int → Int} {tm A B : Int} (htl : ∀ a, 0 ≤ tl a ∧ tl a ≤ 24) (htm : 0 ≤ tm ∧ tm ≤ 8) : 0 ≤ akS sg tc tl tm A B ∧ akS sg tc tl tm A B ≤ 73728 := by
  have h := PS_rB (P := FR sg tc tl) (g := fun a b => PS (FR sg tc tl) (fun c d => akg sg tc tl A B a b c d) tl a b) (tl := tl) (t := tm) (i := 0) (B := 384) htl htm (by omega) (by omega) (fun a b q1 q2 q3 q4 => by
    have := PS_rB (P := FR sg tc tl) (g := fun c d => akg sg tc tl A B a b c d) (tl := tl) (t := a) (i := b) (B := 2) htl (by omega) ⟨q2, q3⟩ (by omega) (fun c d _ _ _ _ => akg_r)
    show 0 ≤ PS (FR sg tc tl) (fun c d => akg sg tc tl A B a b c d) tl a b ∧ PS (FR sg tc tl) (fun c d => akg sg tc tl A B a b c d) tl a b ≤ 384
    omega)
  unfold akS
  omega
/-! by the words' numbers -/
noncomputable def cw (sg m6 m8 m9 : Int → Int) (w j : Int) : Int := sa sg (m6 (24 * m8 w + (m9 w + j)))
def weq (sg m6 m8 m9 : Int → Int) (w v n : Int) : Prop := ∀ j : Int, 0 ≤ j → j < n → cw sg m6 m8 m9 w j = cw sg m6 m8 m9 v j
def AlTo (sg m6 m8 m9 : Int → Int) (w v N r : Int) : Prop := (0 ≤ r ∧ r ≤ N) ∧ weq sg m6 m8 m9 w v r ∧ (r < N → ¬ cw sg m6 m8 m9 w r = cw sg m6 m8 m9 v r)
theorem AlTo.all {sg m6 m8 m9 : Int → Int} {w v N r : Int} (h : AlTo sg m6 m8 m9 w v N r) : r < N ↔ ¬ weq sg m6 m8 m9 w v N := by
  constructor
  · intro q z; exact h.2.2 q (z r h.1.1 q)
  · intro q
    rcases Int.lt_or_le r N with w | w
    · exact w
    · exact absurd ((show r = N by have := h.1.2; omega) ▸ h.2.1) q
theorem AlTo.but {sg m6 m8 m9 : Int → Int} {w v N r : Int} (h : AlTo sg m6 m8 m9 w v N r) (hN : 1 < N) : r = N - 1 ↔ (weq sg m6 m8 m9 w v (N - 1) ∧ ¬ cw sg m6 m8 m9 w (N - 1) = cw sg m6 m8 m9 v (N - 1)) := by
  constructor
  · intro q; exact ⟨q ▸ h.2.1, q ▸ h.2.2 (by omega)⟩
  · intro q
    rcases Int.lt_trichotomy r (N - 1) with w | w | w
    · exact absurd (q.1 r h.1.1 w) (h.2.2 (by omega))
    · exact w
    · exact absurd (h.2.1 (N - 1) (by omega) w) q.2
def FRw (sg m6 m8 m9 m10 m11 : Int → Int) (w : Int) : Prop := ∀ v : Int, 0 ≤ v → v < w → (m11 v = 0 ∨ ¬ m10 v = m10 w ∨ ¬ weq sg m6 m8 m9 w v (m10 w))
def Pw (sg m6 m8 m9 m10 m11 : Int → Int) (w v : Int) : Prop := (m11 w = 1 ∧ m11 v = 1 ∧ m10 v = m10 w ∧ 1 < m10 w) ∧ (weq sg m6 m8 m9 w v (m10 w - 1) ∧ ¬ cw sg m6 m8 m9 w (m10 w - 1) = cw sg m6 m8 m9 v (m10 w - 1)) ∧ FRw sg m6 m8 m9 m10 m11 w ∧ FRw sg m6 m8 m9 m10 m11 v
noncomputable def gw (sg m6 m8 m9 m10 m11 : Int → Int) (A B w v : Int) : Int := sel (Pw sg m6 m8 m9 m10 m11 w v) (bI (cw sg m6 m8 m9 w (m10 w - 1) = A ∧ cw sg m6 m8 m9 v (m10 w - 1) = B) + bI (cw sg m6 m8 m9 v (m10 w - 1) = A ∧ cw sg m6 m8 m9 w (m10 w - 1) = B)) 0
theorem PS_0 {P : Int → Int → Prop} {g : Int → Int → Int} {tl : Int → Int} {t i : Int} (h : ∀ a b : Int, 0 ≤ a → 0 ≤ b → (a < t ∧ b < tl a ∨ a = t ∧ b < i) → sel (P a b) (g a b) 0 = 0) (ht : 0 ≤ t) : PS P g tl t i = 0 := by
  unfold PS
  rw [isum_all0 (fun a q1 q2 => isum_all0 (fun b q3 q4 => h a b q1 q3 (Or.inl ⟨q2, q4⟩))), isum_all0 (fun b q3 q4 => h t b ht q3 (Or.inr ⟨rfl, q4⟩))]
  rfl
theorem ak_words {sg m6 m8 m9 m10 m11 tl : Int → Int} {tm A B : Int} (htl : ∀ a, 0 ≤ tl a) (htm : 0 ≤ tm) (hwr : WR (mtc m6) tl m8 m9 m10 m11 tm 0) (h01 : ∀ w, m11 w = 0 ∨ m11 w = 1) : isum (fun w => isum (fun v => gw sg m6 m8 m9 m10 m11 A B w v) w) (wk (mtc m6) tl tm 0) = akS sg (mtc m6) tl tm A B := by
  -- one word
  have cel : ∀ a b j : Int, 0 ≤ a → 0 ≤ b → b < tl a → wb (mtc m6) a b → a < tm → cw sg m6 m8 m9 (wk (mtc m6) tl a b) j = cp sg (mtc m6) a b j := fun a b j q1 q2 q3 q4 q5 => by
    obtain ⟨e1, e2, e3, e4⟩ := hwr a b q1 q2 q3 q4 (Or.inl q5)
    unfold cw cp
    rw [e1, e2]
    rfl
  have leq : ∀ a b c d n : Int, 0 ≤ a → 0 ≤ b → b < tl a → wb (mtc m6) a b → a < tm → 0 ≤ c → 0 ≤ d → d < tl c → wb (mtc m6) c d → c < tm → (weq sg m6 m8 m9 (wk (mtc m6) tl a b) (wk (mtc m6) tl c d) n ↔ peq sg (mtc m6) a b c d n) := fun a b c d n q1 q2 q3 q4 q5 p1 p2 p3 p4 p5 => by
    constructor
    · intro z j h1 h2; rw [← cel a b j q1 q2 q3 q4 q5, ← cel c d j p1 p2 p3 p4 p5]; exact z j h1 h2
    · intro z j h1 h2; rw [cel a b j q1 q2 q3 q4 q5, cel c d j p1 p2 p3 p4 p5]; exact z j h1 h2
  have wwh : ∀ a b : Int, 0 ≤ a → 0 ≤ b → b < tl a → wb (mtc m6) a b → a < tm → m10 (wk (mtc m6) tl a b) = ln (mtc m6) tl a b ∧ (m11 (wk (mtc m6) tl a b) = 1 ↔ wh (mtc m6) tl a b) := fun a b q1 q2 q3 q4 q5 => by
    obtain ⟨e1, e2, e3, e4⟩ := hwr a b q1 q2 q3 q4 (Or.inl q5)
    exact ⟨e3, e4⟩
  have ltw : ∀ a b c d : Int, 0 ≤ a → 0 ≤ b → b < tl a → wb (mtc m6) a b → 0 ≤ c → 0 ≤ d → d < tl c → wb (mtc m6) c d → (wk (mtc m6) tl c d < wk (mtc m6) tl a b ↔ (c < a ∨ c = a ∧ d < b)) := fun a b c d q1 q2 q3 q4 p1 p2 p3 p4 => by
    constructor
    · intro z
      rcases Classical.em (c < a ∨ c = a ∧ d < b) with y | y
      · exact y
      · have : wk (mtc m6) tl a b ≤ wk (mtc m6) tl c d := KP_mono htl q1 q2 (by omega) p2 (by omega)
        omega
    · intro z
      have : wk (mtc m6) tl c d + 1 ≤ wk (mtc m6) tl a b := KP_lt htl p1 p2 p3 q2 p4 z
      omega
  have fr : ∀ a b : Int, 0 ≤ a → 0 ≤ b → b < tl a → wb (mtc m6) a b → a < tm → ((m11 (wk (mtc m6) tl a b) = 1 ∧ FRw sg m6 m8 m9 m10 m11 (wk (mtc m6) tl a b)) ↔ FR sg (mtc m6) tl a b) := fun a b q1 q2 q3 q4 q5 => by
    have W := wwh a b q1 q2 q3 q4 q5
    rw [W.2]
    unfold FR FRw
    refine and_congr_right (fun hw => ?_)
    constructor
    · intro z c d p1 p2 p3 p4 p5 p6 p7
      have c5 : c < tm := by omega
      have V := wwh c d p1 p2 p3 p5.1 c5
      rcases z (wk (mtc m6) tl c d) (KP_nn htl p1 p2) ((ltw a b c d q1 q2 q3 q4 p1 p2 p3 p5.1).2 p4) with y | y | y
      · rw [V.2.2 p5] at y; exact absurd y (by omega)
      · rw [V.1, W.1] at y; exact absurd p6 y
      · rw [W.1] at y; exact absurd ((leq a b c d _ q1 q2 q3 q4 q5 p1 p2 p3 p5.1 c5).2 p7) y
    · intro z v h1 h2
      obtain ⟨c, d, p1, p2, p3, p4, p5, p6, p7, p8, p9, p10⟩ := hwr.at htl htm h1 (w := v) (by
        have : wk (mtc m6) tl a b + 1 ≤ wk (mtc m6) tl tm 0 := KP_lt htl q1 q2 q3 (Int.le_refl 0) q4 (Or.inl q5)
        omega)
      have V := wwh c d p1 p3 p4 p5 p2
      rw [← p6] at h2 ⊢
      have lt := (ltw a b c d q1 q2 q3 q4 p1 p3 p4 p5).1 h2
      rcases h01 (wk (mtc m6) tl c d) with y | y
      · exact Or.inl y
      · right
        rw [V.1, W.1]
        by_cases y2 : ln (mtc m6) tl c d = ln (mtc m6) tl a b
        · right
          rw [leq a b c d _ q1 q2 q3 q4 q5 p1 p3 p4 p5 p2]
          exact z c d p1 p3 p4 lt (V.2.1 y) y2
        · exact Or.inl y2
  have pair : ∀ a b c d : Int, 0 ≤ a → 0 ≤ b → b < tl a → wb (mtc m6) a b → a < tm → 0 ≤ c → 0 ≤ d → d < tl c → wb (mtc m6) c d → (c < a ∨ c = a ∧ d < b) → gw sg m6 m8 m9 m10 m11 A B (wk (mtc m6) tl a b) (wk (mtc m6) tl c d) = sel (FR sg (mtc m6) tl a b) (sel (FR sg (mtc m6) tl c d) (akg sg (mtc m6) tl A B a b c d) 0) 0 := fun a b c d q1 q2 q3 q4 q5 p1 p2 p3 p4 lt => by
    have p5 : c < tm := by omega
    have W := wwh a b q1 q2 q3 q4 q5
    have V := wwh c d p1 p2 p3 p4 p5
    have f1 := fr a b q1 q2 q3 q4 q5
    have f2 := fr c d p1 p2 p3 p4 p5
    have PW : Pw sg m6 m8 m9 m10 m11 (wk (mtc m6) tl a b) (wk (mtc m6) tl c d) ↔ (FR sg (mtc m6) tl a b ∧ FR sg (mtc m6) tl c d ∧ akP sg (mtc m6) tl a b c d) := by
      rw [← f1, ← f2]
      unfold Pw akP
      rw [V.1, W.1, leq a b c d _ q1 q2 q3 q4 q5 p1 p2 p3 p4 p5]
      constructor
      · rintro ⟨⟨a1, a2, a3, a4⟩, ⟨a5, a6⟩, a7, a8⟩
        exact ⟨⟨a1, a7⟩, ⟨a2, a8⟩, a3, a4, a5⟩
      · rintro ⟨⟨a1, a7⟩, ⟨a2, a8⟩, a3, a4, a5⟩
        refine ⟨⟨a1, a2, a3, a4⟩, ⟨a5, fun z => ?_⟩, a7, a8⟩
        refine (f1.1 ⟨a1, a7⟩).2 c d p1 p2 p3 lt (V.2.1 a2) a3 (fun j j1 j2 => ?_)
        by_cases y : j = ln (mtc m6) tl a b - 1
        · rw [y, ← cel a b _ q1 q2 q3 q4 q5, ← cel c d _ p1 p2 p3 p4 p5]; exact z
        · exact a5 j j1 (by omega)
    unfold gw
    rw [sel_c PW]
    by_cases y1 : FR sg (mtc m6) tl a b
    · by_cases y2 : FR sg (mtc m6) tl c d
      · rw [sel_t y1, sel_t y2]
        unfold akg
        by_cases y3 : akP sg (mtc m6) tl a b c d
        · rw [sel_t ⟨y1, y2, y3⟩, sel_t y3, W.1]
          unfold lp
          rw [y3.1, cel a b _ q1 q2 q3 q4 q5, cel c d _ p1 p2 p3 p4 p5]
        · rw [sel_f (fun z => y3 z.2.2), sel_f y3]
      · rw [sel_t y1, sel_f y2, sel_f (fun z => y2 z.2.1)]
    · rw [sel_f y1, sel_f (fun z => y1 z.1)]
  unfold akS
  refine (wk_sum (g := fun a b => sel (FR sg (mtc m6) tl a b) (PS (FR sg (mtc m6) tl) (fun c d => akg sg (mtc m6) tl A B a b c d) tl a b) 0) htl htm (Int.le_refl 0) (Or.inr rfl) (fun a b q1 q2 q3 q4 q5 => ?_)).trans (PS_congr (fun _ _ _ => rfl) (fun a b q1 q2 q3 => ?_) htm)
  · have q6 : a < tm := by omega
    refine (wk_sum (G := fun v => gw sg m6 m8 m9 m10 m11 A B (wk (mtc m6) tl a b) v) (g := fun c d => sel (FR sg (mtc m6) tl a b) (sel (FR sg (mtc m6) tl c d) (akg sg (mtc m6) tl A B a b c d) 0) 0) htl q1 q2 (Or.inl (by omega)) (fun c d p1 p2 p3 p4 p5 => pair a b c d q1 q2 q3 q4 q6 p1 p2 p3 p4 p5)).trans ?_
    by_cases y1 : FR sg (mtc m6) tl a b
    · rw [sel_t y1]
      refine PS_congr (fun _ _ _ => rfl) (fun c d p1 p2 p3 => ?_) q1
      rw [sel_t y1]
      by_cases y2 : FR sg (mtc m6) tl c d
      · rw [sel_t y2, sel_t y2.1.1]
      · rw [sel_f y2]; exact sel_id _ _
    · rw [sel_f y1]
      exact PS_0 (fun c d p1 p2 p3 => by rw [sel_f y1]; exact sel_id _ _) q1
  · by_cases y2 : FR sg (mtc m6) tl a b
    · rw [sel_t y2, sel_t y2.1.1]
    · rw [sel_f y2]; exact sel_id _ _
/-! one more pair -/
theorem ak_up {m : Int → Int} {a b A B : Int} (ha : 0 ≤ a ∧ a < 24) (hb : 0 ≤ b ∧ b < 24) (hA : 0 ≤ A ∧ A < 24) (hB : 0 ≤ B ∧ B < 24) (hne : ¬ a = b) : fup (fup m (24 * a + b) (m (24 * a + b) + 1)) (24 * b + a) (fup m (24 * a + b) (m (24 * a + b) + 1) (24 * b + a) + 1) (24 * A + B) = m (24 * A + B) + (bI (a = A ∧ b = B) + bI (b = A ∧ a = B)) := by
  rw [fup_n _ _ (show ¬ 24 * b + a = 24 * a + b by omega)]
  by_cases e1 : 24 * A + B = 24 * b + a
  · rw [e1, fup_s, bI_f (by omega), bI_t (by omega)]; omega
  · rw [fup_n _ _ e1]
    by_cases e2 : 24 * A + B = 24 * a + b
    · rw [e2, fup_s, bI_t (by omega), bI_f (by omega)]; omega
    · rw [fup_n _ _ e2, bI_f (by omega), bI_f (by omega)]; omega
theorem gw_t {sg m6 m8 m9 m10 m11 : Int → Int} {A B w v : Int} (h : Pw sg m6 m8 m9 m10 m11 w v) : gw sg m6 m8 m9 m10 m11 A B w v = bI (cw sg m6 m8 m9 w (m10 w - 1) = A ∧ cw sg m6 m8 m9 v (m10 w - 1) = B) + bI (cw sg m6 m8 m9 v (m10 w - 1) = A ∧ cw sg m6 m8 m9 w (m10 w - 1) = B) := sel_t h
theorem gw_f {sg m6 m8 m9 m10 m11 : Int → Int} {A B w v : Int} (h : ¬ Pw sg m6 m8 m9 m10 m11 w v) : gw sg m6 m8 m9 m10 m11 A B w v = 0 := sel_f h
/-! told apart; the grid -/
def ApM (n : Int) (sg : Int → Int) (ap : Int → Int → Int) (s u v : Int) : Prop := ∃ a b : Int, 0 ≤ a ∧ a < n ∧ 0 ≤ b ∧ b < n ∧ sg a = s ∧ sg b = u ∧ v = ap a b
noncomputable def apS (n : Int) (sg : Int → Int) (ap : Int → Int → Int) (s u : Int) : Int := Classical.epsilon (IsMx (ApM n sg ap s u))
theorem apS_e {n : Int} {sg : Int → Int} {ap : Int → Int → Int} {s u m : Int} (h : IsMx (ApM n sg ap s u) m) : m = apS n sg ap s u := h.uq (Classical.epsilon_spec ⟨m, h⟩)
theorem IsMx.st3 {S S' : Int → Prop} {m x : Int} {c : Prop} (h : IsMx S m) (hS : ∀ v, S' v ↔ (S v ∨ (c ∧ v = x))) (hx : 0 ≤ x) : IsMx S' (sel (m < sel c x 0) (sel c x 0) m) := by
  have h0 := h.2.1
  by_cases q : c
  · rw [sel_t q]
    refine ⟨?_, ?_, fun v hv => ?_⟩
    · by_cases z : m < x
      · rw [sel_t z]; exact Or.inr ((hS x).2 (Or.inr ⟨q, rfl⟩))
      · rw [sel_f z]; exact h.1.imp id (fun y => (hS m).2 (Or.inl y))
    · by_cases z : m < x
      · rw [sel_t z]; exact hx
      · rw [sel_f z]; exact h0
    · rcases (hS v).1 hv with y | ⟨_, y⟩
      · have := h.2.2 v y
        by_cases z : m < x
        · rw [sel_t z]; omega
        · rw [sel_f z]; omega
      · by_cases z : m < x
        · rw [sel_t z]; omega
        · rw [sel_f z]; omega
  · rw [sel_f q, sel_f (by omega)]
    exact h.congr (fun v => ⟨fun y => (hS v).2 (Or.inl y), fun y => ((hS v).1 y).elim id (fun z => absurd z.1 q)⟩)
theorem IsMx.bd {S : Int → Prop} {m B : Int} (h : IsMx S m) (hB : 0 ≤ B) (hS : ∀ v, S v → v ≤ B) : 0 ≤ m ∧ m ≤ B := ⟨h.2.1, by rcases h.1 with q | q; omega; exact hS m q⟩
def GSg (n : Int) (sg : Int → Int) (ak ap : Int → Int → Int) (s : Int) : Prop := sg s = s ∧ ∃ u : Int, 0 ≤ u ∧ u < n ∧ sg u = u ∧ ¬ u = s ∧ (0 < ak s u ∨ 0 < ap s u)
noncomputable def gmS (P : Int → Prop) : Int → Int := ifo (fun c s => sel (P s ∧ c < 8) (c + 1) c) 0
noncomputable def gsA (P : Int → Prop) : Int → Int → Int := ifo (fun f s => sel (P s ∧ gmS P s < 8) (fup f (gmS P s) s) f) (fun _ => 0)
theorem gmS_s {P : Int → Prop} {n : Int} (h : 0 ≤ n) : gmS P (n + 1) = sel (P n ∧ gmS P n < 8) (gmS P n + 1) (gmS P n) := ifo_s h
theorem gsA_s {P : Int → Prop} {n : Int} (h : 0 ≤ n) : gsA P (n + 1) = sel (P n ∧ gmS P n < 8) (fup (gsA P n) (gmS P n) n) (gsA P n) := ifo_s h
theorem gmS_r {P : Int → Prop} {n : Int} (h : 0 ≤ n) : 0 ≤ gmS P n ∧ gmS P n ≤ 8 := by
  refine int_ind (P := fun n => 0 ≤ gmS P n ∧ gmS P n ≤ 8) h ⟨Int.le_refl _, by show (0 : Int) ≤ 8; omega⟩ (fun m h1 h2 ih => ?_)
  rw [gmS_s h1]
  by_cases q : P m ∧ gmS P m < 8
  · rw [sel_t q]; omega
  · rw [sel_f q]; exact ih
/-- the signs of the grid are signs, of less than n, one behind another one -/
theorem gsA_r {P : Int → Prop} {n k : Int} (h : 0 ≤ n) (hk : 0 ≤ k ∧ k < gmS P n) : 0 ≤ gsA P n k ∧ gsA P n k < n ∧ P (gsA P n k) := by
  refine int_ind (P := fun n => ∀ k : Int, 0 ≤ k → k < gmS P n → 0 ≤ gsA P n k ∧ gsA P n k < n ∧ P (gsA P n k)) h (fun k h1 h2 => absurd h1 (by have : gmS P 0 = 0 := rfl; omega)) (fun m h1 h2 ih k h3 h4 => ?_) k hk.1 hk.2
  rw [gmS_s h1] at h4
  rw [gsA_s h1]
  by_cases q : P m ∧ gmS P m < 8
  · rw [sel_t q] at h4 ⊢
    by_cases e : k = gmS P m
    · rw [e, fup_s]; exact ⟨h1, by omega, q.1⟩
    · rw [fup_n _ _ e]
      have := ih k h3 (by omega)
      exact ⟨this.1, by omega, this.2.2⟩
  · rw [sel_f q] at h4 ⊢
    have := ih k h3 h4
    exact ⟨this.1, by omega, this.2.2⟩
theorem gsA_inj {P : Int → Prop} {n j k : Int} (h : 0 ≤ n) (hj : 0 ≤ j ∧ j < k) (hk : k < gmS P n) : gsA P n j < gsA P n k := by
  refine int_ind (P := fun n => ∀ j k : Int, 0 ≤ j → j < k → k < gmS P n → gsA P n j < gsA P n k) h (fun j k h1 h2 h3 => absurd h3 (by have : gmS P 0 = 0 := rfl; omega)) (fun m h1 h2 ih j k h3 h4 h5 => ?_) j k hj.1 hj.2 hk
  rw [gmS_s h1] at h5
  rw [gsA_s h1]
  by_cases q : P m ∧ gmS P m < 8
  · rw [sel_t q] at h5 ⊢
    by_cases e : k = gmS P m
    · rw [e, fup_s, fup_n _ _ (by omega)]
      exact (gsA_r h1 ⟨h3, by omega⟩).2.1
    · rw [fup_n _ _ e, fup_n _ _ (by omega)]
      exact ih j k h3 h4 (by omega)
  · rw [sel_f q] at h5 ⊢
    exact ih j k h3 h4 h5
theorem gm_cg {P P' : Int → Prop} {n : Int} (h : 0 ≤ n) (e : ∀ s : Int, 0 ≤ s → s < n → (P s ↔ P' s)) : gmS P n = gmS P' n ∧ gsA P n = gsA P' n := by
  refine int_ind (P := fun m => m ≤ n → gmS P m = gmS P' m ∧ gsA P m = gsA P' m) h (fun _ => ⟨rfl, rfl⟩) (fun m h1 h2 ih _ => ?_) (Int.le_refl _)
  have a := ih (by omega)
  rw [gmS_s h1, gmS_s h1, gsA_s h1, gsA_s h1, a.1, a.2, sel_c (show (P m ∧ gmS P' m < 8) ↔ (P' m ∧ gmS P' m < 8) by rw [e m h1 h2])]
  exact ⟨rfl, sel_c (show (P m ∧ gmS P' m < 8) ↔ (P' m ∧ gmS P' m < 8) by rw [e m h1 h2])⟩
/-- the quarrel of rows -/
noncomputable def qS (gm : Int) (ap ak : Int → Int → Int) (row : Int → Int) : Int := isum (fun i => isum (fun j => sel (row i = row j) (ap i j) (ak i j)) i) gm
theorem qS_r {gm : Int} {ap ak : Int → Int → Int} {row : Int → Int} (hg : 0 ≤ gm ∧ gm ≤ 8) (h : ∀ i j : Int, 0 ≤ j → j < i → i < gm → (0 ≤ ap i j ∧ ap i j ≤ 73728) ∧ (0 ≤ ak i j ∧ ak i j ≤ 73728)) : 0 ≤ qS gm ap ak row ∧ qS gm ap ak row ≤ 4718592 := by
  have h1 := isum_le (f := fun i => isum (fun j => sel (row i = row j) (ap i j) (ak i j)) i) (b := 589824) (n := gm) hg.1 (fun i q1 q2 => by
    have := isum_le (f := fun j => sel (row i = row j) (ap i j) (ak i j)) (b := 73728) (n := i) q1 (fun j p1 p2 => sel_rg (fun _ => (h i j p1 p2 q2).1) (fun _ => (h i j p1 p2 q2).2))
    omega)
  unfold qS
  omega
theorem qS_cg {gm : Int} {ap ak ap' ak' : Int → Int → Int} {row row' : Int → Int} (hr : ∀ i : Int, 0 ≤ i → i < gm → row i = row' i) (h : ∀ i j : Int, 0 ≤ j → j < i → i < gm → ap i j = ap' i j ∧ ak i j = ak' i j) : qS gm ap ak row = qS gm ap' ak' row' := isum_congr (fun i q1 q2 => isum_congr (fun j p1 p2 => by rw [hr i q1 q2, hr j p1 (by omega), (h i j p1 p2 q2).1, (h i j p1 p2 q2).2]))
/-! all rows, one behind another -/
def vl (R : Int) (f : Int → Int) (n : Int) : Int := ifo (fun v j => R * v + f j) 0 n
theorem vl_s {R : Int} {f : Int → Int} {n : Int} (h : 0 ≤ n) : vl R f (n + 1) = R * vl R f n + f n := ifo_s h
def Dg (R : Int) (f : Int → Int) (n : Int) : Prop := ∀ j : Int, 0 ≤ j → j < n → 0 ≤ f j ∧ f j < R
theorem vl_uq {R : Int} {f g : Int → Int} {n : Int} (hn : 0 ≤ n) (hf : Dg R f n) (hg : Dg R g n) (e : vl R f n = vl R g n) : ∀ j : Int, 0 ≤ j → j < n → f j = g j := by
  refine int_ind (P := fun m => m ≤ n → vl R f m = vl R g m → ∀ j : Int, 0 ≤ j → j < m → f j = g j) hn (fun _ _ j a b => absurd a (by omega)) (fun m h1 h2 ih _ e2 j a b => ?_) (Int.le_refl _) e
  rw [vl_s h1, vl_s h1] at e2
  have a1 := hf m h1 h2
  have a2 := hg m h1 h2
  have em : f m = g m := by
    have c1 : (R * vl R f m + f m) % R = f m := by rw [Int.mul_add_emod_self_left, Int.emod_eq_of_lt a1.1 a1.2]
    have c2 : (R * vl R g m + g m) % R = g m := by rw [Int.mul_add_emod_self_left, Int.emod_eq_of_lt a2.1 a2.2]
    rw [← c1, ← c2, e2]
  have ev : vl R f m = vl R g m := Int.eq_of_mul_eq_mul_left (show R ≠ 0 by omega) (by omega)
  by_cases q : j = m
  · rw [q]; exact em
  · exact ih (by omega) ev j a (by omega)
theorem vl_cg {R : Int} {f g : Int → Int} {n : Int} (hn : 0 ≤ n) (e : ∀ j : Int, 0 ≤ j → j < n → f j = g j) : vl R f n = vl R g n := by
  refine int_ind (P := fun m => m ≤ n → vl R f m = vl R g m) hn (fun _ => rfl) (fun m h1 h2 ih _ => ?_) (Int.le_refl _)
  rw [vl_s h1, vl_s h1, ih (by omega), e m h1 h2]
theorem vl_le {R : Int} {f : Int → Int} {n : Int} (hn : 0 ≤ n) (hR : 1 ≤ R) (hf : Dg R f n) : 0 ≤ vl R f n ∧ vl R f n ≤ vl R (fun _ => R - 1) n := by
  refine int_ind (P := fun m => m ≤ n → 0 ≤ vl R f m ∧ vl R f m ≤ vl R (fun _ => R - 1) m) hn (fun _ => ⟨Int.le_refl _, Int.le_refl _⟩) (fun m h1 h2 ih _ => ?_) (Int.le_refl _)
  have a := ih (by omega)
  have b := hf m h1 h2
  rw [vl_s h1, vl_s h1]
  have c := Int.mul_le_mul_of_nonneg_left a.2 (show 0 ≤ R by omega)
  have d := Int.mul_nonneg (show 0 ≤ R by omega) a.1
  exact ⟨by omega, by omega⟩
/-- one more, with all behind a place gone round -/
theorem vl_up {R : Int} {f g : Int → Int} {n i : Int} (hi : 0 ≤ i ∧ i < n) (h1 : ∀ j : Int, 0 ≤ j → j < i → g j = f j) (h2 : g i = f i + 1) (h3 : ∀ j : Int, i < j → j < n → f j = R - 1 ∧ g j = 0) : vl R g n = vl R f n + 1 := by
  have base : vl R g (i + 1) = vl R f (i + 1) + 1 := by
    rw [vl_s hi.1, vl_s hi.1, vl_cg hi.1 h1, h2]; omega
  have : ∀ d : Int, 0 ≤ d → i + 1 + d ≤ n → vl R g (i + 1 + d) = vl R f (i + 1 + d) + 1 := by
    intro d hd
    refine int_ind (P := fun d => i + 1 + d ≤ n → vl R g (i + 1 + d) = vl R f (i + 1 + d) + 1) hd (fun _ => by rw [Int.add_zero]; exact base) (fun m q1 q2 ih q3 => ?_)
    rw [← Int.add_assoc, vl_s (by omega), vl_s (by omega), ih (by omega), (h3 _ (by omega) (by omega)).1, (h3 _ (by omega) (by omega)).2, Int.mul_add]
    omega
  have z := this (n - (i + 1)) (by omega) (by omega)
  rw [show i + 1 + (n - (i + 1)) = n by omega] at z
  exact z
noncomputable def rkS (R n k : Int) : Int → Int := Classical.epsilon (fun f => Dg R f n ∧ vl R f n = k)
theorem rkS_e {R n k : Int} {f : Int → Int} (hn : 0 ≤ n) (hf : Dg R f n) (e : vl R f n = k) : ∀ j : Int, 0 ≤ j → j < n → f j = rkS R n k j := by
  have z : Dg R (rkS R n k) n ∧ vl R (rkS R n k) n = k := Classical.epsilon_spec (p := fun f => Dg R f n ∧ vl R f n = k) ⟨f, hf, e⟩
  exact vl_uq hn hf z.1 (e.trans z.2.symm)
noncomputable def rT (R n : Int) : Int := vl R (fun _ => R - 1) n + 1
noncomputable def mnI (g : Int → Int) : Int → Int := ifo (fun i k => sel (g k < g i) k i) 0
theorem mnI_s {g : Int → Int} {k : Int} (h : 0 ≤ k) : mnI g (k + 1) = sel (g k < g (mnI g k)) k (mnI g k) := ifo_s h
theorem mnI_r {g : Int → Int} {k : Int} (h : 0 < k) : 0 ≤ mnI g k ∧ mnI g k < k := by
  refine int_ind (P := fun k => 0 ≤ mnI g (k + 1) ∧ mnI g (k + 1) < k + 1) (n := k - 1) (by omega) ?_ (fun m h1 h2 ih => ?_) |> (fun z => by rw [show k - 1 + 1 = k by omega] at z; exact z)
  · rw [mnI_s (Int.le_refl 0)]
    have e : mnI g 0 = 0 := rfl
    rw [e, sel_f (by omega)]
    omega
  · rw [mnI_s (by omega)]
    by_cases q : g (m + 1) < g (mnI g (m + 1))
    · rw [sel_t q]; omega
    · rw [sel_f q]; omega
/-- the first least: of what was gone through -/
theorem mn_up {g : Int → Int} {k b v : Int} (h : 0 ≤ k) (hv : v = g k) (hb : 0 < k → b = g (mnI g k)) (c : k = 0 ∨ v < b) : v = g (mnI g (k + 1)) ∧ mnI g (k + 1) = k := by
  have e : mnI g (k + 1) = k := by
    rw [mnI_s h]
    rcases c with c | c
    · rw [c]
      have e : mnI g 0 = 0 := rfl
      rw [e, sel_f (by omega)]
    · rcases Int.lt_or_le 0 k with q | q
      · exact sel_t (by rw [← hb q, ← hv]; exact c)
      · have z : k = 0 := by omega
        rw [z]
        have e : mnI g 0 = 0 := rfl
        rw [e, sel_f (by omega)]
  rw [e]
  exact ⟨hv, rfl⟩
theorem mn_no {g : Int → Int} {k b v : Int} (h : 0 < k) (hv : v = g k) (hb : b = g (mnI g k)) (c : ¬ v < b) : b = g (mnI g (k + 1)) ∧ mnI g (k + 1) = mnI g k := by
  have e : mnI g (k + 1) = mnI g k := by rw [mnI_s (by omega), sel_f (by rw [← hb, ← hv]; exact c)]
  rw [e]
  exact ⟨hb, rfl⟩
theorem mn_cg {g g' : Int → Int} {k : Int} (h : 0 ≤ k) (e : ∀ j : Int, 0 ≤ j → j < k → g j = g' j) : mnI g k = mnI g' k := by
  refine int_ind (P := fun m => m ≤ k → mnI g m = mnI g' m) h (fun _ => rfl) (fun m h1 h2 ih _ => ?_) (Int.le_refl _)
  have a := ih (by omega)
  rw [mnI_s h1, mnI_s h1, a]
  rcases Int.lt_or_le 0 m with q | q
  · have := mnI_r (g := g') q
    rw [e m h1 h2, e (mnI g' m) this.1 (by omega)]
  · have z : m = 0 := by omega
    rw [z]
    have e : mnI g' 0 = 0 := rfl
    rw [e, sel_f (by omega), sel_f (by omega)]
theorem WR.wf {tc : Int → Int → Int} {tl : Int → Int} {m8 m9 m10 m11 : Int → Int} {tm wn : Int} (htl : ∀ a, 0 ≤ tl a ∧ tl a ≤ 24) (htm : 0 ≤ tm) (h : WR tc tl m8 m9 m10 m11 tm 0) (hn : wn = wk tc tl tm 0) : ∀ k : Int, 0 ≤ k → k < wn → 0 ≤ m9 k ∧ 0 ≤ m10 k ∧ m9 k + m10 k ≤ 24 := by
  intro k h1 h2
  obtain ⟨c, d, p1, p2, p3, p4, p5, p6, p7, p8, p9, p10⟩ := h.at (fun a => (htl a).1) htm h1 (by omega)
  have e := we_E (tc := tc) (tl := tl) (t := c) (i := d) (by omega)
  have e1 := e.1
  have e2 := e.2.1
  have e3 := htl c
  omega
theorem WR.cell {m6 tl : Int → Int} {m8 m9 m10 m11 : Int → Int} {tm wn : Int} (htl : ∀ a, 0 ≤ tl a ∧ tl a ≤ 24) (htm : 0 ≤ tm) (h : WR (mtc m6) tl m8 m9 m10 m11 tm 0) (hn : wn = wk (mtc m6) tl tm 0) (hcl : ∀ q, -2 ≤ m6 q) {w j : Int} (h1 : 0 ≤ w) (h2 : w < wn) (hw : m11 w = 1) (hj : 0 ≤ j ∧ j < m10 w) : 0 ≤ m6 (24 * m8 w + (m9 w + j)) := by
  obtain ⟨c, d, p1, p2, p3, p4, p5, p6, p7, p8, p9, p10⟩ := h.at (fun a => (htl a).1) htm h1 (by omega)
  have z := wh_cell (tc := mtc m6) (p10.1.1 hw) (by omega) (fun j => hcl _) (j := d + j) (by omega) (by omega)
  rw [p7, p8]
  exact z
theorem ex_s {Q : Int → Prop} {n : Int} (h : 0 ≤ n) : (∃ u : Int, 0 ≤ u ∧ u < n + 1 ∧ Q u) ↔ ((∃ u : Int, 0 ≤ u ∧ u < n ∧ Q u) ∨ Q n) := by
  constructor
  · rintro ⟨u, a, b, c⟩
    by_cases e : u = n
    · rw [e] at c; exact Or.inr c
    · exact Or.inl ⟨u, a, by omega, c⟩
  · rintro (⟨u, a, b, c⟩ | c)
    · exact ⟨u, a, by omega, c⟩
    · exact ⟨n, h, by omega, c⟩
theorem gs_yes {P : Int → Prop} {n f : Int} {m : Int → Int} (h : 0 ≤ n) (hf : f = gmS P n) (hm : ∀ k : Int, 0 ≤ k → k < f → m k = gsA P n k) (hp : P n) (h8 : f < 8) : f + 1 = gmS P (n + 1) ∧ ∀ k : Int, 0 ≤ k → k < f + 1 → fup m f n k = gsA P (n + 1) k := by
  rw [gmS_s h, gsA_s h, ← hf, sel_t ⟨hp, h8⟩, sel_t ⟨hp, h8⟩]
  refine ⟨rfl, fun k a b => ?_⟩
  by_cases e : k = f
  · rw [e, fup_s, fup_s]
  · rw [fup_n _ _ e, fup_n _ _ e]; exact hm k a (by omega)
theorem gs_no {P : Int → Prop} {n f : Int} {m : Int → Int} (h : 0 ≤ n) (hf : f = gmS P n) (hm : ∀ k : Int, 0 ≤ k → k < f → m k = gsA P n k) (hp : ¬ (P n ∧ f < 8)) : f = gmS P (n + 1) ∧ ∀ k : Int, 0 ≤ k → k < f → m k = gsA P (n + 1) k := by
  rw [gmS_s h, gsA_s h, ← hf, sel_f hp, sel_f hp]
  exact ⟨rfl, hm⟩
theorem rT_lt {R n : Int} {f : Int → Int} (hn : 0 ≤ n) (hR : 1 ≤ R) (hf : Dg R f n) : 0 ≤ vl R f n ∧ vl R f n < rT R n := by
  have := vl_le hn hR hf
  unfold rT
  omega
theorem rT_end {R n : Int} {f : Int → Int} (hn : 0 ≤ n) (h : ∀ j : Int, 0 ≤ j → j < n → f j = R - 1) : vl R f n + 1 = rT R n := by
  unfold rT
  rw [vl_cg hn h]
theorem Dg.up {R n i : Int} {f g : Int → Int} (hf : Dg R f n) (hi : 0 ≤ i ∧ i < n) (h1 : ∀ j : Int, 0 ≤ j → j < i → g j = f j) (h2 : g i = f i + 1) (h2r : ¬ f i = R - 1) (h3 : ∀ j : Int, i < j → j < n → g j = 0) (hR : 1 ≤ R) : Dg R g n := by
  intro j a b
  rcases Int.lt_trichotomy j i with q | q | q
  · rw [h1 j a q]; exact hf j a b
  · rw [q, h2]; have := hf i hi.1 hi.2; omega
  · rw [h3 j q b]; omega
theorem rkS_g {R n : Int} {f : Int → Int} (hn : 0 ≤ n) (hf : Dg R f n) : ∀ j : Int, 0 ≤ j → j < n → f j = rkS R n (vl R f n) j := rkS_e hn hf rfl
theorem vl_0 {R n : Int} (hn : 0 ≤ n) : vl R (fun _ => 0) n = 0 := by
  refine int_ind (P := fun n => vl R (fun _ => 0) n = 0) hn rfl (fun m h1 h2 ih => ?_)
  rw [vl_s h1, ih, Int.mul_zero]
  rfl
