set_option maxRecDepth 100000
/-! THE PLAIN LAW for the component: claims from tokens -/
theorem tk_r (t : Int → Int) (n p : Int) : 0 ≤ tk t n p ∧ tk t n p ≤ 4 := by
  unfold tk
  exact sel_rg (fun _ => by omega) (fun _ => sel_rg (fun _ => by omega) (fun _ => sel_rg (fun _ => by omega) (fun _ => sel_rg (fun _ => by omega) (fun _ => by omega))))
theorem TokX.kd {t : Int → Int} {n p fr to kd vl : Int} (h : TokX t n p fr to kd vl) : (tk t n p = 4 ∧ kd = 3) ∨ (¬ tk t n p = 4 ∧ kd = tk t n p) := by
  by_cases q : tk t n p = 4
  · exact Or.inl ⟨q, by rw [h.1.2.2.2, sel_t q]⟩
  · exact Or.inr ⟨q, by rw [h.1.2.2.2, sel_f q]⟩
theorem TokX.k1 {t : Int → Int} {n p fr to kd vl : Int} (h : TokX t n p fr to kd vl) : kd = 1 ↔ tk t n p = 1 := by rcases h.kd with q | q <;> omega
theorem TokX.k2 {t : Int → Int} {n p fr to kd vl : Int} (h : TokX t n p fr to kd vl) : kd = 2 ↔ tk t n p = 2 := by rcases h.kd with q | q <;> omega
theorem TokX.k0 {t : Int → Int} {n p fr to kd vl : Int} (h : TokX t n p fr to kd vl) : kd = 0 ↔ tk t n p = 0 := by rcases h.kd with q | q <;> omega
theorem TokX.m59 {t : Int → Int} {n p fr to kd vl : Int} (h : TokX t n p fr to kd vl) : (kd = 3 ∧ vl = 59) ↔ tk t n p = 3 := by
  have a := h.2.2.1; have b := h.2.2.2; have r := tk_r t n p
  rcases h.kd with q | q
  · have := b q.1; omega
  · refine ⟨fun z => by omega, fun z => ⟨by omega, a z⟩⟩
theorem TokX.m44 {t : Int → Int} {n p fr to kd vl : Int} (h : TokX t n p fr to kd vl) : (kd = 3 ∧ vl = 44) ↔ tk t n p = 4 := by
  have a := h.2.2.1; have b := h.2.2.2
  rcases h.kd with q | q
  · exact ⟨fun _ => q.1, fun _ => ⟨q.2, b q.1⟩⟩
  · refine ⟨fun z => ?_, fun z => absurd z q.1⟩
    have := a (by omega)
    omega
theorem TokX.adv {b : Int → Int} {n p fr to kd vl : Int} (h : TokX (t8 b) n p fr to kd vl) (hp : 0 ≤ p ∧ p ≤ n) : p ≤ fr ∧ fr ≤ to ∧ to ≤ n ∧ (¬ kd = 0 → p < to) := by
  have r := tok_r (t := t8 b) (t8_r b) hp
  have e1 := h.1.2.1; have e2 := h.1.2.2.1; have k0 := h.k0
  refine ⟨by omega, by omega, by omega, fun z => ?_⟩
  have := r.2.2.1 (fun y => z (k0.2 y))
  omega
theorem hang_x {t g : Int → Int} {n m p on fr to kd vl : Int} (h : TokX t n p fr to kd vl) (k : Nat) : (¬ kd = 2 → hang t n g m (k + 1) p on = pBad 2 fr) ∧ (kd = 2 → ¬ ((vl < m ∧ g vl = -4) ∧ on / 2 ^ vl.toNat % 2 = 0) → hang t n g m (k + 1) p on = pBad 3 fr) ∧ (kd = 2 → ((vl < m ∧ g vl = -4) ∧ on / 2 ^ vl.toNat % 2 = 0) → (¬ te t n to = 0 → hang t n g m (k + 1) p on = pBad 1 (tf t n to)) ∧ (te t n to = 0 → hang t n g m (k + 1) p on = sel (tk t n to = 4) (hang t n g m k (tp t n to) (on + 2 ^ vl.toNat)) (pOk to (on + 2 ^ vl.toNat)))) := by
  have e0 : hang t n g m (k + 1) p on = sel (¬ te t n p = 0) (pBad 1 (tf t n p)) (sel (¬ tk t n p = 2) (pBad 2 (tf t n p)) (sel (¬ ((tv t n p < m ∧ g (tv t n p) = -4) ∧ on / 2 ^ (tv t n p).toNat % 2 = 0)) (pBad 3 (tf t n p)) (sel (¬ te t n (tp t n p) = 0) (pBad 1 (tf t n (tp t n p))) (sel (tk t n (tp t n p) = 4) (hang t n g m k (tp t n (tp t n p)) (on + 2 ^ (tv t n p).toNat)) (pOk (tp t n p) (on + 2 ^ (tv t n p).toNat)))))) := rfl
  rw [sel_f (fun z => z h.1.1), ← h.1.2.1, ← h.1.2.2.1] at e0
  have k2 := h.k2
  refine ⟨fun z => ?_, fun z y => ?_, fun z y => ⟨fun w => ?_, fun w => ?_⟩⟩
  · rw [e0, sel_t (fun q => z (k2.2 q))]
  · have ev := h.2.1 (Or.inr (k2.1 z))
    rw [e0, ← ev, sel_f (fun q => q (k2.1 z)), sel_t y]
  · have ev := h.2.1 (Or.inr (k2.1 z))
    rw [e0, ← ev, sel_f (fun q => q (k2.1 z)), sel_f (fun q => q y), sel_t w]
  · have ev := h.2.1 (Or.inr (k2.1 z))
    rw [e0, ← ev, sel_f (fun q => q (k2.1 z)), sel_f (fun q => q y), sel_f (fun q => q w)]
theorem rclaim_1 {t kd nu gn : Int → Int} {n many p fr to k v : Int} (h : TokX t n p fr to k v) : (¬ (k = 1 ∧ v < 5) → rclaim t n kd nu gn many p = pBad 2 fr) ∧ (k = 1 ∧ v < 5 → (¬ many < 20 → rclaim t n kd nu gn many p = pBad 5 fr) ∧ (many < 20 → (¬ te t n to = 0 → rclaim t n kd nu gn many p = pBad 1 (tf t n to)) ∧ (te t n to = 0 → rclaim t n kd nu gn many p = (sel (¬ tk t n to = 2) (pBad 2 (tf t n to))
    (sel (¬ ∀ k : Int, 0 ≤ k → k < many → dupF kd nu gn v (tv t n to) k) (pBad 4 (tf t n to)) (sel (¬ te t n (tp t n to) = 0) (pBad 1 (tf t n (tp t n to))) (rEnd t n (rHang t n gn many (tp t n to))))))))) := by
  unfold rclaim
  rw [← h.1.2.1, ← h.1.2.2.1]
  have k1 := h.k1
  refine ⟨fun z => ?_, fun z => ?_⟩
  · have z2 : ¬ (tk t n p = 1 ∧ tv t n p < 5) := fun q => z ⟨k1.2 q.1, by rw [h.2.1 (Or.inl q.1)]; exact q.2⟩
    exact sel_t z2
  · have ev := h.2.1 (Or.inl (k1.1 z.1))
    rw [← ev, sel_f (fun q => q ⟨k1.1 z.1, z.2⟩)]
    refine ⟨fun y => sel_t y, fun y => ⟨fun w => ?_, fun w => ?_⟩⟩
    · rw [sel_f (fun q => q y), sel_t w]
    · rw [sel_f (fun q => q y), sel_f (fun q => q w)]
theorem rclaim_2 {X : POut} {t kd nu gn : Int → Int} {n many p fr to k v v0 : Int} (h : TokX t n p fr to k v) (e0 : X = (sel (¬ tk t n p = 2) (pBad 2 (tf t n p))
    (sel (¬ ∀ k : Int, 0 ≤ k → k < many → dupF kd nu gn v0 (tv t n p) k) (pBad 4 (tf t n p)) (sel (¬ te t n (tp t n p) = 0) (pBad 1 (tf t n (tp t n p))) (rEnd t n (rHang t n gn many (tp t n p))))))) : (¬ k = 2 → X = pBad 2 fr) ∧ (k = 2 → (∀ j : Int, 0 ≤ j → j < many → ¬ dupF kd nu gn v0 v j → X = pBad 4 fr) ∧ ((∀ j : Int, 0 ≤ j → j < many → dupF kd nu gn v0 v j) → (¬ te t n to = 0 → X = pBad 1 (tf t n to)) ∧ (te t n to = 0 → X = rEnd t n (rHang t n gn many to)))) := by
  rw [← h.1.2.1, ← h.1.2.2.1] at e0
  have k2 := h.k2
  refine ⟨fun z => ?_, fun z => ?_⟩
  · rw [e0, sel_t (fun q => z (k2.2 q))]
  · have ev := h.2.1 (Or.inr (k2.1 z))
    rw [← ev, sel_f (fun q => q (k2.1 z))] at e0
    refine ⟨fun j a b c => ?_, fun y => ⟨fun w => ?_, fun w => ?_⟩⟩
    · rw [e0, sel_t (fun q => c (q j a b))]
    · rw [e0, sel_f (fun q => q y), sel_t w]
    · rw [e0, sel_f (fun q => q y), sel_f (fun q => q w)]
theorem rHang_x {t gn : Int → Int} {n many p fr to k v : Int} (h : TokX t n p fr to k v) : (k = 1 ∧ v = 5 → rHang t n gn many p = hang t n gn many 200 to 0) ∧ (¬ (k = 1 ∧ v = 5) → rHang t n gn many p = pOk p 0) := by
  have k1 := h.k1
  unfold rHang
  rw [← h.1.2.2.1]
  refine ⟨fun z => sel_t ⟨k1.1 z.1, by rw [← h.2.1 (Or.inl (k1.1 z.1))]; exact z.2⟩, fun z => sel_f (fun q => z ⟨k1.2 q.1, by rw [h.2.1 (Or.inl q.1)]; exact q.2⟩)⟩
theorem rEnd_x {t : Int → Int} {n q on fr to k v : Int} (h : TokX t n q fr to k v) : (¬ (k = 3 ∧ v = 59) → rEnd t n (pOk q on) = pBad 2 fr) ∧ (k = 3 ∧ v = 59 → (¬ te t n to = 0 → rEnd t n (pOk q on) = pBad 1 (tf t n to)) ∧ (te t n to = 0 → rEnd t n (pOk q on) = pOk to on)) := by
  rw [rEnd_ok, ← h.1.2.1, ← h.1.2.2.1]
  have m := h.m59
  refine ⟨fun z => sel_t (fun q => z (m.2 q)), fun z => ⟨fun w => ?_, fun w => ?_⟩⟩
  · rw [sel_f (fun q => q (m.1 z)), sel_t w]
  · rw [sel_f (fun q => q (m.1 z)), sel_f (fun q => q w)]
/-- going on with what hangs on a claim -/
def HgX (t gn : Int → Int) (X : POut) (n many w1 w2 w3 w4 w5 : Int) : Prop := ∃ (q : Int) (k : Nat), ((0 ≤ q ∧ q ≤ n) ∧ 200 ≤ (k : Int) + w2) ∧ TokX t n q w1 w2 w3 w4 ∧ X = sel (tk t n q = 4) (hang t n gn many k (tp t n q) w5) (pOk q w5)
theorem HgX.go {t gn : Int → Int} {X : POut} {n many w1 w2 w3 w4 w5 : Int} (h : HgX t gn X n many w1 w2 w3 w4 w5) (hn : w2 ≤ n ∧ n ≤ 160) (hm : w3 = 3 ∧ w4 = 44) : ∃ k : Nat, 199 ≤ (k : Int) + w2 ∧ X = hang t n gn many (k + 1) w2 w5 := by
  obtain ⟨q, k, ⟨a, b⟩, c, d⟩ := h
  rw [sel_t (c.m44.1 hm), ← c.1.2.2.1] at d
  obtain ⟨j, rfl⟩ : ∃ j, k = j + 1 := ⟨k - 1, by omega⟩
  exact ⟨j, by omega, d⟩
theorem HgX.stop {t gn : Int → Int} {X : POut} {n many w1 w2 w3 w4 w5 : Int} (h : HgX t gn X n many w1 w2 w3 w4 w5) (hm : ¬ (w3 = 3 ∧ w4 = 44)) : ∃ q : Int, (0 ≤ q ∧ q ≤ n) ∧ TokX t n q w1 w2 w3 w4 ∧ X = pOk q w5 := by
  obtain ⟨q, k, ⟨a, b⟩, c, d⟩ := h
  rw [sel_f (fun z => hm (c.m44.2 z))] at d
  exact ⟨q, a, c, d⟩
