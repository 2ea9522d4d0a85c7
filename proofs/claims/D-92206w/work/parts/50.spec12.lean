set_option maxRecDepth 100000
/-! THE PLAIN LAW for the component: a name laid on signs, a sound to a sign and back -/
def BJ (R : Int → Int → Prop) (f b : Int → Int) : Prop := (∀ s : Int, 0 ≤ s → s < 4 → (f s = -4 ∨ 0 ≤ f s) ∧ ∀ g : Int, 0 ≤ g → (R s g ↔ f s = g)) ∧ (∀ g : Int, 0 ≤ g → g < 24 → (b g = -4 ∨ 0 ≤ b g) ∧ ∀ s : Int, 0 ≤ s → (R s g ↔ b g = s))
def Cs (R : Int → Int → Prop) (p q : Int → Int) (n : Int) : Prop := ∀ x : Int, 0 ≤ x → x < n → 0 ≤ p x ∧ (∀ g : Int, 0 ≤ g → R (q x) g → g = p x) ∧ (∀ s : Int, 0 ≤ s → R s (p x) → s = q x) ∧ ∀ y : Int, 0 ≤ y → y < n → (p x = p y ↔ q x = q y)
def Rx (R : Int → Int → Prop) (p q : Int → Int) (n s g : Int) : Prop := R s g ∨ ∃ x : Int, 0 ≤ x ∧ x < n ∧ s = q x ∧ g = p x
def R00 (_ _ : Int) : Prop := False
theorem Rx_s {R : Int → Int → Prop} {p q : Int → Int} {n s g : Int} (h : 0 ≤ n) : Rx R p q (n + 1) s g ↔ (Rx R p q n s g ∨ (s = q n ∧ g = p n)) := by
  constructor
  · rintro (a | ⟨x, a, b, c, d⟩)
    · exact Or.inl (Or.inl a)
    · by_cases e : x = n
      · rw [e] at c d; exact Or.inr ⟨c, d⟩
      · exact Or.inl (Or.inr ⟨x, a, by omega, c, d⟩)
  · rintro ((a | ⟨x, a, b, c, d⟩) | ⟨c, d⟩)
    · exact Or.inl a
    · exact Or.inr ⟨x, a, by omega, c, d⟩
    · exact Or.inr ⟨n, h, by omega, c, d⟩
theorem pl_yes {R : Int → Int → Prop} {p q f b : Int → Int} {n : Int} (hn : 0 ≤ n) (hC : Cs R p q n) (hB : BJ (Rx R p q n) f b) (hq : ∀ x, 0 ≤ q x ∧ q x < 4) (hp : 0 ≤ p n ∧ p n < 24) (h1 : f (q n) = -4 ∨ f (q n) = p n) (h2 : b (p n) = -4 ∨ b (p n) = q n) : Cs R p q (n + 1) ∧ BJ (Rx R p q (n + 1)) (fup f (q n) (p n)) (fup b (p n) (q n)) := by
  have hA : ∀ g : Int, 0 ≤ g → Rx R p q n (q n) g → g = p n := fun g g0 hr => by
    have e := ((hB.1 (q n) (hq n).1 (hq n).2).2 g g0).1 hr
    omega
  have hBb : ∀ s : Int, 0 ≤ s → Rx R p q n s (p n) → s = q n := fun s s0 hr => by
    have e := ((hB.2 (p n) hp.1 hp.2).2 s s0).1 hr
    omega
  have hm : ∀ y : Int, 0 ≤ y → y < n → (p n = p y ↔ q n = q y) := fun y y0 y1 => by
    constructor
    · intro e
      exact (hBb (q y) (hq y).1 (Or.inr ⟨y, y0, y1, rfl, e⟩)).symm
    · intro e
      exact (hA (p y) (hC y y0 y1).1 (Or.inr ⟨y, y0, y1, e, rfl⟩)).symm
  refine ⟨fun x x0 x1 => ?_, fun s s0 s1 => ?_, fun g g0 g1 => ?_⟩
  · by_cases e : x = n
    · rw [e]
      refine ⟨hp.1, fun g g0 hr => hA g g0 (Or.inl hr), fun s s0 hr => hBb s s0 (Or.inl hr), fun y y0 y1 => ?_⟩
      by_cases e2 : y = n
      · rw [e2]; exact ⟨fun _ => rfl, fun _ => rfl⟩
      · exact hm y y0 (by omega)
    · have hx := hC x x0 (by omega)
      refine ⟨hx.1, hx.2.1, hx.2.2.1, fun y y0 y1 => ?_⟩
      by_cases e2 : y = n
      · rw [e2]
        have z := hm x x0 (by omega)
        exact ⟨fun w => (z.1 w.symm).symm, fun w => (z.2 w.symm).symm⟩
      · exact hx.2.2.2 y y0 (by omega)
  · by_cases e : s = q n
    · rw [e, fup_s]
      refine ⟨Or.inr hp.1, fun g g0 => ?_⟩
      rw [Rx_s hn]
      exact ⟨fun w => w.elim (fun w => (hA g g0 w).symm) (fun w => w.2.symm), fun w => Or.inr ⟨rfl, w.symm⟩⟩
    · rw [fup_n _ _ e]
      have z := hB.1 s s0 s1
      refine ⟨z.1, fun g g0 => ?_⟩
      rw [Rx_s hn, ← z.2 g g0]
      exact ⟨fun w => w.elim id (fun w => absurd w.1 e), Or.inl⟩
  · by_cases e : g = p n
    · rw [e, fup_s]
      refine ⟨Or.inr (hq n).1, fun s s0 => ?_⟩
      rw [Rx_s hn]
      exact ⟨fun w => w.elim (fun w => (hBb s s0 w).symm) (fun w => w.1.symm), fun w => Or.inr ⟨w.symm, rfl⟩⟩
    · rw [fup_n _ _ e]
      have z := hB.2 g g0 g1
      refine ⟨z.1, fun s s0 => ?_⟩
      rw [Rx_s hn, ← z.2 s s0]
      exact ⟨fun w => w.elim id (fun w => absurd w.2 e), Or.inl⟩
theorem pl_no {R : Int → Int → Prop} {p q f b : Int → Int} {n k : Int} (hn : 0 ≤ n) (hk : n < k) (hB : BJ (Rx R p q n) f b) (hq : ∀ x, 0 ≤ q x ∧ q x < 4) (hp : p n < 24) (h : ¬ (0 ≤ p n ∧ (f (q n) = -4 ∨ f (q n) = p n) ∧ (b (p n) = -4 ∨ b (p n) = q n))) : ¬ Cs R p q k := by
  intro hC
  have hx := hC n hn hk
  refine h ⟨hx.1, ?_, ?_⟩
  · have z := hB.1 (q n) (hq n).1 (hq n).2
    rcases z.1 with w | w
    · exact Or.inl w
    · rcases (z.2 _ w).2 rfl with r | ⟨y, y0, y1, a, d⟩
      · exact Or.inr (hx.2.1 _ w r)
      · exact Or.inr (d.trans (((hx.2.2.2 y y0 (by omega)).2 a).symm))
  · have z := hB.2 (p n) hx.1 hp
    rcases z.1 with w | w
    · exact Or.inl w
    · rcases (z.2 _ w).2 rfl with r | ⟨y, y0, y1, a, d⟩
      · exact Or.inr (hx.2.2.1 _ w r)
      · exact Or.inr (a.trans (((hx.2.2.2 y y0 (by omega)).1 d).symm))
theorem Rx_0 {R : Int → Int → Prop} {p q : Int → Int} {n : Int} (h : n ≤ 0) {s g : Int} : Rx R p q n s g ↔ R s g := ⟨fun w => w.elim id (fun ⟨x, a, b, _⟩ => absurd a (by omega)), Or.inl⟩
theorem BJ.cg {R R' : Int → Int → Prop} {f b : Int → Int} (h : BJ R f b) (e : ∀ s g, R' s g ↔ R s g) : BJ R' f b := ⟨fun s a c => ⟨(h.1 s a c).1, fun g d => (e s g).trans ((h.1 s a c).2 g d)⟩, fun g a c => ⟨(h.2 g a c).1, fun s d => (e s g).trans ((h.2 g a c).2 s d)⟩⟩
theorem Cs_z {R : Int → Int → Prop} {p q : Int → Int} : Cs R p q 0 := fun x a b => absurd a (by omega)
theorem BJ_0 {f b : Int → Int} (hf : ∀ s : Int, 0 ≤ s → s < 4 → f s = -4) (hb : ∀ g : Int, 0 ≤ g → g < 24 → b g = -4) : BJ R00 f b := ⟨fun s a c => ⟨Or.inl (hf s a c), fun g d => ⟨fun w => absurd w id, fun w => by have := hf s a c; omega⟩⟩, fun g a c => ⟨Or.inl (hb g a c), fun s d => ⟨fun w => absurd w id, fun w => by have := hb g a c; omega⟩⟩⟩
theorem Cs0 {p q : Int → Int} {k L : Int} : (k ≤ L ∧ Cs R00 p q k) ↔ Fits p q k L := by
  refine and_congr Iff.rfl ⟨fun h => ⟨fun x a b => by have := (h x a b).1; omega, fun x a b y c d => (h x a b).2.2.2 y c d⟩, fun h x a b => ⟨by have := h.1 x a b; omega, fun g _ r => absurd r id, fun s _ r => absurd r id, fun y c d => h.2 x a b y c d⟩⟩
theorem Cs1 {p1 q1 p2 q2 : Int → Int} {k1 k2 : Int} (hp : ∀ x : Int, 0 ≤ x → x < k1 → 0 ≤ p1 x) (hq : ∀ x, 0 ≤ q1 x) : Cs (Rx R00 p1 q1 k1) p2 q2 k2 ↔ (Cs R00 p2 q2 k2 ∧ Agr p1 p2 q1 q2 k1 k2) := by
  constructor
  · intro h
    refine ⟨fun x a b => ⟨(h x a b).1, fun g _ r => absurd r id, fun s _ r => absurd r id, (h x a b).2.2.2⟩, fun x a b y c d => ⟨fun e => ?_, fun e => ?_⟩⟩
    · exact (h y c d).2.2.1 (q1 x) (hq x) (Or.inr ⟨x, a, b, rfl, e.symm⟩)
    · exact (h y c d).2.1 (p1 x) (hp x a b) (Or.inr ⟨x, a, b, e.symm, rfl⟩)
  · rintro ⟨h, ha⟩ x a b
    refine ⟨(h x a b).1, fun g g0 r => ?_, fun s s0 r => ?_, (h x a b).2.2.2⟩
    · rcases r with r | ⟨y, c, d, e1, e2⟩
      · exact absurd r id
      · rw [e2]; exact (ha y c d x a b).2 e1.symm
    · rcases r with r | ⟨y, c, d, e1, e2⟩
      · exact absurd r id
      · rw [e1]; exact (ha y c d x a b).1 e2.symm
