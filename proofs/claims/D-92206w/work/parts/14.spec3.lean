set_option maxRecDepth 100000
/-! THE PLAIN LAW: words of texts, by their places and by their numbers -/
theorem isum_mono {f : Int → Int} {a b : Int} (hf : ∀ j : Int, 0 ≤ j → j < b → 0 ≤ f j) (h0 : 0 ≤ a) (h : a ≤ b) : isum f a ≤ isum f b := by
  obtain ⟨k, rfl⟩ : ∃ k : Int, b = a + k := ⟨b - a, by omega⟩
  refine int_ind (P := fun k' => k' ≤ k → isum f a ≤ isum f (a + k')) (n := k) (by omega) (fun _ => by rw [Int.add_zero]; exact Int.le_refl _) (fun m h1 h2 ih _ => ?_) (Int.le_refl _)
  rw [show a + (m + 1) = (a + m) + 1 by omega, isum_s (by omega)]
  have := ih (by omega)
  have := hf (a + m) (by omega) (by omega)
  omega
/-- how many places of P come before (t, i) -/
noncomputable def KP (P : Int → Int → Prop) (tl : Int → Int) (t i : Int) : Int := isum (fun a => isum (fun b => bI (P a b)) (tl a)) t + isum (fun b => bI (P t b)) i
/-- a sum over the places of P that come before (t, i) -/
noncomputable def PS (P : Int → Int → Prop) (g : Int → Int → Int) (tl : Int → Int) (t i : Int) : Int := isum (fun a => isum (fun b => sel (P a b) (g a b) 0) (tl a)) t + isum (fun b => sel (P t b) (g t b) 0) i
theorem KP_s {P : Int → Int → Prop} {tl : Int → Int} {t i : Int} (hi : 0 ≤ i) : KP P tl t (i + 1) = KP P tl t i + bI (P t i) := by unfold KP; rw [isum_s hi]; omega
theorem KP_t {P : Int → Int → Prop} {tl : Int → Int} {t : Int} (ht : 0 ≤ t) : KP P tl (t + 1) 0 = KP P tl t (tl t) := by unfold KP; rw [isum_s ht, isum_0]; omega
theorem KP_00 {P : Int → Int → Prop} {tl : Int → Int} : KP P tl 0 0 = 0 := rfl
theorem PS_s {P : Int → Int → Prop} {g : Int → Int → Int} {tl : Int → Int} {t i : Int} (hi : 0 ≤ i) : PS P g tl t (i + 1) = PS P g tl t i + sel (P t i) (g t i) 0 := by unfold PS; rw [isum_s hi]; omega
theorem PS_t {P : Int → Int → Prop} {g : Int → Int → Int} {tl : Int → Int} {t : Int} (ht : 0 ≤ t) : PS P g tl (t + 1) 0 = PS P g tl t (tl t) := by unfold PS; rw [isum_s ht, isum_0]; omega
theorem KP_nn {P : Int → Int → Prop} {tl : Int → Int} {t i : Int} (htl : ∀ a, 0 ≤ tl a) (ht : 0 ≤ t) (hi : 0 ≤ i) : 0 ≤ KP P tl t i := by
  unfold KP
  have h1 := (isum_bI (P := fun b => P t b) hi).1
  have h2 : 0 ≤ isum (fun a => isum (fun b => bI (P a b)) (tl a)) t := by
    have := isum_mono (f := fun a => isum (fun b => bI (P a b)) (tl a)) (a := 0) (b := t) (fun j _ _ => (isum_bI (P := fun b => P j b) (htl j)).1) (by omega) ht
    rw [isum_0] at this; exact this
  omega
theorem KP_mono {P : Int → Int → Prop} {tl : Int → Int} {a b t i : Int} (htl : ∀ a, 0 ≤ tl a) (ha : 0 ≤ a) (hb : 0 ≤ b) (hbl : b ≤ tl a) (hi : 0 ≤ i) (h : a < t ∨ a = t ∧ b ≤ i) : KP P tl a b ≤ KP P tl t i := by
  rcases h with h | ⟨rfl, h⟩
  · have e1 : KP P tl a b ≤ KP P tl a (tl a) := by
      unfold KP
      have := isum_mono (f := fun c => bI (P a c)) (a := b) (b := tl a) (fun j _ _ => (bI_01 _).1) hb hbl
      omega
    have e2 : KP P tl (a + 1) 0 = KP P tl a (tl a) := KP_t ha
    have e3 : KP P tl (a + 1) 0 ≤ KP P tl t i := by
      unfold KP
      rw [isum_0]
      have h1 := isum_mono (f := fun c => isum (fun d => bI (P c d)) (tl c)) (a := a + 1) (b := t) (fun j _ _ => (isum_bI (P := fun d => P j d) (htl j)).1) (by omega) (by omega)
      have h2 := (isum_bI (P := fun d => P t d) hi).1
      omega
    omega
  · unfold KP
    have := isum_mono (f := fun c => bI (P a c)) (a := b) (b := i) (fun j _ _ => (bI_01 _).1) hb h
    omega
theorem KP_lt {P : Int → Int → Prop} {tl : Int → Int} {a b t i : Int} (htl : ∀ a, 0 ≤ tl a) (ha : 0 ≤ a) (hb : 0 ≤ b) (hbl : b < tl a) (hi : 0 ≤ i) (hp : P a b) (h : a < t ∨ a = t ∧ b < i) : KP P tl a b + 1 ≤ KP P tl t i := by
  have e : KP P tl a (b + 1) = KP P tl a b + 1 := by rw [KP_s hb, bI_t hp]
  rw [← e]
  exact KP_mono htl ha (by omega) (by omega) hi (by omega)
/-- by numbers and by places: the same sum -/
theorem KP_sum {P : Int → Int → Prop} {G : Int → Int} {g : Int → Int → Int} {tl : Int → Int} {t i : Int} (htl : ∀ a, 0 ≤ tl a) (ht : 0 ≤ t) (hi : 0 ≤ i) (h : ∀ a b : Int, 0 ≤ a → 0 ≤ b → b < tl a ∨ a = t → P a b → (a < t ∨ a = t ∧ b < i) → G (KP P tl a b) = g a b) : isum G (KP P tl t i) = PS P g tl t i := by
  have row : ∀ a : Int, 0 ≤ a → isum G (KP P tl a 0) = PS P g tl a 0 → (∀ n : Int, 0 ≤ n → (∀ b : Int, 0 ≤ b → b < n → P a b → G (KP P tl a b) = g a b) → isum G (KP P tl a n) = PS P g tl a n) := by
    intro a ha h0 n hn hg
    refine int_ind (P := fun k => k ≤ n → isum G (KP P tl a k) = PS P g tl a k) hn (fun _ => h0) (fun m h1 h2 ih _ => ?_) (Int.le_refl _)
    have e := ih (by omega)
    rw [KP_s h1, PS_s h1, ← e]
    by_cases q : P a m
    · rw [bI_t q, sel_t q, isum_s (KP_nn htl ha h1), hg m h1 h2 q]
    · rw [bI_f q, sel_f q]; simp
  have col : ∀ a : Int, 0 ≤ a → a ≤ t → isum G (KP P tl a 0) = PS P g tl a 0 := by
    intro a ha hat
    refine int_ind (P := fun k => k ≤ t → isum G (KP P tl k 0) = PS P g tl k 0) ha (fun _ => rfl) (fun m h1 h2 ih hm => ?_) hat
    rw [KP_t h1, PS_t h1]
    exact row m h1 (ih (by omega)) (tl m) (htl m) (fun b h3 h4 h5 => h m b h1 h3 (Or.inl h4) h5 (Or.inl (by omega)))
  exact row t ht (col t ht (Int.le_refl _)) i hi (fun b h1 h2 h3 => h t b ht h1 (Or.inr rfl) h3 (Or.inr ⟨rfl, h2⟩))
/-- every number is that of a place -/
theorem KP_onto {P : Int → Int → Prop} {tl : Int → Int} {t : Int} (htl : ∀ a, 0 ≤ tl a) (ht : 0 ≤ t) {w : Int} (h0 : 0 ≤ w) (hw : w < KP P tl t 0) : ∃ a b : Int, 0 ≤ a ∧ a < t ∧ 0 ≤ b ∧ b < tl a ∧ P a b ∧ KP P tl a b = w := by
  have row : ∀ a : Int, 0 ≤ a → ∀ n : Int, 0 ≤ n → KP P tl a 0 ≤ w → w < KP P tl a n → ∃ b : Int, 0 ≤ b ∧ b < n ∧ P a b ∧ KP P tl a b = w := by
    intro a ha n hn h1 h2
    revert h2
    refine int_ind (P := fun k => w < KP P tl a k → ∃ b : Int, 0 ≤ b ∧ b < k ∧ P a b ∧ KP P tl a b = w) hn (fun q => absurd q (by omega)) (fun m a1 a2 ih q => ?_)
    rw [KP_s a1] at q
    by_cases z : w < KP P tl a m
    · obtain ⟨b, b1, b2, b3⟩ := ih z; exact ⟨b, b1, by omega, b3⟩
    · by_cases p : P a m
      · rw [bI_t p] at q; exact ⟨m, a1, by omega, p, by omega⟩
      · rw [bI_f p] at q; omega
  revert hw
  refine int_ind (P := fun k => w < KP P tl k 0 → ∃ a b : Int, 0 ≤ a ∧ a < k ∧ 0 ≤ b ∧ b < tl a ∧ P a b ∧ KP P tl a b = w) ht (fun q => absurd q (by rw [KP_00]; omega)) (fun m a1 a2 ih q => ?_)
  by_cases z : w < KP P tl m 0
  · obtain ⟨a, b, b1, b2, b3⟩ := ih z; exact ⟨a, b, b1, by omega, b3⟩
  · rw [KP_t a1] at q
    obtain ⟨b, b1, b2, b3, b4⟩ := row m a1 (tl m) (htl m) (by omega) q
    exact ⟨m, b, a1, by omega, b1, b2, b3, b4⟩
theorem PS_congr {P P' : Int → Int → Prop} {g g' : Int → Int → Int} {tl tl' : Int → Int} {t i : Int} (hl : ∀ a, 0 ≤ a → a < t → tl a = tl' a) (h : ∀ a b : Int, 0 ≤ a → 0 ≤ b → (a < t ∧ b < tl a ∨ a = t ∧ b < i) → sel (P a b) (g a b) 0 = sel (P' a b) (g' a b) 0) (ht : 0 ≤ t) : PS P g tl t i = PS P' g' tl' t i := by
  unfold PS
  congr 1
  · exact isum_congr (fun a h1 h2 => by rw [← hl a h1 h2]; exact isum_congr (fun b h3 h4 => h a b h1 h3 (Or.inl ⟨h2, h4⟩)))
  · exact isum_congr (fun b h3 h4 => h t b ht h3 (Or.inr ⟨rfl, h4⟩))
/-! words -/
def wb (tc : Int → Int → Int) (t i : Int) : Prop := ¬ tc t i = -2 ∧ (i = 0 ∨ tc t (i - 1) = -2)
def IsE (tc : Int → Int → Int) (tl : Int → Int) (t i e : Int) : Prop := i ≤ e ∧ e ≤ tl t ∧ (∀ j : Int, i ≤ j → j < e → ¬ tc t j = -2) ∧ (e = tl t ∨ tc t e = -2)
theorem IsE.uq {tc : Int → Int → Int} {tl : Int → Int} {t i e e' : Int} (h : IsE tc tl t i e) (h' : IsE tc tl t i e') : e = e' := by
  rcases Int.lt_trichotomy e e' with q | q | q
  · rcases h.2.2.2 with z | z
    · have := h'.2.1; omega
    · exact absurd z (h'.2.2.1 e h.1 q)
  · exact q
  · rcases h'.2.2.2 with z | z
    · have := h.2.1; omega
    · exact absurd z (h.2.2.1 e' h'.1 q)
noncomputable def we (tc : Int → Int → Int) (tl : Int → Int) (t i : Int) : Int := Classical.epsilon (fun e => IsE tc tl t i e)
theorem IsE.ex {tc : Int → Int → Int} {tl : Int → Int} {t i : Int} (h : i ≤ tl t) : ∃ e, IsE tc tl t i e := by
  obtain ⟨k, hk⟩ : ∃ k : Int, tl t = i + k := ⟨tl t - i, by omega⟩
  have : ∀ m : Int, 0 ≤ m → m ≤ k → (∃ e, IsE tc tl t i e) ∨ ∀ j : Int, i ≤ j → j < i + m → ¬ tc t j = -2 := by
    intro m hm
    refine int_ind (P := fun m => m ≤ k → (∃ e, IsE tc tl t i e) ∨ ∀ j : Int, i ≤ j → j < i + m → ¬ tc t j = -2) hm (fun _ => Or.inr (fun j a b => absurd a (by omega))) (fun m h1 h2 ih hk2 => ?_)
    rcases ih (by omega) with q | q
    · exact Or.inl q
    · by_cases z : tc t (i + m) = -2
      · exact Or.inl ⟨i + m, by omega, by omega, q, Or.inr z⟩
      · refine Or.inr (fun j a b => ?_)
        by_cases e : j = i + m
        · rw [e]; exact z
        · exact q j a (by omega)
  rcases this k (by omega) (Int.le_refl _) with q | q
  · exact q
  · exact ⟨i + k, by omega, by omega, q, Or.inl (by omega)⟩
theorem we_E {tc : Int → Int → Int} {tl : Int → Int} {t i : Int} (h : i ≤ tl t) : IsE tc tl t i (we tc tl t i) := Classical.epsilon_spec (p := fun e => IsE tc tl t i e) (IsE.ex h)
theorem IsE.eq {tc : Int → Int → Int} {tl : Int → Int} {t i e : Int} (h : IsE tc tl t i e) : we tc tl t i = e := (we_E (Int.le_trans h.1 h.2.1)).uq h
theorem wb_lt {tc : Int → Int → Int} {tl : Int → Int} {t i : Int} (h : wb tc t i) (hi : i < tl t) : i < we tc tl t i := by
  have e := we_E (tc := tc) (tl := tl) (t := t) (i := i) (by omega)
  rcases Int.lt_or_le i (we tc tl t i) with q | q
  · exact q
  · have e1 : we tc tl t i = i := by have := e.1; omega
    rcases e.2.2.2 with z | z
    · omega
    · rw [e1] at z; exact absurd z h.1
/-- a word without gaps begins there -/
def wh (tc : Int → Int → Int) (tl : Int → Int) (t i : Int) : Prop := wb tc t i ∧ ∀ j : Int, i ≤ j → j < we tc tl t i → ¬ tc t j = -1
theorem wb_half {tc : Int → Int → Int} {t i : Int} (hi : 0 ≤ i) : isum (fun b => bI (wb tc t b)) i ≤ (i + 1) / 2 ∧ (0 < i → wb tc t (i - 1) → True) ∧ isum (fun b => bI (wb tc t b)) (i + 1) ≤ (i + 2) / 2 := by
  refine int_ind (P := fun i => isum (fun b => bI (wb tc t b)) i ≤ (i + 1) / 2 ∧ (0 < i → wb tc t (i - 1) → True) ∧ isum (fun b => bI (wb tc t b)) (i + 1) ≤ (i + 2) / 2) hi ⟨by rw [isum_0]; decide, fun _ _ => trivial, by rw [isum_s (by omega), isum_0]; have := bI_01 (wb tc t 0); omega⟩ (fun m h1 h2 ih => ⟨by have := ih.2.2; omega, fun _ _ => trivial, ?_⟩)
  rw [isum_s (by omega), isum_s h1]
  have a := bI_01 (wb tc t m)
  have b := bI_01 (wb tc t (m + 1))
  have c : bI (wb tc t m) + bI (wb tc t (m + 1)) ≤ 1 := by
    by_cases q : wb tc t m
    · rw [bI_f (c := wb tc t (m + 1)) (fun z => by
        rcases z.2 with e | e
        · omega
        · rw [show m + 1 - 1 = m by omega] at e; exact q.1 e)]
      omega
    · rw [bI_f q]; omega
  have d := ih.1
  omega
/-- the number of a word -/
noncomputable def wk (tc : Int → Int → Int) (tl : Int → Int) (t i : Int) : Int := KP (wb tc) tl t i
theorem wk_r {tc : Int → Int → Int} {tl : Int → Int} {t i : Int} (htl : ∀ a, 0 ≤ tl a ∧ tl a ≤ 24) (ht : 0 ≤ t) (hi : 0 ≤ i ∧ i ≤ 24) : 0 ≤ wk tc tl t i ∧ wk tc tl t i ≤ 12 * t + 12 := by
  refine ⟨KP_nn (fun a => (htl a).1) ht hi.1, ?_⟩
  unfold wk KP
  have h1 := (isum_le (f := fun a => isum (fun b => bI (wb tc a b)) (tl a)) (b := 12) ht (fun a _ _ => ⟨(isum_bI (P := fun b => wb tc a b) (htl a).1).1, by have := (wb_half (tc := tc) (t := a) (htl a).1).1; have := htl a; omega⟩)).2
  have h2 := (wb_half (tc := tc) (t := t) hi.1).1
  omega
/-- the words that begin before (t, i) are written down under their numbers -/
def WR (tc : Int → Int → Int) (tl : Int → Int) (m8 m9 m10 m11 : Int → Int) (t i : Int) : Prop := ∀ a b : Int, 0 ≤ a → 0 ≤ b → b < tl a → wb tc a b → (a < t ∨ a = t ∧ b < i) → m8 (wk tc tl a b) = a ∧ m9 (wk tc tl a b) = b ∧ m10 (wk tc tl a b) = we tc tl a b - b ∧ (m11 (wk tc tl a b) = 1 ↔ wh tc tl a b)
/-- between the cells of a text: a word runs from fr on to i -/
def FWI (tc : Int → Int → Int) (tl : Int → Int) (t fr : Int) (w : Prop) (i f7 : Int) (m8 m9 m10 m11 : Int → Int) : Prop :=
  (i ≤ tl t ∧ 0 ≤ fr ∧ fr ≤ i ∧ f7 = wk tc tl t fr ∧ WR tc tl m8 m9 m10 m11 t fr ∧ (∀ j : Int, fr ≤ j → j < i → ¬ tc t j = -2) ∧ (fr = 0 ∨ tc t (fr - 1) = -2) ∧ (w ↔ ∀ j : Int, fr ≤ j → j < i → ¬ tc t j = -1)) ∨ (i = tl t + 1 ∧ f7 = wk tc tl (t + 1) 0 ∧ WR tc tl m8 m9 m10 m11 (t + 1) 0)
/-- at an end: all words before it are down -/
def FWE (tc : Int → Int → Int) (tl : Int → Int) (t i f7 : Int) (m8 m9 m10 m11 : Int → Int) : Prop := f7 = wk tc tl t i ∧ WR tc tl m8 m9 m10 m11 t i
section FW
variable {tc : Int → Int → Int} {tl : Int → Int} {t fr i f7 : Int} {w : Prop} {m8 m9 m10 m11 : Int → Int}
theorem FWI.zero (htl : 0 ≤ tl t) (hf : f7 = wk tc tl t 0) (h : WR tc tl m8 m9 m10 m11 t 0) : FWI tc tl t 0 True 0 f7 m8 m9 m10 m11 := Or.inl ⟨htl, Int.le_refl _, Int.le_refl _, hf, h, fun j a b => absurd a (by omega), Or.inl rfl, ⟨fun _ j a b => absurd a (by omega), fun _ => trivial⟩⟩
theorem FWI.lo (h : FWI tc tl t fr w i f7 m8 m9 m10 m11) (hi : i ≤ tl t) : 0 ≤ fr ∧ fr ≤ i ∧ f7 = wk tc tl t fr := by
  rcases h with h | h
  · exact ⟨h.2.1, h.2.2.1, h.2.2.2.1⟩
  · omega
theorem FWI.out (h : FWI tc tl t fr w i f7 m8 m9 m10 m11) (hi : tl t < i) : f7 = wk tc tl (t + 1) 0 ∧ WR tc tl m8 m9 m10 m11 (t + 1) 0 := by
  rcases h with h | h
  · omega
  · exact h.2
theorem FWI.go (h : FWI tc tl t fr w i f7 m8 m9 m10 m11) (hi : i < tl t) (hn : ¬ tc t i = -2) : FWI tc tl t fr (w ∧ ¬ tc t i = -1) (i + 1) f7 m8 m9 m10 m11 := by
  rcases h with ⟨_, h2, h3, h4, h5, h6, h7, h8⟩ | h
  · refine Or.inl ⟨by omega, h2, by omega, h4, h5, fun j a b => ?_, h7, ?_⟩
    · by_cases e : j = i
      · rw [e]; exact hn
      · exact h6 j a (by omega)
    · rw [h8]
      constructor
      · intro q j a b
        by_cases e : j = i
        · rw [e]; exact q.2
        · exact q.1 j a (by omega)
      · intro q; exact ⟨fun j a b => q j a (by omega), q i h3 (by omega)⟩
  · omega
theorem FWI.rec (htl : ∀ a, 0 ≤ tl a) (ht : 0 ≤ t) (h : FWI tc tl t fr w i f7 m8 m9 m10 m11) (hi : i ≤ tl t) (he : i = tl t ∨ tc t i = -2) (hf : fr < i) : FWE tc tl t i (f7 + 1) (fup m8 f7 t) (fup m9 f7 fr) (fup m10 f7 (i - fr)) (fup m11 f7 (bI w)) := by
  rcases h with ⟨_, h2, h3, h4, h5, h6, h7, h8⟩ | h
  · have hwb : wb tc t fr := ⟨h6 fr (Int.le_refl _) hf, h7⟩
    have hE : IsE tc tl t fr i := ⟨by omega, hi, h6, he⟩
    have only : ∀ b : Int, fr ≤ b → b < i → wb tc t b → b = fr := by
      intro b a1 a2 a3
      rcases a3.2 with q | q
      · omega
      · by_cases e : b = fr
        · exact e
        · exact absurd q (h6 (b - 1) (by omega) (by omega))
    have hk : wk tc tl t i = wk tc tl t fr + 1 := by
      have st : ∀ k : Int, 0 ≤ k → fr + 1 + k ≤ i → wk tc tl t (fr + 1 + k) = wk tc tl t fr + 1 := by
        intro k hk
        refine int_ind (P := fun k => fr + 1 + k ≤ i → wk tc tl t (fr + 1 + k) = wk tc tl t fr + 1) hk (fun _ => by rw [Int.add_zero]; unfold wk; rw [KP_s h2, bI_t hwb]) (fun m a1 a2 ih a3 => ?_)
        have := ih (by omega)
        rw [show fr + 1 + (m + 1) = (fr + 1 + m) + 1 by omega]
        unfold wk at *
        rw [KP_s (by omega), this, bI_f (fun z => by have := only _ (by omega) (by omega) z; omega), Int.add_zero]
      have := st (i - fr - 1) (by omega) (by omega)
      rw [show fr + 1 + (i - fr - 1) = i by omega] at this
      exact this
    refine ⟨by rw [hk, h4], fun a b a1 a2 a3 a4 a5 => ?_⟩
    by_cases q : a < t ∨ a = t ∧ b < fr
    · have lt : wk tc tl a b + 1 ≤ wk tc tl t fr := KP_lt htl a1 a2 a3 h2 a4 q
      have ne : ¬ wk tc tl a b = f7 := by omega
      rw [fup_n _ _ ne, fup_n _ _ ne, fup_n _ _ ne, fup_n _ _ ne]
      exact h5 a b a1 a2 a3 a4 q
    · have e1 : a = t := by omega
      subst e1
      have e2 : b = fr := only b (by omega) (by omega) a4
      subst e2
      rw [← h4, fup_s, fup_s, fup_s, fup_s, hE.eq]
      refine ⟨rfl, rfl, rfl, ?_⟩
      rw [bI_1, h8]
      unfold wh
      rw [hE.eq]
      exact ⟨fun z => ⟨hwb, z⟩, fun z => z.2⟩
  · omega
theorem FWI.norec (h : FWI tc tl t fr w i f7 m8 m9 m10 m11) (hi : i ≤ tl t) (hf : ¬ fr < i) : FWE tc tl t i f7 m8 m9 m10 m11 := by
  rcases h with ⟨_, h2, h3, h4, h5, h6, h7, h8⟩ | h
  · have e : fr = i := by omega
    subst e
    exact ⟨h4, h5⟩
  · omega
theorem FWE.next (htl : ∀ a, 0 ≤ tl a) (ht : 0 ≤ t) (h0 : 0 ≤ i) (h : FWE tc tl t i f7 m8 m9 m10 m11) (hi : i ≤ tl t) (he : i = tl t ∨ tc t i = -2) (hw : w) : FWI tc tl t (i + 1) w (i + 1) f7 m8 m9 m10 m11 := by
  by_cases q : i = tl t
  · refine Or.inr ⟨by omega, by unfold wk; rw [KP_t ht, ← q]; exact h.1, fun a b a1 a2 a3 a4 a5 => h.2 a b a1 a2 a3 a4 ?_⟩
    by_cases e : a = t
    · subst e; exact Or.inr ⟨rfl, by omega⟩
    · exact Or.inl (by omega)
  · have hc : tc t i = -2 := he.resolve_left q
    have nb : ¬ wb tc t i := fun z => z.1 hc
    refine Or.inl ⟨by omega, by omega, Int.le_refl _, by unfold wk; rw [KP_s h0, bI_f nb, Int.add_zero]; exact h.1, fun a b a1 a2 a3 a4 a5 => h.2 a b a1 a2 a3 a4 ?_, fun j a b => absurd a (by omega), Or.inr (by rw [show i + 1 - 1 = i by omega]; exact hc), ⟨fun _ j a b => absurd a (by omega), fun _ => hw⟩⟩
    rcases a5 with z | ⟨z1, z2⟩
    · exact Or.inl z
    · by_cases e : b = i
      · subst e; subst z1; exact absurd a4 nb
      · exact Or.inr ⟨z1, by omega⟩
end FW
theorem sa_2 {sg : Int → Int} {c : Int} (h : 0 ≤ sg c) : sa sg c = -2 ↔ c = -2 := by
  unfold sa
  by_cases q : c < 0
  · rw [sel_t q]
  · rw [sel_f q]; omega
theorem sa_1 {sg : Int → Int} {c : Int} (h : 0 ≤ sg c) : sa sg c = -1 ↔ c = -1 := by
  unfold sa
  by_cases q : c < 0
  · rw [sel_t q]
  · rw [sel_f q]; omega
theorem sa_n {sg : Int → Int} {c : Int} (h : 0 ≤ sg c) : sa sg c < 0 ↔ c < 0 := by
  unfold sa
  by_cases q : c < 0
  · rw [sel_t q]
  · rw [sel_f q]; omega
theorem WR.at {tc : Int → Int → Int} {tl : Int → Int} {m8 m9 m10 m11 : Int → Int} {tm : Int} (htl : ∀ a, 0 ≤ tl a) (ht : 0 ≤ tm) (h : WR tc tl m8 m9 m10 m11 tm 0) {w : Int} (h0 : 0 ≤ w) (hw : w < wk tc tl tm 0) : ∃ a b : Int, 0 ≤ a ∧ a < tm ∧ 0 ≤ b ∧ b < tl a ∧ wb tc a b ∧ wk tc tl a b = w ∧ m8 w = a ∧ m9 w = b ∧ m10 w = we tc tl a b - b ∧ (m11 w = 1 ↔ wh tc tl a b) ∧ b < we tc tl a b ∧ we tc tl a b ≤ tl a := by
  obtain ⟨a, b, h1, h2, h3, h4, h5, h6⟩ := KP_onto htl ht h0 hw
  obtain ⟨q1, q2, q3, q4⟩ := h a b h1 h3 h4 h5 (Or.inl h2)
  have e : wk tc tl a b = w := h6
  rw [e] at q1 q2 q3 q4
  exact ⟨a, b, h1, h2, h3, h4, h5, e, q1, q2, q3, q4, wb_lt h5 h4, (we_E (by omega)).2.1⟩
/-- a sum over the numbers of words, by their places -/
theorem wk_sum {tc : Int → Int → Int} {tl : Int → Int} {G : Int → Int} {g : Int → Int → Int} {t i : Int} (htl : ∀ a, 0 ≤ tl a) (ht : 0 ≤ t) (hi : 0 ≤ i) (hil : i ≤ tl t ∨ i = 0) (h : ∀ a b : Int, 0 ≤ a → 0 ≤ b → b < tl a → wb tc a b → (a < t ∨ a = t ∧ b < i) → G (wk tc tl a b) = g a b) : isum G (wk tc tl t i) = PS (wb tc) g tl t i := KP_sum htl ht hi (fun a b h1 h2 h3 h4 h5 => h a b h1 h2 (by
  rcases h3 with q | q
  · exact q
  · subst q; omega) h4 h5)
theorem PS_r {P : Int → Int → Prop} {g : Int → Int → Int} {tl : Int → Int} {t i : Int} (htl : ∀ a, 0 ≤ tl a) (ht : 0 ≤ t) (hi : 0 ≤ i) (h : ∀ a b, 0 ≤ g a b ∧ g a b ≤ 1) : 0 ≤ PS P g tl t i ∧ PS P g tl t i ≤ KP P tl t i := by
  have row : ∀ a n : Int, 0 ≤ n → 0 ≤ isum (fun b => sel (P a b) (g a b) 0) n ∧ isum (fun b => sel (P a b) (g a b) 0) n ≤ isum (fun b => bI (P a b)) n := by
    intro a n hn
    refine int_ind (P := fun n => 0 ≤ isum (fun b => sel (P a b) (g a b) 0) n ∧ isum (fun b => sel (P a b) (g a b) 0) n ≤ isum (fun b => bI (P a b)) n) hn ⟨Int.le_refl _, Int.le_refl _⟩ (fun m h1 h2 ih => ?_)
    rw [isum_s h1, isum_s h1]
    have := h a m
    by_cases q : P a m
    · rw [sel_t q, bI_t q]; omega
    · rw [sel_f q, bI_f q]; omega
  have col : 0 ≤ isum (fun a => isum (fun b => sel (P a b) (g a b) 0) (tl a)) t ∧ isum (fun a => isum (fun b => sel (P a b) (g a b) 0) (tl a)) t ≤ isum (fun a => isum (fun b => bI (P a b)) (tl a)) t := by
    refine int_ind (P := fun t => 0 ≤ isum (fun a => isum (fun b => sel (P a b) (g a b) 0) (tl a)) t ∧ isum (fun a => isum (fun b => sel (P a b) (g a b) 0) (tl a)) t ≤ isum (fun a => isum (fun b => bI (P a b)) (tl a)) t) ht ⟨Int.le_refl _, Int.le_refl _⟩ (fun m h1 h2 ih => ?_)
    rw [isum_s h1, isum_s h1]
    have := row m (tl m) (htl m)
    omega
  have := row t i hi
  unfold PS KP
  omega
/-! what is asked of one text -/
noncomputable def tSig (sg : Int → Int) (tc : Int → Int → Int) (t n : Int) : Int := isum (fun i => bI (¬ sa sg (tc t i) < 0)) n
noncomputable def tGap (sg : Int → Int) (tc : Int → Int → Int) (t n : Int) : Int := isum (fun i => bI (sa sg (tc t i) = -1)) n
noncomputable def tWds (tc : Int → Int → Int) (t n : Int) : Int := isum (fun i => bI (wb tc t i)) n
noncomputable def tWho (tc : Int → Int → Int) (tl : Int → Int) (t n : Int) : Int := isum (fun i => bI (wh tc tl t i)) n
/-- the greatest of some numbers, and 0 -/
def IsMx (S : Int → Prop) (m : Int) : Prop := (m = 0 ∨ S m) ∧ 0 ≤ m ∧ ∀ v, S v → v ≤ m
theorem IsMx.uq {S : Int → Prop} {m m' : Int} (h : IsMx S m) (h' : IsMx S m') : m = m' := by
  have a : m ≤ m' := by
    rcases h.1 with q | q
    · have := h'.2.1; omega
    · exact h'.2.2 m q
  have b : m' ≤ m := by
    rcases h'.1 with q | q
    · have := h.2.1; omega
    · exact h.2.2 m' q
  omega
theorem IsMx.st {S S' : Int → Prop} {m x : Int} {c : Prop} (h : IsMx S m) (hS : ∀ v, S' v ↔ (S v ∨ (c ∧ v = x))) (hx : c → 0 ≤ x) : IsMx S' (sel (c ∧ m < x) x m) := by
  by_cases q : c ∧ m < x
  · rw [sel_t q]
    refine ⟨Or.inr ((hS x).2 (Or.inr ⟨q.1, rfl⟩)), hx q.1, fun v hv => ?_⟩
    rcases (hS v).1 hv with z | z
    · have := h.2.2 v z; omega
    · omega
  · rw [sel_f q]
    refine ⟨h.1.imp id (fun z => (hS m).2 (Or.inl z)), h.2.1, fun v hv => ?_⟩
    rcases (hS v).1 hv with z | z
    · exact h.2.2 v z
    · have : ¬ m < x := fun y => q ⟨z.1, y⟩
      omega
theorem IsMx.congr {S S' : Int → Prop} {m : Int} (h : IsMx S m) (hS : ∀ v, S v ↔ S' v) : IsMx S' m := ⟨h.1.imp id (fun z => (hS m).1 z), h.2.1, fun v hv => h.2.2 v ((hS v).2 hv)⟩
noncomputable def tMst (tc : Int → Int → Int) (tl : Int → Int) (t n : Int) : Int := Classical.epsilon (IsMx (fun v => ∃ i, 0 ≤ i ∧ i < n ∧ wh tc tl t i ∧ v = we tc tl t i - i))
theorem tMst_e {tc : Int → Int → Int} {tl : Int → Int} {t n m : Int} (h : IsMx (fun v => ∃ i, 0 ≤ i ∧ i < n ∧ wh tc tl t i ∧ v = we tc tl t i - i) m) : m = tMst tc tl t n := h.uq (Classical.epsilon_spec ⟨m, h⟩)
noncomputable def txo (sg : Int → Int) (tc : Int → Int → Int) (tl : Int → Int) (t w : Int) : Int := sel (w = 0) (tl t) (sel (w = 1) (tSig sg tc t (tl t)) (sel (w = 2) (tGap sg tc t (tl t)) (sel (w = 3) (tWds tc t (tl t)) (sel (w = 4) (tWho tc tl t (tl t)) (sel (w = 5) (tMst tc tl t (tl t)) (sa sg (tc t (w - 10))))))))
/-- of a list, those of text t: by places -/
theorem wk_row {tc : Int → Int → Int} {tl : Int → Int} {G : Int → Int} {g : Int → Int} {tm t : Int} (htl : ∀ a, 0 ≤ tl a) (ht : 0 ≤ t ∧ t < tm) (h : ∀ a b : Int, 0 ≤ a → 0 ≤ b → b < tl a → wb tc a b → a < tm → G (wk tc tl a b) = sel (a = t) (g b) 0) : isum G (wk tc tl tm 0) = isum (fun b => sel (wb tc t b) (g b) 0) (tl t) := by
  rw [wk_sum (g := fun a b => sel (a = t) (g b) 0) htl (by omega) (by omega) (Or.inr rfl) (fun a b h1 h2 h3 h4 h5 => h a b h1 h2 h3 h4 (by omega))]
  unfold PS
  rw [isum_0, Int.add_zero]
  have one : ∀ n : Int, 0 ≤ n → isum (fun a => isum (fun b => sel (wb tc a b) (sel (a = t) (g b) 0) 0) (tl a)) n = sel (t < n) (isum (fun b => sel (wb tc t b) (g b) 0) (tl t)) 0 := by
    intro n hn
    refine int_ind (P := fun n => isum (fun a => isum (fun b => sel (wb tc a b) (sel (a = t) (g b) 0) 0) (tl a)) n = sel (t < n) (isum (fun b => sel (wb tc t b) (g b) 0) (tl t)) 0) hn (by rw [isum_0, sel_f (by omega)]) (fun m h1 h2 ih => ?_)
    rw [isum_s h1, ih]
    by_cases e : m = t
    · rw [sel_f (by omega), sel_t (show t < m + 1 by omega), Int.zero_add, e]
      exact isum_congr (fun b _ _ => by rw [sel_t (c := t = t) rfl])
    · have z : isum (fun b => sel (wb tc m b) (sel (m = t) (g b) 0) 0) (tl m) = 0 := isum_all0 (fun b _ _ => by rw [sel_f e]; exact sel_by (fun _ => rfl) (fun _ => rfl))
      rw [z, Int.add_zero]
      exact sel_c (by omega)
  rw [one tm (by omega), sel_t ht.2]
/-! edges of words -/
noncomputable def ec (tc : Int → Int → Int) (tl : Int → Int) (last : Prop) (a b : Int) : Int := b + sel last (we tc tl a b - b - 1) 0
noncomputable def edgeS (sg : Int → Int) (tc : Int → Int → Int) (tl : Int → Int) (tm : Int) (last : Prop) (k : Int) : Int := PS (wb tc) (fun a b => bI (wh tc tl a b ∧ sa sg (tc a (ec tc tl last a b)) = k)) tl tm 0
def sqs (e : Int → Int) : Int := isum (fun k => e k * e k) 24
theorem edgeS_r {sg : Int → Int} {tc : Int → Int → Int} {tl : Int → Int} {tm k : Int} {last : Prop} (htl : ∀ a, 0 ≤ tl a ∧ tl a ≤ 24) (ht : 0 ≤ tm ∧ tm ≤ 8) : 0 ≤ edgeS sg tc tl tm last k ∧ edgeS sg tc tl tm last k ≤ 108 := by
  have h1 := PS_r (P := wb tc) (g := fun a b => bI (wh tc tl a b ∧ sa sg (tc a (ec tc tl last a b)) = k)) (fun a => (htl a).1) ht.1 (Int.le_refl 0) (fun a b => bI_01 _)
  have h2 := wk_r (tc := tc) htl ht.1 (i := 0) (by omega)
  unfold wk at h2
  unfold edgeS
  omega
theorem sqs_r {e : Int → Int} (h : ∀ k, 0 ≤ e k ∧ e k ≤ 108) : 0 ≤ sqs e ∧ sqs e ≤ 279936 := by
  have := isum_le (f := fun k => e k * e k) (b := 11664) (n := 24) (by omega) (fun k _ _ => by
    have a := h k
    refine ⟨Int.mul_nonneg a.1 a.1, ?_⟩
    have b := Int.mul_le_mul a.2 a.2 a.1 (by omega)
    omega)
  unfold sqs
  omega
def runS (w b e : Int) : Int := if w = 1 then b else if w = 2 then e else if b < e then 1 else if e < b then -1 else 0
theorem IsMx.st2 {S S' : Int → Prop} {m x : Int} {z : Prop} (h : IsMx S m) (hS : ∀ v, S' v ↔ (S v ∨ (¬ z ∧ v = x))) (hx : 0 ≤ x) : IsMx S' (sel z m (sel (m < x) x m)) := by
  have e : sel z m (sel (m < x) x m) = sel (¬ z ∧ m < x) x m := by
    by_cases q : z
    · rw [sel_t q, sel_f (fun y => y.1 q)]
    · rw [sel_f q]
      exact sel_c ⟨fun y => ⟨q, y⟩, fun y => y.2⟩
  rw [e]
  exact h.st hS (fun _ => hx)
