set_option maxRecDepth 100000
/-! THE PLAIN LAW: what is told in a text of claims -/
theorem sel_by2 {c : Prop} {P : Int → Prop} {a b : Int} (h1 : P a) (h2 : P b) : P (sel c a b) := by
  by_cases q : c
  · rw [sel_t q]; exact h1
  · rw [sel_f q]; exact h2
noncomputable def lk (t : Int → Int) (n k : Int) : Int := sel (k < n) (t k) (-1)
def IsRn (P : Int → Prop) (t : Int → Int) (n p q : Int) : Prop := p ≤ q ∧ (∀ j : Int, p ≤ j → j < q → P (lk t n j)) ∧ ¬ P (lk t n q)
theorem IsRn.uq {P : Int → Prop} {t : Int → Int} {n p q q' : Int} (h : IsRn P t n p q) (h' : IsRn P t n p q') : q = q' := by
  rcases Int.lt_trichotomy q q' with z | z | z
  · exact absurd (h'.2.1 q h.1 z) h.2.2
  · exact z
  · exact absurd (h.2.1 q' h'.1 z) h'.2.2
noncomputable def rn (P : Int → Prop) (t : Int → Int) (n p : Int) : Int := Classical.epsilon (IsRn P t n p)
theorem IsRn.eq {P : Int → Prop} {t : Int → Int} {n p q : Int} (h : IsRn P t n p q) : q = rn P t n p := h.uq (Classical.epsilon_spec ⟨q, h⟩)
theorem IsRn.ex {P : Int → Prop} {t : Int → Int} {n p : Int} (hp : p ≤ n) (h : ¬ P (-1)) : ∃ q, IsRn P t n p q := by
  obtain ⟨k, hk⟩ : ∃ k : Int, n = p + k := ⟨n - p, by omega⟩
  have : ∀ m : Int, 0 ≤ m → m ≤ k → (∃ q, IsRn P t n p q) ∨ ∀ j : Int, p ≤ j → j < p + m → P (lk t n j) := by
    intro m hm
    refine int_ind (P := fun m => m ≤ k → (∃ q, IsRn P t n p q) ∨ ∀ j : Int, p ≤ j → j < p + m → P (lk t n j)) hm (fun _ => Or.inr (fun j a b => absurd a (by omega))) (fun m h1 h2 ih hk2 => ?_)
    rcases ih (by omega) with q | q
    · exact Or.inl q
    · by_cases z : P (lk t n (p + m))
      · refine Or.inr (fun j a b => ?_)
        by_cases e : j = p + m
        · rw [e]; exact z
        · exact q j a (by omega)
      · exact Or.inl ⟨p + m, by omega, q, z⟩
  rcases this k (by omega) (Int.le_refl _) with q | q
  · exact q
  · exact ⟨n, hp, fun j a b => q j a (by omega), by unfold lk; rw [sel_f (by omega)]; exact h⟩
theorem rn_i {P : Int → Prop} {t : Int → Int} {n p : Int} (hp : p ≤ n) (h : ¬ P (-1)) : IsRn P t n p (rn P t n p) := Classical.epsilon_spec (IsRn.ex hp h)
theorem rn_le {P : Int → Prop} {t : Int → Int} {n p : Int} (hp : p ≤ n) (h : ¬ P (-1)) : p ≤ rn P t n p ∧ rn P t n p ≤ n := by
  have a := rn_i (t := t) hp h
  refine ⟨a.1, ?_⟩
  rcases Int.lt_or_le n (rn P t n p) with q | q
  · exfalso
    have z := a.2.1 n hp q
    unfold lk at z
    rw [sel_f (by omega)] at z
    exact h z
  · exact q
def isSp (c : Int) : Prop := c = 32
def isLt (c : Int) : Prop := 97 ≤ c ∧ c ≤ 122
def isDg (c : Int) : Prop := 48 ≤ c ∧ c ≤ 57
def isW (t : Int → Int) (n f p len a b c d e : Int) : Prop := ((p - f = len ∧ lk t n f = a ∧ lk t n (f + 1) = b) ∧ (len < 3 ∨ (lk t n (f + 2) = c ∧ lk t n (f + 3) = d))) ∧ (len < 5 ∨ lk t n (f + 4) = e)
noncomputable def nmv (t : Int → Int) (n f p : Int) : Int := sel (isW t n f p 4 115 105 103 110 0) 0 (sel (isW t n f p 5 115 111 117 110 100) 1 (sel (isW t n f p 4 119 111 114 100 0) 2 (sel (isW t n f p 4 110 97 109 101 0) 3 (sel (isW t n f p 6 116 111 110 103 117 ∧ lk t n (f + 5) = 101) 4 (sel (isW t n f p 2 111 110 0 0 0) 5 (-4))))))
noncomputable def nuv (t : Int → Int) (n f : Int) : Int → Int := ifo (fun v j => sel (j < 2) (10 * v + lk t n (f + j) - 48) v) 0
noncomputable def tf (t : Int → Int) (n p : Int) : Int := rn isSp t n p
noncomputable def tc1 (t : Int → Int) (n p : Int) : Int := lk t n (tf t n p)
noncomputable def tk (t : Int → Int) (n p : Int) : Int := sel (tc1 t n p < 0) 0 (sel (isLt (tc1 t n p)) 1 (sel (isDg (tc1 t n p)) 2 (sel (tc1 t n p = 59) 3 4)))
noncomputable def tp (t : Int → Int) (n p : Int) : Int := sel (tc1 t n p < 0) (tf t n p) (sel (isLt (tc1 t n p)) (rn isLt t n (tf t n p)) (sel (isDg (tc1 t n p)) (rn isDg t n (tf t n p)) (tf t n p + 1)))
noncomputable def tv (t : Int → Int) (n p : Int) : Int := sel (isLt (tc1 t n p)) (nmv t n (tf t n p) (tp t n p)) (nuv t n (tf t n p) (tp t n p - tf t n p))
noncomputable def te (t : Int → Int) (n p : Int) : Int := sel (tc1 t n p < 0) 0 (sel (isLt (tc1 t n p)) (bI (tv t n p = -4)) (sel (isDg (tc1 t n p)) (bI (¬ tp t n p - tf t n p ≤ 2)) (bI (¬ (tc1 t n p = 59 ∨ tc1 t n p = 44)))))
theorem nmv_r (t : Int → Int) (n f p : Int) : nmv t n f p = -4 ∨ (0 ≤ nmv t n f p ∧ nmv t n f p ≤ 5) := by
  have key : ∀ {c : Prop} {a b : Int}, (0 ≤ a ∧ a ≤ 5) → (b = -4 ∨ (0 ≤ b ∧ b ≤ 5)) → (sel c a b = -4 ∨ (0 ≤ sel c a b ∧ sel c a b ≤ 5)) := fun h1 h2 => sel_by2 (P := fun x => x = -4 ∨ (0 ≤ x ∧ x ≤ 5)) (Or.inr h1) h2
  unfold nmv
  exact key (by omega) (key (by omega) (key (by omega) (key (by omega) (key (by omega) (key (by omega) (Or.inl rfl))))))
theorem nuv_s {t : Int → Int} {n f j : Int} (h : 0 ≤ j) : nuv t n f (j + 1) = sel (j < 2) (10 * nuv t n f j + lk t n (f + j) - 48) (nuv t n f j) := ifo_s h
theorem nuv_r {t : Int → Int} {n f m : Int} (h : 0 ≤ m) (hd : ∀ j : Int, 0 ≤ j → j < m → isDg (lk t n (f + j))) : 0 ≤ nuv t n f m ∧ nuv t n f m ≤ 99 ∧ (m ≤ 1 → nuv t n f m ≤ 9) ∧ (m ≤ 0 → nuv t n f m = 0) := by
  refine int_ind (P := fun m' => m' ≤ m → 0 ≤ nuv t n f m' ∧ nuv t n f m' ≤ 99 ∧ (m' ≤ 1 → nuv t n f m' ≤ 9) ∧ (m' ≤ 0 → nuv t n f m' = 0)) h (fun _ => ⟨Int.le_refl _, by show (0 : Int) ≤ 99; omega, fun _ => by show (0 : Int) ≤ 9; omega, fun _ => rfl⟩) (fun k h1 h2 ih _ => ?_) (Int.le_refl _)
  have a := ih (by omega)
  have b := hd k h1 h2
  unfold isDg at b
  rw [nuv_s h1]
  by_cases q : k < 2
  · rw [sel_t q]; omega
  · rw [sel_f q]; omega
theorem no_Sp : ¬ isSp (-1) := by unfold isSp; omega
theorem no_Lt : ¬ isLt (-1) := by unfold isLt; omega
theorem no_Dg : ¬ isDg (-1) := by unfold isDg; omega
theorem lk_r {t : Int → Int} {n k : Int} (ht : ∀ j, 0 ≤ t j ∧ t j ≤ 255) : -1 ≤ lk t n k ∧ lk t n k ≤ 255 := sel_rg (fun _ => by have := ht k; omega) (fun _ => by omega)
theorem lk_lt {t : Int → Int} {n k : Int} (ht : ∀ j, 0 ≤ t j ∧ t j ≤ 255) : ¬ lk t n k < 0 ↔ k < n := by
  unfold lk
  by_cases q : k < n
  · rw [sel_t q]; have := ht k; exact ⟨fun _ => q, fun _ => by omega⟩
  · rw [sel_f q]; exact ⟨fun z => absurd z (by omega), fun z => absurd z q⟩
theorem tok_r {t : Int → Int} {n p : Int} (ht : ∀ j, 0 ≤ t j ∧ t j ≤ 255) (hp : 0 ≤ p ∧ p ≤ n) : (p ≤ tf t n p ∧ tf t n p ≤ n) ∧ (tf t n p ≤ tp t n p ∧ tp t n p ≤ n) ∧ (¬ tk t n p = 0 → tf t n p < tp t n p) ∧ (tk t n p = 2 → 0 ≤ tv t n p ∧ tv t n p ≤ 99) ∧ (tk t n p = 1 → te t n p = 0 → 0 ≤ tv t n p ∧ tv t n p ≤ 5) ∧ (0 ≤ te t n p ∧ te t n p ≤ 1) := by
  have a := rn_le (t := t) hp.2 no_Sp
  have a1 : p ≤ tf t n p ∧ tf t n p ≤ n := a
  have b := rn_le (P := isLt) (t := t) (p := tf t n p) a1.2 no_Lt
  have b2 := rn_le (P := isDg) (t := t) (p := tf t n p) a1.2 no_Dg
  have c1 := lk_lt (n := n) (k := tf t n p) ht
  have bi := rn_i (P := isLt) (t := t) (n := n) (p := tf t n p) a1.2 no_Lt
  have bi2 := rn_i (P := isDg) (t := t) (n := n) (p := tf t n p) a1.2 no_Dg
  by_cases q0 : tc1 t n p < 0
  · have e1 : tk t n p = 0 := sel_t q0
    have e2 : tp t n p = tf t n p := sel_t q0
    have e3 : te t n p = 0 := sel_t q0
    rw [e1, e2, e3]
    exact ⟨a1, ⟨Int.le_refl _, a1.2⟩, fun z => absurd rfl z, fun z => absurd z (by omega), fun z => absurd z (by omega), by omega⟩
  · have lt : tf t n p < n := c1.1 q0
    by_cases q1 : isLt (tc1 t n p)
    · have e1 : tk t n p = 1 := by unfold tk; rw [sel_f q0, sel_t q1]
      have e2 : tp t n p = rn isLt t n (tf t n p) := by unfold tp; rw [sel_f q0, sel_t q1]
      have e3 : te t n p = bI (tv t n p = -4) := by unfold te; rw [sel_f q0, sel_t q1]
      have e4 : tv t n p = nmv t n (tf t n p) (tp t n p) := sel_t q1
      have st : tf t n p < rn isLt t n (tf t n p) := by
        rcases Int.lt_or_le (tf t n p) (rn isLt t n (tf t n p)) with w | w
        · exact w
        · exact absurd ((show tf t n p = rn isLt t n (tf t n p) by omega) ▸ q1) bi.2.2
      have bb := bI_01 (tv t n p = -4)
      refine ⟨a1, by rw [e2]; omega, fun _ => by rw [e2]; exact st, fun z => absurd z (by omega), fun _ z => ?_, by rw [e3]; omega⟩
      rw [e3] at z
      have nz : ¬ tv t n p = -4 := fun y => by rw [bI_t y] at z; omega
      rw [e4] at nz ⊢
      exact (nmv_r _ _ _ _).resolve_left nz
    · by_cases q2 : isDg (tc1 t n p)
      · have e1 : tk t n p = 2 := by unfold tk; rw [sel_f q0, sel_f q1, sel_t q2]
        have e2 : tp t n p = rn isDg t n (tf t n p) := by unfold tp; rw [sel_f q0, sel_f q1, sel_t q2]
        have e3 : te t n p = bI (¬ tp t n p - tf t n p ≤ 2) := by unfold te; rw [sel_f q0, sel_f q1, sel_t q2]
        have e4 : tv t n p = nuv t n (tf t n p) (tp t n p - tf t n p) := sel_f q1
        have st : tf t n p < rn isDg t n (tf t n p) := by
          rcases Int.lt_or_le (tf t n p) (rn isDg t n (tf t n p)) with w | w
          · exact w
          · exact absurd ((show tf t n p = rn isDg t n (tf t n p) by omega) ▸ q2) bi2.2.2
        have bb := bI_01 (¬ tp t n p - tf t n p ≤ 2)
        refine ⟨a1, by rw [e2]; omega, fun _ => by rw [e2]; exact st, fun _ => ?_, fun z => absurd z (by omega), by rw [e3]; omega⟩
        rw [e4]
        have := nuv_r (t := t) (n := n) (f := tf t n p) (m := tp t n p - tf t n p) (by rw [e2]; omega) (fun j j1 j2 => bi2.2.1 _ (by omega) (by rw [e2] at j2; omega))
        exact ⟨this.1, this.2.1⟩
      · have e1 : tk t n p = sel (tc1 t n p = 59) 3 4 := by unfold tk; rw [sel_f q0, sel_f q1, sel_f q2]
        have e2 : tp t n p = tf t n p + 1 := by unfold tp; rw [sel_f q0, sel_f q1, sel_f q2]
        have e3 : te t n p = bI (¬ (tc1 t n p = 59 ∨ tc1 t n p = 44)) := by unfold te; rw [sel_f q0, sel_f q1, sel_f q2]
        have s34 : 3 ≤ tk t n p ∧ tk t n p ≤ 4 := by rw [e1]; exact sel_rg (fun _ => by omega) (fun _ => by omega)
        have bb := bI_01 (¬ (tc1 t n p = 59 ∨ tc1 t n p = 44))
        exact ⟨a1, by rw [e2]; omega, fun _ => by rw [e2]; omega, fun z => absurd z (by omega), fun z => absurd z (by omega), by rw [e3]; omega⟩
/-! the token that stands there now; a fault -/
def Cur (t : Int → Int) (n p f46 f47 f48 f49 f50 : Int) : Prop := (te t n p = 0 ∧ f50 = 0 ∧ f47 = tf t n p ∧ f48 = tk t n p ∧ f46 = tp t n p) ∧ (tk t n p = 1 ∨ tk t n p = 2 → f49 = tv t n p)
def Nxt (t : Int → Int) (n p f46 f47 f48 f49 f50 f51 : Int) : Prop := Cur t n p f46 f47 f48 f49 f50 ∨ (¬ te t n p = 0 ∧ f50 = 1 ∧ f51 = tf t n p)
abbrev POut := (Int × Int) ⊕ (Int × Int)
def pBad (code place : Int) : POut := .inl (code, place)
def pOk (p on : Int) : POut := .inr (p, on)
noncomputable def hang (t : Int → Int) (n : Int) (gone : Int → Int) (many : Int) : Nat → Int → Int → POut
  | 0, _, _ => pBad 0 0
  | k + 1, p, on =>
    sel (¬ te t n p = 0) (pBad 1 (tf t n p)) (sel (¬ tk t n p = 2) (pBad 2 (tf t n p)) (sel (¬ ((tv t n p < many ∧ gone (tv t n p) = -4) ∧ on / 2 ^ (tv t n p).toNat % 2 = 0)) (pBad 3 (tf t n p))
      (sel (¬ te t n (tp t n p) = 0) (pBad 1 (tf t n (tp t n p))) (sel (tk t n (tp t n p) = 4) (hang t n gone many k (tp t n (tp t n p)) (on + 2 ^ (tv t n p).toNat)) (pOk (tp t n p) (on + 2 ^ (tv t n p).toNat))))))
theorem nxt_end {t : Int → Int} {n p v f50 f51 : Int} (h : tc1 t n p < 0) (hf : f50 = 0) : Nxt t n p (tf t n p) (tf t n p) 0 v f50 f51 := by
  have e1 : tk t n p = 0 := sel_t h
  exact Or.inl ⟨⟨sel_t h, hf, rfl, e1.symm, (sel_t h).symm⟩, fun z => absurd z (by omega)⟩
theorem nxt_w {t : Int → Int} {n p q k v f50 f51 : Int} {g : Prop} (hq : q = tp t n p) (hk : k = tk t n p) (hv : tk t n p = 1 ∨ tk t n p = 2 → v = tv t n p) (he : te t n p = bI (¬ g)) (hf : f50 = 0) : Nxt t n p q (tf t n p) k v (sel (¬ g ∧ f50 = 0) 1 f50) (sel (¬ g ∧ f50 = 0) (tf t n p) f51) := by
  by_cases z : g
  · rw [sel_f (fun y => y.1 z), sel_f (fun y => y.1 z)]
    rw [bI_f (fun y => y z)] at he
    exact Or.inl ⟨⟨he, hf, rfl, hk, hq⟩, hv⟩
  · rw [sel_t ⟨z, hf⟩, sel_t ⟨z, hf⟩]
    rw [bI_t z] at he
    exact Or.inr ⟨by omega, rfl, rfl⟩
theorem nxt_lt {t : Int → Int} {n p q v f50 f51 : Int} {g : Prop} (h0 : ¬ tc1 t n p < 0) (h1 : isLt (tc1 t n p)) (hq : q = rn isLt t n (tf t n p)) (hv : v = nmv t n (tf t n p) q) (hg : g ↔ ¬ v = -4) (hf : f50 = 0) : Nxt t n p q (tf t n p) 1 v (sel (¬ g ∧ f50 = 0) 1 f50) (sel (¬ g ∧ f50 = 0) (tf t n p) f51) := by
  have e1 : tk t n p = 1 := by unfold tk; rw [sel_f h0, sel_t h1]
  have e2 : tp t n p = q := by unfold tp; rw [sel_f h0, sel_t h1, hq]
  have e4 : tv t n p = v := by rw [hv, ← e2]; exact sel_t h1
  have e3 : te t n p = bI (¬ g) := by unfold te; rw [sel_f h0, sel_t h1, e4]; exact bI_c ⟨fun z y => hg.1 y z, fun z => Classical.byContradiction (fun y => z (hg.2 y))⟩
  exact nxt_w e2.symm e1.symm (fun _ => e4.symm) e3 hf
theorem nxt_dg {t : Int → Int} {n p q v f50 f51 : Int} {g : Prop} (h0 : ¬ tc1 t n p < 0) (h1 : ¬ isLt (tc1 t n p)) (h2 : isDg (tc1 t n p)) (hq : q = rn isDg t n (tf t n p)) (hv : v = nuv t n (tf t n p) (q - tf t n p)) (hg : g ↔ q - tf t n p ≤ 2) (hf : f50 = 0) : Nxt t n p q (tf t n p) 2 v (sel (¬ g ∧ f50 = 0) 1 f50) (sel (¬ g ∧ f50 = 0) (tf t n p) f51) := by
  have e1 : tk t n p = 2 := by unfold tk; rw [sel_f h0, sel_f h1, sel_t h2]
  have e2 : tp t n p = q := by unfold tp; rw [sel_f h0, sel_f h1, sel_t h2, hq]
  have e4 : tv t n p = v := by rw [hv, ← e2]; exact sel_f h1
  have e3 : te t n p = bI (¬ g) := by unfold te; rw [sel_f h0, sel_f h1, sel_t h2, e2]; exact bI_c ⟨fun z y => z (hg.1 y), fun z y => z (hg.2 y)⟩
  exact nxt_w e2.symm e1.symm (fun _ => e4.symm) e3 hf
theorem nxt_ot {t : Int → Int} {n p q k v f50 f51 : Int} {g : Prop} (h0 : ¬ tc1 t n p < 0) (h1 : ¬ isLt (tc1 t n p)) (h2 : ¬ isDg (tc1 t n p)) (hq : q = tf t n p + 1) (hk : k = sel (tc1 t n p = 59) 3 4) (hg : g ↔ (tc1 t n p = 59 ∨ tc1 t n p = 44)) (hf : f50 = 0) : Nxt t n p q (tf t n p) k v (sel (¬ g ∧ f50 = 0) 1 f50) (sel (¬ g ∧ f50 = 0) (tf t n p) f51) := by
  have e1 : tk t n p = k := by unfold tk; rw [sel_f h0, sel_f h1, sel_f h2, hk]
  have e2 : tp t n p = q := by unfold tp; rw [sel_f h0, sel_f h1, sel_f h2, hq]
  have e3 : te t n p = bI (¬ g) := by unfold te; rw [sel_f h0, sel_f h1, sel_f h2]; exact bI_c ⟨fun z y => z (hg.1 y), fun z y => z (hg.2 y)⟩
  have s34 : 3 ≤ k ∧ k ≤ 4 := by rw [hk]; exact sel_rg (fun _ => by omega) (fun _ => by omega)
  exact nxt_w e2.symm e1.symm (fun z => absurd z (by omega)) e3 hf
theorem IsRn.st {P : Int → Prop} {t : Int → Int} {n p q : Int} (h : ∀ j : Int, p ≤ j → j < q → P (lk t n j)) (hq : P (lk t n q)) : ∀ j : Int, p ≤ j → j < q + 1 → P (lk t n j) := by
  intro j a b
  by_cases e : j = q
  · rw [e]; exact hq
  · exact h j a (by omega)
/-! going on while there is no fault -/
def PG (HH C : POut) (f50 f51 : Int) : Prop := (f50 = 0 ∧ HH = C) ∨ (0 < f50 ∧ HH = pBad f50 f51)
theorem PG.wants {HH C : POut} {k place f47 f50 f51 b50 b51 : Int} {g g' : Prop} (h : PG HH (sel (¬ g') (pBad k place) C) f50 f51) (hk : 0 < k) (hw50 : b50 = sel (¬ g ∧ f50 = 0) k f50) (hw51 : b51 = sel (¬ g ∧ f50 = 0) f47 f51) (hg : f50 = 0 → (g ↔ g')) (hp : f50 = 0 → f47 = place) : PG HH C b50 b51 ∧ (b50 = 0 → f50 = 0 ∧ g') := by
  rcases h with ⟨a, b⟩ | ⟨a, b⟩
  · by_cases z : g
    · have z' := (hg a).1 z
      rw [sel_f (fun y => y z')] at b
      rw [sel_f (fun y => y.1 z)] at hw50 hw51
      exact ⟨Or.inl ⟨by omega, b⟩, fun _ => ⟨a, z'⟩⟩
    · have z' : ¬ g' := fun y => z ((hg a).2 y)
      rw [sel_t z'] at b
      rw [sel_t ⟨z, a⟩] at hw50 hw51
      refine ⟨Or.inr ⟨by omega, ?_⟩, fun y => by omega⟩
      rw [hw50, hw51, hp a]; exact b
  · have n : ¬ (¬ g ∧ f50 = 0) := fun y => by have := y.2; omega
    rw [sel_f n] at hw50 hw51
    rw [hw50, hw51]
    exact ⟨Or.inr ⟨a, b⟩, fun y => by omega⟩
theorem PG.next {HH C : POut} {t : Int → Int} {n q q' f46 f47 f48 f49 f50 f51 a46 a47 a48 a49 a50 a51 : Int} (h : PG HH (sel (¬ te t n q = 0) (pBad 1 (tf t n q)) C) f50 f51) (hno : 0 < f50 → a46 = f46 ∧ a47 = f47 ∧ a48 = f48 ∧ a49 = f49 ∧ a50 = f50 ∧ a51 = f51) (hyes : f50 = 0 → Nxt t n q' a46 a47 a48 a49 a50 a51) (hq : f50 = 0 → q' = q) : PG HH C a50 a51 ∧ (a50 = 0 → f50 = 0 ∧ Cur t n q a46 a47 a48 a49 a50) := by
  rcases h with ⟨a, b⟩ | ⟨a, b⟩
  · have e := hq a
    rw [e] at hyes
    rcases hyes a with z | z
    · rw [sel_f (fun y => y z.1.1)] at b
      exact ⟨Or.inl ⟨z.1.2.1, b⟩, fun _ => ⟨a, z⟩⟩
    · rw [sel_t z.1] at b
      refine ⟨Or.inr ⟨by omega, ?_⟩, fun y => by omega⟩
      rw [z.2.1, z.2.2]; exact b
  · have z := hno a
    rw [z.2.2.2.2.1, z.2.2.2.2.2]
    exact ⟨Or.inr ⟨a, b⟩, fun y => by omega⟩
theorem nor_bit (x v : Nat) (h : x / 2 ^ v % 2 = 0) : x ||| 2 ^ v = x + 2 ^ v := by
  have pv : 0 < 2 ^ v := Nat.two_pow_pos v
  have lo : x % 2 ^ v < 2 ^ v := Nat.mod_lt _ pv
  have e : x = 2 ^ v * (x / 2 ^ v) + x % 2 ^ v := (Nat.div_add_mod _ _).symm
  have e1 : (x / 2 ^ v) ||| 1 = x / 2 ^ v + 1 := by
    have := Nat.two_pow_add_eq_or_of_lt (i := 1) (b := 1) (by omega) (x / 2 ^ v / 2)
    rw [show 2 ^ 1 * (x / 2 ^ v / 2) = x / 2 ^ v by omega] at this
    omega
  have e2 : 2 ^ v * (x / 2 ^ v) ||| 2 ^ v = 2 ^ v * (x / 2 ^ v + 1) := by
    rw [← e1]
    have := Nat.shiftLeft_or_distrib (a := x / 2 ^ v) (b := 1) (i := v)
    rw [Nat.shiftLeft_eq, Nat.shiftLeft_eq, Nat.shiftLeft_eq, Nat.one_mul] at this
    rw [Nat.mul_comm (2 ^ v), Nat.mul_comm (2 ^ v)]
    exact this.symm
  have e3 : x = 2 ^ v * (x / 2 ^ v) ||| x % 2 ^ v := by
    rw [← Nat.two_pow_add_eq_or_of_lt lo]; exact e
  calc x ||| 2 ^ v = (2 ^ v * (x / 2 ^ v) ||| x % 2 ^ v) ||| 2 ^ v := by rw [← e3]
    _ = (2 ^ v * (x / 2 ^ v) ||| 2 ^ v) ||| x % 2 ^ v := by rw [Nat.or_assoc, Nat.or_comm (x % 2 ^ v), ← Nat.or_assoc]
    _ = 2 ^ v * (x / 2 ^ v + 1) ||| x % 2 ^ v := by rw [e2]
    _ = 2 ^ v * (x / 2 ^ v + 1) + x % 2 ^ v := (Nat.two_pow_add_eq_or_of_lt lo _).symm
    _ = x + 2 ^ v := by rw [Nat.mul_add, Nat.mul_one]; omega
theorem oo_bit {x v : Int} (hx : 0 ≤ x) (h : x / 2 ^ v.toNat % 2 = 0) : oo x (1 * 2 ^ v.toNat) = x + 2 ^ v.toNat := by
  obtain ⟨x, rfl⟩ := Int.eq_ofNat_of_zero_le hx
  have e : ((2 ^ v.toNat : Nat) : Int) = 2 ^ v.toNat := by rw [Int.natCast_pow]; rfl
  have h2 : x / 2 ^ v.toNat % 2 = 0 := by
    have : ((x / 2 ^ v.toNat % 2 : Nat) : Int) = 0 := by rw [Int.natCast_emod, Int.natCast_ediv, e]; exact h
    omega
  unfold oo
  rw [Int.one_mul, ← e, Int.toNat_natCast, Int.toNat_natCast, nor_bit _ _ h2, Int.natCast_add]
theorem oo_0 {x : Int} (hx : 0 ≤ x) : oo x 0 = x := by
  unfold oo
  rw [show (0 : Int).toNat = 0 from rfl, Nat.or_zero, Int.toNat_of_nonneg hx]
theorem bit_lt {x v k : Int} (hx : 0 ≤ x ∧ x < 2 ^ k.toNat) (hv : 0 ≤ v ∧ v < k) (h : x / 2 ^ v.toNat % 2 = 0) : 0 ≤ x + 2 ^ v.toNat ∧ x + 2 ^ v.toNat < 2 ^ k.toNat := by
  have pv : (0 : Int) < 2 ^ v.toNat := Int.pow_pos (by omega)
  have e : (2 : Int) ^ k.toNat = 2 ^ v.toNat * (2 * 2 ^ (k.toNat - v.toNat - 1)) := by
    rw [show (2 : Int) * 2 ^ (k.toNat - v.toNat - 1) = 2 ^ (k.toNat - v.toNat) by rw [← Int.pow_succ', show k.toNat - v.toNat - 1 + 1 = k.toNat - v.toNat by omega], ← Int.pow_add]
    congr 1
    omega
  have q1 : x / 2 ^ v.toNat < 2 * 2 ^ (k.toNat - v.toNat - 1) := Int.ediv_lt_of_lt_mul pv (by rw [Int.mul_comm, ← e]; exact hx.2)
  have q2 : x / 2 ^ v.toNat + 2 ≤ 2 * 2 ^ (k.toNat - v.toNat - 1) := by omega
  have q3 := Int.mul_le_mul_of_nonneg_left q2 (show 0 ≤ (2 : Int) ^ v.toNat by omega)
  have q4 := Int.lt_ediv_add_one_mul_self x pv
  rw [← e, Int.mul_add] at q3
  have q5 : (x / 2 ^ v.toNat + 1) * 2 ^ v.toNat = 2 ^ v.toNat * (x / 2 ^ v.toNat) + 2 ^ v.toNat := by rw [Int.add_mul, Int.one_mul, Int.mul_comm]
  omega
theorem hang_s {t : Int → Int} {n : Int} {gone : Int → Int} {many : Int} {k : Nat} {p on : Int} : hang t n gone many (k + 1) p on =
    sel (¬ te t n p = 0) (pBad 1 (tf t n p)) (sel (¬ tk t n p = 2) (pBad 2 (tf t n p)) (sel (¬ ((tv t n p < many ∧ gone (tv t n p) = -4) ∧ on / 2 ^ (tv t n p).toNat % 2 = 0)) (pBad 3 (tf t n p))
      (sel (¬ te t n (tp t n p) = 0) (pBad 1 (tf t n (tp t n p))) (sel (tk t n (tp t n p) = 4) (hang t n gone many k (tp t n (tp t n p)) (on + 2 ^ (tv t n p).toNat)) (pOk (tp t n p) (on + 2 ^ (tv t n p).toNat)))))) := rfl
theorem p2_20 {k : Int} (h : 0 ≤ k ∧ k ≤ 20) : (1 : Int) ≤ 2 ^ k.toNat ∧ (2 : Int) ^ k.toNat ≤ 1048576 := by
  have e : ((2 ^ k.toNat : Nat) : Int) = 2 ^ k.toNat := by rw [Int.natCast_pow]; rfl
  have h1 : 2 ^ k.toNat ≤ 2 ^ 20 := Nat.pow_le_pow_right (by omega) (by omega)
  have h2 : 0 < 2 ^ k.toNat := Nat.two_pow_pos _
  rw [← e]
  omega
