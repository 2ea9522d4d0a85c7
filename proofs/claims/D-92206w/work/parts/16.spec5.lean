set_option maxRecDepth 100000
/-! THE PLAIN LAW: how many signs, chance, what is read by sounds -/
theorem bst_s {n : Int} {s : Int → Int} {k : Int} (h : 0 ≤ k) : bst n s (k + 1) = sel (s k = k ∧ (bst n s k = -4 ∨ sz_of n s (bst n s k) < sz_of n s k)) k (bst n s k) := ifo_s h
noncomputable def szb (n : Int) (s : Int → Int) (b : Int) : Int := sel (b = -4) 0 (sz_of n s b)
theorem szb_r {n : Int} {s : Int → Int} {b : Int} (h : 0 ≤ n) : 0 ≤ szb n s b ∧ szb n s b ≤ n := sel_rg (fun _ => by omega) (fun _ => sz_r h)
theorem bst_up {n : Int} {ft : Int → Int} {w : Int} {s : Int → Int} {k b : Int} (h : SgOK n ft w s) (hk : 0 ≤ k ∧ k < n) (hb : b = bst n s k) (hm : szb n s b < sz_of n s k) : k = bst n s (k + 1) ∧ sz_of n s k = szb n s k := by
  have hs : s k = k := Classical.byContradiction (fun z => by have := sz_no h z; have := (szb_r (s := s) (b := b) (n := n) (by omega)).1; omega)
  rw [bst_s hk.1, ← hb]
  refine ⟨(sel_t ⟨hs, ?_⟩).symm, (sel_f (by omega)).symm⟩
  by_cases q : b = -4
  · exact Or.inl q
  · refine Or.inr ?_
    unfold szb at hm
    rw [sel_f q] at hm
    exact hm
theorem bst_no {n : Int} {ft : Int → Int} {w : Int} {s : Int → Int} {k b : Int} (h : SgOK n ft w s) (hk : 0 ≤ k ∧ k < n) (hb : b = bst n s k) (hm : ¬ szb n s b < sz_of n s k) : b = bst n s (k + 1) := by
  rw [bst_s hk.1, ← hb]
  refine (sel_f (fun z => hm ?_)).symm
  have hp := sz_pos (s := s) hk.1 hk.2 z.1
  unfold szb
  by_cases q : b = -4
  · rw [sel_t q]; omega
  · rw [sel_f q]; exact z.2.resolve_left q
theorem up_r {b c d : Int} (hb : 0 ≤ b ∧ b ≤ 192) (hc : 0 ≤ c ∧ c ≤ 192) (hd : (0 ≤ d ∧ d ≤ 192) ∨ d = c - 1) : 0 ≤ b * c * d ∧ b * c * d ≤ 7077888 := by
  have h1 : 0 ≤ b * c := Int.mul_nonneg hb.1 hc.1
  have h2 : b * c ≤ 192 * 192 := Int.mul_le_mul hb.2 hc.2 hc.1 (by omega)
  rcases Int.lt_or_le d 0 with q | q
  · have hc0 : c = 0 := by omega
    rw [hc0, Int.mul_zero, Int.zero_mul]; omega
  · exact ⟨Int.mul_nonneg h1 q, Int.le_trans (Int.mul_le_mul h2 (show d ≤ 192 by omega) q (by omega)) (by omega)⟩
theorem dn_r {n : Int} (h : 2 ≤ n ∧ n ≤ 192) : 2 ≤ n * (n - 1) ∧ n * (n - 1) ≤ 36864 :=
  ⟨Int.le_trans (show (2 : Int) ≤ 2 * 1 by omega) (Int.mul_le_mul h.1 (by omega) (by omega) (by omega)), Int.le_trans (Int.mul_le_mul h.2 (show n - 1 ≤ 192 by omega) (by omega) (by omega)) (by omega)⟩
theorem gc_pos {x y : Int} (hy : 0 < y) : 1 ≤ gc x y := by
  unfold gc
  have : 0 < Nat.gcd x.toNat y.toNat := Nat.gcd_pos_of_pos_right _ (by omega)
  omega
/-- readable words, one behind another -/
def LR (P : Int → Prop) (q : Int → Int → Int) (wM : Int → Int) (n f : Int) (a b : Int → Int) : Prop := f = isum (fun w => bI (P w)) n ∧ ∀ w : Int, 0 ≤ w → w < n → P w → a (isum (fun w => bI (P w)) w) = wM w ∧ Dig (q w) (wM w) (b (isum (fun w => bI (P w)) w))
theorem LR.zero {P : Int → Prop} {q : Int → Int → Int} {wM a b : Int → Int} : LR P q wM 0 0 a b := ⟨rfl, fun w h1 h2 => absurd h1 (by omega)⟩
theorem LR.no {P : Int → Prop} {q : Int → Int → Int} {wM a b : Int → Int} {n f : Int} (h : LR P q wM n f a b) (hn : 0 ≤ n) (hp : ¬ P n) : LR P q wM (n + 1) f a b := by
  refine ⟨nf_no hn h.1 hp, fun w h1 h2 h3 => ?_⟩
  by_cases e : w = n
  · rw [e] at h3; exact absurd h3 hp
  · exact h.2 w h1 (by omega) h3
theorem LR.yes {P : Int → Prop} {q : Int → Int → Int} {wM a b : Int → Int} {n f x : Int} (h : LR P q wM n f a b) (hn : 0 ≤ n) (hp : P n) (hd : Dig (q n) (wM n) x) : LR P q wM (n + 1) (f + 1) (fup a f (wM n)) (fup b f x) := by
  refine ⟨nf_yes hn h.1 hp, fun w h1 h2 h3 => ?_⟩
  by_cases e : w = n
  · rw [e, ← h.1, fup_s, fup_s]; exact ⟨rfl, hd⟩
  · have l : isum (fun w => bI (P w)) w + 1 ≤ f := by
      have m := isum_mono (f := fun w => bI (P w)) (a := w + 1) (b := n) (fun j _ _ => (bI_01 _).1) (by omega) (by omega)
      rw [isum_s h1, bI_t h3] at m
      rw [h.1]; exact m
    rw [fup_n _ _ (by omega), fup_n _ _ (by omega)]
    exact h.2 w h1 (by omega) h3
def Rd (sg m6 m8 m9 m10 m11 sp : Int → Int) (some w : Int) : Prop := m11 w = 1 ∧ m10 w ≤ 6 ∧ some / 2 ^ (m8 w).toNat % 2 = 1 ∧ ∀ j : Int, 0 ≤ j → j < m10 w → ¬ sp (sa sg (m6 (24 * m8 w + (m9 w + j)))) = -4
noncomputable def Rq (sg m6 m8 m9 sp : Int → Int) (w j : Int) : Int := sp (sa sg (m6 (24 * m8 w + (m9 w + j))))
theorem Rd_i {sg m6 m8 m9 m10 m11 sp : Int → Int} {some w : Int} {A : Prop} (hA : A ↔ (m11 w = 1 ∧ m10 w ≤ 6 ∧ some / 2 ^ (m8 w).toNat % 2 = 1)) : (A ∧ ∀ j : Int, 0 ≤ j → j < m10 w → ¬ Rq sg m6 m8 m9 sp w j = -4) ↔ Rd sg m6 m8 m9 m10 m11 sp some w := by
  rw [hA]
  exact ⟨fun z => ⟨z.1.1, z.1.2.1, z.1.2.2, z.2⟩, fun z => ⟨⟨z.1, z.2.1, z.2.2.1⟩, z.2.2.2⟩⟩
theorem rowS_st {f : Int → Int} {n m a x : Int} (h : 0 ≤ n) (e : a = rowS f n) (hm : m = n + 1) (hx : x = f n) : 4 * a + x = rowS f m := by rw [hm, rowS_s h, e, hx]
noncomputable def rbF (m37 m38 : Int → Int) (v k : Int) : Int → Int := fun j => snd v (m38 k / 2 ^ (3 * (m37 k - 1 - j)).toNat % 8)
noncomputable def rbS (m37 m38 m39 : Int → Int) (v n : Int) : Int := isum (fun k => bI (m39 (4096 * m37 k + rowS (rbF m37 m38 v k) (m37 k)) = 1)) n
theorem rbF_x {m37 m38 : Int → Int} {v k i : Int} : v / 2 ^ (2 * (m38 k / 2 ^ (3 * i).toNat % 8)).toNat % 4 = rbF m37 m38 v k (m37 k - 1 - i) := by
  unfold rbF snd
  rw [show m37 k - 1 - (m37 k - 1 - i) = i by omega]
theorem rbF_r (m37 m38 : Int → Int) (v k j : Int) : 0 ≤ rbF m37 m38 v k j ∧ rbF m37 m38 v k j ≤ 3 := snd_r _ _
theorem rb_rd {sg m6 m8 m9 m10 m11 sp gl gs tl m37 m38 m39 : Int → Int} {tm wn n gm some v : Int} (htl : ∀ a, 0 ≤ tl a) (htm : 0 ≤ tm) (hwk : wn = wk (mtc m6) tl tm 0) (hwr : WR (mtc m6) tl m8 m9 m10 m11 tm 0) (hl : LR (Rd sg m6 m8 m9 m10 m11 sp some) (Rq sg m6 m8 m9 sp) m10 wn n m37 m38)
    (htw : ∀ a b : Int, 0 ≤ a → a < 7 → 0 ≤ b → b < 4096 → (m39 (4096 * a + b) = 1 ↔ Tw gm gl gs a b)) : rbS m37 m38 m39 v n = rdS sg (mtc m6) tl tm sp gm gl gs some (snd v) := by
  unfold rbS
  rw [hl.1]
  rw [rank1 (P := Rd sg m6 m8 m9 m10 m11 sp some) (G := fun k => bI (m39 (4096 * m37 k + rowS (rbF m37 m38 v k) (m37 k)) = 1)) (g := fun w => bI (Tw gm gl gs (m10 w) (rowS (fun j => snd v (Rq sg m6 m8 m9 sp w j)) (m10 w)))) (n := wn)
    (by rw [hwk]; exact KP_nn htl htm (Int.le_refl 0)) (fun w h1 h2 h3 => by
      obtain ⟨e1, e2⟩ := hl.2 w h1 h2 h3
      obtain ⟨wa, wb_, q1, q2, q3, q4, q5, q6, q7, q8, q9, q10⟩ := hwr.at htl htm h1 (by omega)
      have hm : 0 ≤ m10 w ∧ m10 w ≤ 6 := ⟨by have := (we_E (tc := mtc m6) (tl := tl) (t := wa) (i := wb_) (by omega)).1; omega, h3.2.1⟩
      show bI (m39 (4096 * m37 (isum (fun w => bI (Rd sg m6 m8 m9 m10 m11 sp some w)) w) + rowS _ (m37 (isum (fun w => bI (Rd sg m6 m8 m9 m10 m11 sp some w)) w))) = 1) = _
      have er : rowS (rbF m37 m38 v (isum (fun w => bI (Rd sg m6 m8 m9 m10 m11 sp some w)) w)) (m10 w) = rowS (fun j => snd v (Rq sg m6 m8 m9 sp w j)) (m10 w) := rowS_congr hm.1 (fun j a b => by
        unfold rbF
        rw [e1, e2.2 j a b])
      rw [e1, er]
      have rr := rowS_r6 (f := fun j => snd v (Rq sg m6 m8 m9 sp w j)) hm (fun j _ _ => snd_r _ _)
      exact bI_c (htw _ _ hm.1 (by omega) rr.1 rr.2))]
  rw [hwk]
  unfold rdS
  refine wk_sum htl htm (Int.le_refl 0) (Or.inr rfl) (fun a b h1 h2 h3 h4 h5 => ?_)
  obtain ⟨q1, q2, q3, q4⟩ := hwr a b h1 h2 h3 h4 h5
  show sel (Rd sg m6 m8 m9 m10 m11 sp some (wk (mtc m6) tl a b)) _ 0 = _
  have e : Rd sg m6 m8 m9 m10 m11 sp some (wk (mtc m6) tl a b) ↔ RD sg (mtc m6) tl sp some a b := by
    unfold Rd RD
    rw [q1, q2, q3, q4]
    exact Iff.rfl
  rw [sel_c e, q3]
  have er : (fun j => snd v (Rq sg m6 m8 m9 sp (wk (mtc m6) tl a b) j)) = (fun j => snd v (sp (sa sg (mtc m6 a (b + j))))) := by
    funext j
    unfold Rq
    rw [q1, q2]
    rfl
  rw [er]
  exact sel_by (fun z => bI_c ⟨fun y => ⟨z, y⟩, fun y => y.2⟩) (fun z => (bI_f (fun y => z y.1)).symm)
/-! like cells, like words -/
def LkC (tc tc' : Int → Int → Int) (tl tl' : Int → Int) (tm : Int) : Prop := ∀ t : Int, 0 ≤ t → t < tm → tl t = tl' t ∧ ∀ j : Int, 0 ≤ j → j < tl t → tc t j = tc' t j
theorem LkC.rf {tc : Int → Int → Int} {tl : Int → Int} {tm : Int} : LkC tc tc tl tl tm := fun _ _ _ => ⟨rfl, fun _ _ _ => rfl⟩
theorem LkC.b {tc tc' : Int → Int → Int} {tl tl' : Int → Int} {tm t i : Int} (h : LkC tc tc' tl tl' tm) (ht : 0 ≤ t ∧ t < tm) (hi : 0 ≤ i ∧ i < tl t) : wb tc t i ↔ wb tc' t i := by
  have a := (h t ht.1 ht.2).2
  unfold wb
  rw [a i hi.1 hi.2]
  by_cases q : i = 0
  · exact ⟨fun z => ⟨z.1, Or.inl q⟩, fun z => ⟨z.1, Or.inl q⟩⟩
  · rw [a (i - 1) (by omega) (by omega)]
theorem LkC.e {tc tc' : Int → Int → Int} {tl tl' : Int → Int} {tm t i : Int} (h : LkC tc tc' tl tl' tm) (ht : 0 ≤ t ∧ t < tm) (hi : 0 ≤ i ∧ i ≤ tl t) : we tc tl t i = we tc' tl' t i := by
  have a := h t ht.1 ht.2
  have e := we_E (tc := tc) (tl := tl) (t := t) (i := i) hi.2
  refine (IsE.eq (tc := tc') (tl := tl') ⟨e.1, by rw [← a.1]; exact e.2.1, fun j h1 h2 => ?_, ?_⟩).symm
  · rw [← a.2 j (by omega) (by have := e.2.1; omega)]; exact e.2.2.1 j h1 h2
  · rcases e.2.2.2 with q | q
    · left; rw [← a.1]; exact q
    · rcases Int.lt_or_le (we tc tl t i) (tl t) with w | w
      · right; rw [← a.2 _ (by have := e.1; omega) w]; exact q
      · left; rw [← a.1]; have := e.2.1; omega
theorem LkC.h {tc tc' : Int → Int → Int} {tl tl' : Int → Int} {tm t i : Int} (h : LkC tc tc' tl tl' tm) (ht : 0 ≤ t ∧ t < tm) (hi : 0 ≤ i ∧ i < tl t) : wh tc tl t i ↔ wh tc' tl' t i := by
  have a := (h t ht.1 ht.2).2
  have e := we_E (tc := tc) (tl := tl) (t := t) (i := i) (by omega)
  unfold wh
  rw [h.b ht hi, ← h.e ht ⟨hi.1, by omega⟩]
  have z : (∀ j : Int, i ≤ j → j < we tc tl t i → ¬ tc t j = -1) ↔ (∀ j : Int, i ≤ j → j < we tc tl t i → ¬ tc' t j = -1) := by
    constructor
    · intro q j h1 h2; rw [← a j (by omega) (by have := e.2.1; omega)]; exact q j h1 h2
    · intro q j h1 h2; rw [a j (by omega) (by have := e.2.1; omega)]; exact q j h1 h2
  rw [z]
/-- the cells of whole words are of signs -/
theorem wh_cell {tc : Int → Int → Int} {tl : Int → Int} {t i j : Int} (h : wh tc tl t i) (hi : 0 ≤ i ∧ i ≤ tl t) (hr : ∀ j : Int, -2 ≤ tc t j) (h1 : i ≤ j) (h2 : j < we tc tl t i) : 0 ≤ tc t j := by
  have a := h.2 j h1 h2
  have b := (we_E (tc := tc) (tl := tl) hi.2).2.2.1 j h1 h2
  have c := hr j
  omega
theorem rdS_cg {sg sg' : Int → Int} {tc tc' : Int → Int → Int} {tl tl' : Int → Int} {tm : Int} {sp sp' : Int → Int} {gm gm' : Int} {gl gl' gs gs' : Int → Int} {some : Int} {sd : Int → Int} (h : LkC tc tc' tl tl' tm) (htm : 0 ≤ tm) (hr : ∀ t j : Int, -2 ≤ tc t j) (hs : ∀ t j : Int, 0 ≤ t → t < tm → 0 ≤ j → j < tl t → 0 ≤ tc t j → sp (sa sg (tc t j)) = sp' (sa sg' (tc' t j))) (hT : ∀ n v : Int, Tw gm gl gs n v ↔ Tw gm' gl' gs' n v) : rdS sg tc tl tm sp gm gl gs some sd = rdS sg' tc' tl' tm sp' gm' gl' gs' some sd := by
  unfold rdS
  refine PS_congr (fun a h1 h2 => (h a h1 h2).1) (fun a b h1 h2 h3 => ?_) htm
  rcases h3 with ⟨h3, h4⟩ | ⟨_, h4⟩
  · have eb := h.b ⟨h1, h3⟩ ⟨h2, h4⟩
    have ee := h.e ⟨h1, h3⟩ ⟨h2, by omega⟩
    have eh := h.h ⟨h1, h3⟩ ⟨h2, h4⟩
    have E := we_E (tc := tc) (tl := tl) (t := a) (i := b) (by omega)
    rw [sel_c eb]
    refine sel_by (fun z => ?_) (fun z => by rw [sel_f z])
    rw [sel_t z]
    refine bI_c ?_
    by_cases w : wh tc tl a b
    · have cell : ∀ j : Int, 0 ≤ j → j < we tc tl a b - b → sp (sa sg (tc a (b + j))) = sp' (sa sg' (tc' a (b + j))) := fun j q1 q2 => hs a (b + j) h1 h3 (by omega) (by have := E.2.1; omega) (wh_cell w ⟨h2, by omega⟩ (hr a) (by omega) (by omega))
      have e1 : RD sg tc tl sp some a b ↔ RD sg' tc' tl' sp' some a b := by
        unfold RD
        rw [eh, ee]
        have z : (∀ j : Int, 0 ≤ j → j < we tc' tl' a b - b → ¬ sp (sa sg (tc a (b + j))) = -4) ↔ (∀ j : Int, 0 ≤ j → j < we tc' tl' a b - b → ¬ sp' (sa sg' (tc' a (b + j))) = -4) := by
          constructor
          · intro q j q1 q2; rw [← cell j q1 (by omega)]; exact q j q1 q2
          · intro q j q1 q2; rw [cell j q1 (by omega)]; exact q j q1 q2
        rw [z]
      have er : rowS (fun j => sd (sp (sa sg (tc a (b + j))))) (we tc tl a b - b) = rowS (fun j => sd (sp' (sa sg' (tc' a (b + j))))) (we tc tl a b - b) := rowS_congr (by have := E.1; omega) (fun j q1 q2 => by rw [cell j q1 q2])
      rw [e1, ← ee, er, hT]
    · exact ⟨fun z => absurd z.1.1 w, fun z => absurd (eh.2 z.1.1) w⟩
  · exact absurd h4 (by omega)
