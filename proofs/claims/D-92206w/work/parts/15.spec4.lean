set_option maxRecDepth 100000
/-! THE PLAIN LAW: tables, words of the tongue, what is read -/
theorem rank1 {P : Int → Prop} {G g : Int → Int} {n : Int} (hn : 0 ≤ n) (h : ∀ w : Int, 0 ≤ w → w < n → P w → G (isum (fun w => bI (P w)) w) = g w) : isum G (isum (fun w => bI (P w)) n) = isum (fun w => sel (P w) (g w) 0) n := by
  refine int_ind (P := fun m => m ≤ n → isum G (isum (fun w => bI (P w)) m) = isum (fun w => sel (P w) (g w) 0) m) hn (fun _ => rfl) (fun m h1 h2 ih _ => ?_) (Int.le_refl _)
  have e := ih (by omega)
  rw [isum_s (f := fun w => bI (P w)) h1, isum_s (f := fun w => sel (P w) (g w) 0) h1, ← e]
  by_cases q : P m
  · rw [bI_t q, sel_t q, isum_s (isum_bI h1).1, h m h1 h2 q]
  · rw [bI_f q, sel_f q, Int.add_zero, Int.add_zero]
/-- the most frequent sign that has no place yet -/
noncomputable def tbest (sg ct sp : Int → Int) : Int → Int := ifo (fun b s => sel (sg s = s ∧ (sp s = -4 ∧ 0 < ct s)) (sel (b = -4) s (sel (ct b < ct s) s b)) b) (-4)
theorem tbest_s {sg ct sp : Int → Int} {n : Int} (h : 0 ≤ n) : tbest sg ct sp (n + 1) = sel (sg n = n ∧ (sp n = -4 ∧ 0 < ct n)) (sel (tbest sg ct sp n = -4) n (sel (ct (tbest sg ct sp n) < ct n) n (tbest sg ct sp n))) (tbest sg ct sp n) := ifo_s h
theorem tbest_r {sg ct sp : Int → Int} {n : Int} (h : 0 ≤ n) : tbest sg ct sp n = -4 ∨ (0 ≤ tbest sg ct sp n ∧ tbest sg ct sp n < n ∧ sg (tbest sg ct sp n) = tbest sg ct sp n ∧ sp (tbest sg ct sp n) = -4) := by
  refine int_ind (P := fun n => tbest sg ct sp n = -4 ∨ (0 ≤ tbest sg ct sp n ∧ tbest sg ct sp n < n ∧ sg (tbest sg ct sp n) = tbest sg ct sp n ∧ sp (tbest sg ct sp n) = -4)) h (Or.inl rfl) (fun m h1 h2 ih => ?_)
  rw [tbest_s h1]
  by_cases q : sg m = m ∧ (sp m = -4 ∧ 0 < ct m)
  · rw [sel_t q]
    by_cases e : tbest sg ct sp m = -4
    · rw [sel_t e]; exact Or.inr ⟨h1, by omega, q.1, q.2.1⟩
    · rw [sel_f e]
      by_cases e2 : ct (tbest sg ct sp m) < ct m
      · rw [sel_t e2]; exact Or.inr ⟨h1, by omega, q.1, q.2.1⟩
      · rw [sel_f e2]
        rcases ih with z | ⟨a, b, c⟩
        · exact absurd z e
        · exact Or.inr ⟨a, by omega, c⟩
  · rw [sel_f q]
    rcases ih with z | ⟨a, b, c⟩
    · exact Or.inl z
    · exact Or.inr ⟨a, by omega, c⟩
theorem tbest_congr {sg sg' ct ct' sp sp' : Int → Int} {n : Int} (hn : 0 ≤ n) (h : ∀ s : Int, 0 ≤ s → s < n → (sg s = s ↔ sg' s = s) ∧ ct s = ct' s ∧ sp s = sp' s) : tbest sg ct sp n = tbest sg' ct' sp' n := by
  refine int_ind (P := fun m => m ≤ n → tbest sg ct sp m = tbest sg' ct' sp' m) hn (fun _ => rfl) (fun m h1 h2 ih _ => ?_) (Int.le_refl _)
  have e := ih (by omega)
  have hm := h m h1 (by omega)
  rw [tbest_s h1, tbest_s h1, ← e, hm.2.1, hm.2.2]
  have e1 : (sg m = m ∧ (sp' m = -4 ∧ 0 < ct' m)) ↔ (sg' m = m ∧ (sp' m = -4 ∧ 0 < ct' m)) := by rw [hm.1]
  rw [sel_c e1]
  by_cases q : tbest sg ct sp m = -4
  · rw [sel_t q, sel_t q]
  · rw [sel_f q, sel_f q]
    have hb := (tbest_r (sg := sg) (ct := ct) (sp := sp) h1).resolve_left q
    rw [(h _ hb.1 (by omega)).2.1]
/-- the places of signs when j signs have theirs -/
noncomputable def tsp (n : Int) (sg ct : Int → Int) : Int → Int → Int := ifo (fun sp j => sel (tbest sg ct sp n = -4) sp (fup sp (tbest sg ct sp n) j)) (fun _ => -4)
noncomputable def tb (n : Int) (sg ct : Int → Int) (j : Int) : Int := tbest sg ct (tsp n sg ct j) n
noncomputable def tnum (n : Int) (sg ct : Int → Int) : Int := isum (fun j => bI (¬ tb n sg ct j = -4)) 6
theorem tsp_s {n : Int} {sg ct : Int → Int} {j : Int} (h : 0 ≤ j) : tsp n sg ct (j + 1) = sel (tb n sg ct j = -4) (tsp n sg ct j) (fup (tsp n sg ct j) (tb n sg ct j) j) := ifo_s h
theorem tb_stay {n : Int} {sg ct : Int → Int} {j k : Int} (h : 0 ≤ j) (e : tb n sg ct j = -4) (hk : j ≤ k) : tb n sg ct k = -4 := by
  obtain ⟨d, rfl⟩ : ∃ d : Int, k = j + d := ⟨k - j, by omega⟩
  have : tsp n sg ct (j + d) = tsp n sg ct j := by
    refine int_ind (P := fun d => tsp n sg ct (j + d) = tsp n sg ct j) (n := d) (by omega) (by rw [Int.add_zero]) (fun m h1 h2 ih => ?_)
    rw [← Int.add_assoc, tsp_s (by omega)]
    have e2 : tb n sg ct (j + m) = -4 := by unfold tb; rw [ih]; exact e
    rw [sel_t e2, ih]
  unfold tb
  rw [this]
  exact e
theorem tnum_r (n : Int) (sg ct : Int → Int) : 0 ≤ tnum n sg ct ∧ tnum n sg ct ≤ 6 := isum_bI (P := fun j => ¬ tb n sg ct j = -4) (by omega)
theorem tnum_e {n : Int} {sg ct : Int → Int} {k : Int} (h0 : 0 ≤ k) (h6 : k ≤ 6) (h : ∀ j : Int, 0 ≤ j → j < k → ¬ tb n sg ct j = -4) (he : k = 6 ∨ tb n sg ct k = -4) : tnum n sg ct = k := by
  have a : ∀ m : Int, 0 ≤ m → m ≤ 6 → isum (fun j => bI (¬ tb n sg ct j = -4)) m = if m ≤ k then m else k := by
    intro m hm
    refine int_ind (P := fun m => m ≤ 6 → isum (fun j => bI (¬ tb n sg ct j = -4)) m = if m ≤ k then m else k) hm (fun _ => by rw [if_pos h0]; rfl) (fun m h1 h2 ih h3 => ?_)
    rw [isum_s h1, ih (by omega)]
    by_cases q : m < k
    · rw [if_pos (by omega), if_pos (by omega), bI_t (h m h1 q)]
    · rw [bI_f (fun z => z (tb_stay h0 (he.resolve_left (by omega)) (by omega)))]
      by_cases q2 : m = k
      · rw [if_pos (by omega), if_neg (by omega)]; omega
      · rw [if_neg (by omega), if_neg (by omega)]; omega
  have := a 6 (by omega) (by omega)
  unfold tnum
  rw [this]
  by_cases q : 6 ≤ k
  · rw [if_pos q]; omega
  · rw [if_neg q]
theorem tnum_lt {n : Int} {sg ct : Int → Int} {j : Int} (h : 0 ≤ j) (hj : j < tnum n sg ct) : ¬ tb n sg ct j = -4 := by
  intro e
  have : ∀ m : Int, 0 ≤ m → isum (fun j => bI (¬ tb n sg ct j = -4)) m ≤ j := by
    intro m hm
    refine int_ind (P := fun m => isum (fun j => bI (¬ tb n sg ct j = -4)) m ≤ j ∧ (m ≤ j → isum (fun j => bI (¬ tb n sg ct j = -4)) m ≤ m)) hm ⟨h, fun _ => Int.le_refl _⟩ (fun m h1 h2 ih => ?_) |>.1
    rw [isum_s h1]
    by_cases q : j ≤ m
    · rw [bI_f (fun z => z (tb_stay h e q))]; omega
    · have := bI_01 (¬ tb n sg ct m = -4)
      have := ih.2 (by omega)
      omega
  have := this 6 (by omega)
  unfold tnum at hj
  omega
/-- the places: of signs of the table below its number, of others none -/
theorem tsp_r {n : Int} {sg ct : Int → Int} {j : Int} (hn : 0 ≤ n) (h : 0 ≤ j) (s : Int) : tsp n sg ct j s = -4 ∨ (0 ≤ tsp n sg ct j s ∧ tsp n sg ct j s < j ∧ tb n sg ct (tsp n sg ct j s) = s ∧ ¬ s = -4) := by
  refine int_ind (P := fun j => tsp n sg ct j s = -4 ∨ (0 ≤ tsp n sg ct j s ∧ tsp n sg ct j s < j ∧ tb n sg ct (tsp n sg ct j s) = s ∧ ¬ s = -4)) h (Or.inl rfl) (fun m h1 h2 ih => ?_)
  rw [tsp_s h1]
  by_cases q : tb n sg ct m = -4
  · rw [sel_t q]
    rcases ih with z | ⟨a, b, c⟩
    · exact Or.inl z
    · exact Or.inr ⟨a, by omega, c⟩
  · rw [sel_f q]
    by_cases e : s = tb n sg ct m
    · rw [e, fup_s]; exact Or.inr ⟨h1, by omega, rfl, q⟩
    · rw [fup_n _ _ e]
      rcases ih with z | ⟨a, b, c⟩
      · exact Or.inl z
      · exact Or.inr ⟨a, by omega, c⟩
/-- below the table's end, the places at the end -/
theorem tsp_end {n : Int} {sg ct : Int → Int} : tsp n sg ct 6 = tsp n sg ct (tnum n sg ct) := by
  have r := tnum_r n sg ct
  have : ∀ d : Int, 0 ≤ d → tnum n sg ct + d ≤ 6 → tsp n sg ct (tnum n sg ct + d) = tsp n sg ct (tnum n sg ct) := by
    intro d hd
    refine int_ind (P := fun d => tnum n sg ct + d ≤ 6 → tsp n sg ct (tnum n sg ct + d) = tsp n sg ct (tnum n sg ct)) hd (fun _ => by rw [Int.add_zero]) (fun m h1 h2 ih h3 => ?_)
    have e := ih (by omega)
    have z : tb n sg ct (tnum n sg ct + m) = -4 := by
      by_cases q : tb n sg ct (tnum n sg ct + m) = -4
      · exact q
      · exfalso
        -- all below are of the table, then it has more
        have all : ∀ j : Int, 0 ≤ j → j < tnum n sg ct + m + 1 → ¬ tb n sg ct j = -4 := fun j a b c => q (tb_stay a c (by omega))
        by_cases q2 : tb n sg ct (tnum n sg ct + m + 1) = -4
        · have := tnum_e (k := tnum n sg ct + m + 1) (by omega) (by omega) all (Or.inr q2); omega
        · rcases Int.lt_or_le (tnum n sg ct) 6 with w | w
          · have w2 : ¬ tb n sg ct (tnum n sg ct) = -4 := all _ (by omega) (by omega)
            -- the sum counts at least one more
            have cnt : ∀ k : Int, 0 ≤ k → k ≤ tnum n sg ct + 1 → isum (fun j => bI (¬ tb n sg ct j = -4)) k = k := by
              intro k hk
              refine int_ind (P := fun k => k ≤ tnum n sg ct + 1 → isum (fun j => bI (¬ tb n sg ct j = -4)) k = k) hk (fun _ => rfl) (fun i a b c d => ?_)
              rw [isum_s a, c (by omega), bI_t (all i a (by omega))]
            have c1 := cnt (tnum n sg ct + 1) (by omega) (Int.le_refl _)
            have c2 := isum_mono (f := fun j => bI (¬ tb n sg ct j = -4)) (a := tnum n sg ct + 1) (b := 6) (fun j _ _ => (bI_01 _).1) (by omega) (by omega)
            have c3 : isum (fun j => bI (¬ tb n sg ct j = -4)) 6 = tnum n sg ct := rfl
            omega
          · omega
    rw [← Int.add_assoc, tsp_s (by omega), sel_t z, e]
  have z := this (6 - tnum n sg ct) (by omega) (by omega)
  rw [show tnum n sg ct + (6 - tnum n sg ct) = 6 by omega] at z
  exact z
/-! the tongue; what is read -/
def Tw (gm : Int) (gl gs : Int → Int) (n v : Int) : Prop := ∃ w : Int, 0 ≤ w ∧ w < gm ∧ gl w = n ∧ gs w = v
def RD (sg : Int → Int) (tc : Int → Int → Int) (tl sp : Int → Int) (some a b : Int) : Prop := wh tc tl a b ∧ we tc tl a b - b ≤ 6 ∧ some / 2 ^ a.toNat % 2 = 1 ∧ ∀ j : Int, 0 ≤ j → j < we tc tl a b - b → ¬ sp (sa sg (tc a (b + j))) = -4
/-- a row of sounds as a number; s: the sounds of places, two bits each -/
def rowS (f : Int → Int) (n : Int) : Int := ifo (fun v j => 4 * v + f j) 0 n
def snd (s p : Int) : Int := s / 2 ^ (2 * p).toNat % 4
theorem snd_r (s p : Int) : 0 ≤ snd s p ∧ snd s p ≤ 3 := by unfold snd; omega
theorem rowS_s {f : Int → Int} {n : Int} (h : 0 ≤ n) : rowS f (n + 1) = 4 * rowS f n + f n := ifo_s h
theorem rowS_r {f : Int → Int} {n : Int} (h : 0 ≤ n) (hf : ∀ j : Int, 0 ≤ j → j < n → 0 ≤ f j ∧ f j ≤ 3) : 0 ≤ rowS f n ∧ rowS f n < 4 ^ n.toNat := by
  refine int_ind (P := fun m => m ≤ n → 0 ≤ rowS f m ∧ rowS f m < 4 ^ m.toNat) h (fun _ => ⟨Int.le_refl _, by show (0 : Int) < 1; omega⟩) (fun m h1 h2 ih _ => ?_) (Int.le_refl _)
  have a := ih (by omega)
  have b := hf m h1 h2
  rw [rowS_s h1, show (m + 1).toNat = m.toNat + 1 by omega, Int.pow_succ]
  omega
theorem rowS_congr {f g : Int → Int} {n : Int} (hn : 0 ≤ n) (h : ∀ j : Int, 0 ≤ j → j < n → f j = g j) : rowS f n = rowS g n := by
  refine int_ind (P := fun m => m ≤ n → rowS f m = rowS g m) hn (fun _ => rfl) (fun m h1 h2 ih _ => ?_) (Int.le_refl _)
  rw [rowS_s h1, rowS_s h1, ih (by omega), h m h1 h2]
theorem rowS_r6 {f : Int → Int} {n : Int} (h : 0 ≤ n ∧ n ≤ 6) (hf : ∀ j : Int, 0 ≤ j → j < n → 0 ≤ f j ∧ f j ≤ 3) : 0 ≤ rowS f n ∧ rowS f n < 4096 := by
  have a := rowS_r h.1 hf
  have b : (4 : Int) ^ n.toNat ≤ 4096 := by
    have e : ((4 ^ n.toNat : Nat) : Int) = 4 ^ n.toNat := by rw [Int.natCast_pow]; rfl
    have h1 : 4 ^ n.toNat ≤ 4 ^ 6 := Nat.pow_le_pow_right (by omega) (by omega)
    rw [← e]
    omega
  omega
noncomputable def rdS (sg : Int → Int) (tc : Int → Int → Int) (tl : Int → Int) (tm : Int) (sp : Int → Int) (gm : Int) (gl gs : Int → Int) (some : Int) (sd : Int → Int) : Int := PS (wb tc) (fun a b => bI (RD sg tc tl sp some a b ∧ Tw gm gl gs (we tc tl a b - b) (rowS (fun j => sd (sp (sa sg (tc a (b + j))))) (we tc tl a b - b)))) tl tm 0
theorem rdS_r {sg : Int → Int} {tc : Int → Int → Int} {tl : Int → Int} {tm : Int} {sp : Int → Int} {gm : Int} {gl gs : Int → Int} {some : Int} {sd : Int → Int} (htl : ∀ a, 0 ≤ tl a ∧ tl a ≤ 24) (ht : 0 ≤ tm ∧ tm ≤ 8) : 0 ≤ rdS sg tc tl tm sp gm gl gs some sd ∧ rdS sg tc tl tm sp gm gl gs some sd ≤ 108 := by
  have h1 := PS_r (P := wb tc) (g := fun a b => bI (RD sg tc tl sp some a b ∧ Tw gm gl gs (we tc tl a b - b) (rowS (fun j => sd (sp (sa sg (tc a (b + j))))) (we tc tl a b - b)))) (fun a => (htl a).1) ht.1 (Int.le_refl 0) (fun a b => bI_01 _)
  have h2 := wk_r (tc := tc) htl ht.1 (i := 0) (by omega)
  unfold wk at h2
  unfold rdS
  omega
/-- three bits each: a row of places -/
def Dig (q : Int → Int) (n p : Int) : Prop := (0 ≤ p ∧ p < 2 ^ (3 * n).toNat) ∧ ∀ j : Int, 0 ≤ j → j < n → p / 2 ^ (3 * (n - 1 - j)).toNat % 8 = q j
theorem Dig.zero {q : Int → Int} : Dig q 0 0 := ⟨⟨Int.le_refl _, by show (0 : Int) < 1; omega⟩, fun j a b => absurd a (by omega)⟩
theorem Dig.st {q : Int → Int} {n p x : Int} (h : Dig q n p) (hn : 0 ≤ n) (hx : 0 ≤ x ∧ x < 8) (e : x = q n) : Dig q (n + 1) (8 * p + x) := by
  have pw : (2 : Int) ^ (3 * (n + 1)).toNat = 8 * 2 ^ (3 * n).toNat := by
    rw [show (3 * (n + 1)).toNat = 3 + (3 * n).toNat by omega, Int.pow_add]; rfl
  have h1 := h.1
  have h0 := hx.1
  refine ⟨⟨by omega, by rw [pw]; omega⟩, fun j a b => ?_⟩
  by_cases z : j = n
  · rw [z, show (3 * (n + 1 - 1 - n)).toNat = 0 by omega, ← e]
    show (8 * p + x) / 1 % 8 = x
    omega
  · rw [show (3 * (n + 1 - 1 - j)).toNat = 3 + (3 * (n - 1 - j)).toNat by omega, Int.pow_add, ← Int.ediv_ediv_of_nonneg (by decide), show (8 * p + x) / 2 ^ 3 = p by omega]
    exact h.2 j a (by omega)
theorem Dig.le {q : Int → Int} {n p : Int} (h : Dig q n p) (hn : 0 ≤ n ∧ n ≤ 6) : 0 ≤ p ∧ p ≤ 262143 := by
  have a := h.1
  have b : (2 : Int) ^ (3 * n).toNat ≤ 262144 := by
    have e : ((2 ^ (3 * n).toNat : Nat) : Int) = 2 ^ (3 * n).toNat := by rw [Int.natCast_pow]; rfl
    have h1 : 2 ^ (3 * n).toNat ≤ 2 ^ 18 := Nat.pow_le_pow_right (by omega) (by omega)
    rw [← e]
    omega
  omega
