set_option maxRecDepth 100000
/-! THE PLAIN LAW: the best table; all orders -/
noncomputable def bR (g : Int → Int) : Int → Int := ifo (fun r k => sel (r < g k) (g k) r) (-1)
noncomputable def bB (g tr : Int → Int) : Int → Int := ifo (fun b k => sel (bR g k < g k) (tr k) b) 0
noncomputable def bM (g : Int → Int) : Int → Int := ifo (fun m k => sel (bR g k < g k) 0 m + bI (g k = sel (bR g k < g k) (g k) (bR g k))) 0
theorem bR_s {g : Int → Int} {k : Int} (h : 0 ≤ k) : bR g (k + 1) = sel (bR g k < g k) (g k) (bR g k) := ifo_s h
theorem bB_s {g tr : Int → Int} {k : Int} (h : 0 ≤ k) : bB g tr (k + 1) = sel (bR g k < g k) (tr k) (bB g tr k) := ifo_s h
theorem bM_s {g : Int → Int} {k : Int} (h : 0 ≤ k) : bM g (k + 1) = sel (bR g k < g k) 0 (bM g k) + bI (g k = sel (bR g k < g k) (g k) (bR g k)) := ifo_s h
theorem bM_r {g : Int → Int} {n : Int} (h : 0 ≤ n) : 0 ≤ bM g n ∧ bM g n ≤ n := by
  refine int_ind (P := fun n => 0 ≤ bM g n ∧ bM g n ≤ n) h ⟨Int.le_refl _, Int.le_refl _⟩ (fun m h1 h2 ih => ?_)
  rw [bM_s h1]
  have a := bI_01 (g m = sel (bR g m < g m) (g m) (bR g m))
  have b : 0 ≤ sel (bR g m < g m) 0 (bM g m) ∧ sel (bR g m < g m) 0 (bM g m) ≤ m := sel_rg (fun _ => by omega) (fun _ => by omega)
  omega
theorem bR_r {g : Int → Int} {n N : Int} (h : 0 ≤ n) (hg : ∀ k, 0 ≤ g k ∧ g k ≤ N) (hN : 0 ≤ N) : -1 ≤ bR g n ∧ bR g n ≤ N := by
  refine int_ind (P := fun n => -1 ≤ bR g n ∧ bR g n ≤ N) h ⟨Int.le_refl _, by show (-1 : Int) ≤ N; omega⟩ (fun m h1 h2 ih => ?_)
  rw [bR_s h1]
  exact sel_rg (fun _ => by have := hg m; omega) (fun _ => ih)
theorem bB_r {g tr : Int → Int} {n : Int} (h : 0 ≤ n) (hg : ∀ k, 0 ≤ tr k ∧ tr k ≤ 4095) : 0 ≤ bB g tr n ∧ bB g tr n ≤ 4095 := by
  refine int_ind (P := fun n => 0 ≤ bB g tr n ∧ bB g tr n ≤ 4095) h ⟨Int.le_refl _, by show (0 : Int) ≤ 4095; omega⟩ (fun m h1 h2 ih => ?_)
  rw [bB_s h1]
  exact sel_rg (fun _ => hg m) (fun _ => ih)
theorem bst3_up {g tr : Int → Int} {k r v t b m : Int} (h : 0 ≤ k) (hr : r = bR g k) (hv : v = g k) (ht : t = tr k) (c : r < v) : v = bR g (k + 1) ∧ (0 < k + 1 → t = bB g tr (k + 1)) ∧ 0 + bI (v = v) = bM g (k + 1) := by
  subst hr hv ht
  rw [bR_s h, bB_s h, bM_s h, sel_t c, sel_t c, sel_t c]
  exact ⟨rfl, fun _ => rfl, rfl⟩
theorem bst3_no {g tr : Int → Int} {k r v b m : Int} (h : 0 ≤ k) (hr : r = bR g k) (hv : v = g k) (hb : 0 < k → b = bB g tr k) (hm : m = bM g k) (c : ¬ r < v) (h0 : 0 ≤ v) : r = bR g (k + 1) ∧ (0 < k + 1 → b = bB g tr (k + 1)) ∧ m + bI (v = r) = bM g (k + 1) := by
  have hk : 0 < k := by
    rcases Int.lt_or_le 0 k with q | q
    · exact q
    · have e : k = 0 := by omega
      rw [e] at hr
      have : r = -1 := hr
      omega
  have eb := hb hk
  subst hr hv hm
  rw [bR_s h, bB_s h, bM_s h, sel_f c, sel_f c, sel_f c, eb]
  exact ⟨rfl, fun _ => rfl, rfl⟩
theorem bR_cg {g g' : Int → Int} {n : Int} (h : 0 ≤ n) (e : ∀ k : Int, 0 ≤ k → k < n → g k = g' k) : bR g n = bR g' n := by
  refine int_ind (P := fun m => m ≤ n → bR g m = bR g' m) h (fun _ => rfl) (fun m h1 h2 ih _ => ?_) (Int.le_refl _)
  rw [bR_s h1, bR_s h1, ih (by omega), e m h1 h2]
theorem bB_cg {g g' tr tr' : Int → Int} {n : Int} (h : 0 ≤ n) (e : ∀ k : Int, 0 ≤ k → k < n → g k = g' k) (e2 : ∀ k : Int, 0 ≤ k → k < n → tr k = tr' k) : bB g tr n = bB g' tr' n := by
  refine int_ind (P := fun m => m ≤ n → bB g tr m = bB g' tr' m) h (fun _ => rfl) (fun m h1 h2 ih _ => ?_) (Int.le_refl _)
  rw [bB_s h1, bB_s h1, ih (by omega), e m h1 h2, e2 m h1 h2, bR_cg h1 (fun k a b => e k a (by omega))]
theorem bM_cg {g g' : Int → Int} {n : Int} (h : 0 ≤ n) (e : ∀ k : Int, 0 ≤ k → k < n → g k = g' k) : bM g n = bM g' n := by
  refine int_ind (P := fun m => m ≤ n → bM g m = bM g' m) h (fun _ => rfl) (fun m h1 h2 ih _ => ?_) (Int.le_refl _)
  rw [bM_s h1, bM_s h1, ih (by omega), e m h1 h2, bR_cg h1 (fun k a b => e k a (by omega))]
/-! all orders of the table's signs, in order -/
def pf (n : Nat) : Nat → List Nat → List (List Nat)
  | 0, pre => [pre]
  | f + 1, pre => (List.range n).flatMap (fun k => if pre.contains k then [] else pf n f (pre ++ [k]))
def permL (n : Nat) : List (List Nat) := pf n n []
def nxI (p : List Nat) (n i : Nat) : Bool := decide (i + 1 < n) && decide (p.getD i 0 ≤ p.getD (i + 1) 0) && (List.range n).all (fun k => !(decide (i < k) && decide (k + 1 < n)) || decide (p.getD (k + 1) 0 < p.getD k 0))
def nxJ (p : List Nat) (n i j : Nat) : Bool := decide (j < n) && decide (p.getD i 0 ≤ p.getD j 0) && (List.range n).all (fun k => !(decide (j < k)) || decide (p.getD k 0 < p.getD i 0))
def nxS (p : List Nat) (i j k : Nat) : Nat := if k = j then p.getD i 0 else if k = i then p.getD j 0 else p.getD k 0
def nxQ (p : List Nat) (n i j k : Nat) : Nat := if k ≤ i then nxS p i j k else nxS p i j (n + i - k)
def nxOK (n : Nat) : List (List Nat) → Bool
  | [] => true
  | [p] => (List.range n).all (fun i => !(nxI p n i))
  | p :: q :: L => (List.range n).any (fun i => nxI p n i) && (List.range n).all (fun i => !(nxI p n i) || (List.range n).all (fun j => !(nxJ p n i j) || decide (i ≤ j) && (List.range n).all (fun k => nxQ p n i j k == q.getD k 0))) && nxOK n (q :: L)
theorem nxOK6 : ∀ n : Nat, n < 7 → nxOK n (permL n) = true ∧ (permL n).head? = some (List.range n) ∧ (permL n).all (fun p => p.length == n && p.all (fun k => decide (k < n))) = true := by decide +kernel
def pg (p : List Nat) (j : Int) : Int := ((p.getD j.toNat 0 : Nat) : Int)
def pAt (n : Int) (k : Int) : List Nat := (permL n.toNat).getD k.toNat []
def pLen (n : Int) : Int := ((permL n.toNat).length : Int)
def GoNo (p : Int → Int) (n : Int) : Prop := ∀ k : Int, 0 ≤ k → k + 1 < n → p (k + 1) < p k
def sW (p : Int → Int) (i j : Int) : Int → Int := fup (fup p i (p j)) j (p i)
def Rv (S m : Int → Int) (n i a b : Int) : Prop := ∀ k : Int, 0 ≤ k → k < n → ((i < k ∧ (k < a ∨ b < k)) → m k = S (n + i - k)) ∧ (¬ (i < k ∧ (k < a ∨ b < k)) → m k = S k)
theorem Rv.st {S m : Int → Int} {n i a b : Int} (h : Rv S m n i a b) (ha : i < a) (hab : a < b) (hs : a + b = n + i) (hb : b < n) (hi : 0 ≤ i) : Rv S (fup (fup m a (m b)) b (m a)) n i (a + 1) (b - 1) := by
  intro k h1 h2
  have A := (h a (by omega) (by omega)).2 (by omega)
  have B := (h b (by omega) (by omega)).2 (by omega)
  have K := h k h1 h2
  by_cases e : k = b
  · refine ⟨fun _ => ?_, fun z => absurd z (by omega)⟩
    rw [e, fup_s, A, show n + i - b = a by omega]
  · rw [fup_n _ _ e]
    by_cases e2 : k = a
    · refine ⟨fun _ => ?_, fun z => absurd z (by omega)⟩
      rw [e2, fup_s, B, show n + i - a = b by omega]
    · rw [fup_n _ _ e2]
      exact ⟨fun z => K.1 (by omega), fun z => K.2 (by omega)⟩
def GoYes (p : Int → Int) (n : Int) (q : Int → Int) : Prop := ∃ i j : Int, 0 ≤ i ∧ i + 1 < n ∧ p i ≤ p (i + 1) ∧ (∀ k : Int, i < k → k + 1 < n → p (k + 1) < p k) ∧ i ≤ j ∧ j < n ∧ p i ≤ p j ∧ (∀ k : Int, j < k → k < n → p k < p i) ∧ ∀ k : Int, 0 ≤ k → k < n → (k ≤ i → q k = sW p i j k) ∧ (i < k → q k = sW p i j (n + i - k))
theorem Rv.fin {p m : Int → Int} {n i j a b : Int} (h : Rv (sW p i j) m n i a b) (hab : b ≤ a) (hs : a + b = n + i) {k : Int} (h1 : 0 ≤ k) (h2 : k < n) : (k ≤ i → m k = sW p i j k) ∧ (i < k → m k = sW p i j (n + i - k)) := by
  have K := h k h1 h2
  refine ⟨fun z => K.2 (by omega), fun z => ?_⟩
  by_cases e : k < a ∨ b < k
  · exact K.1 ⟨z, e⟩
  · rw [K.2 (by omega), show n + i - k = k by omega]
/-- one order behind another one -/
theorem pg_nat {p : List Nat} {k : Nat} : pg p (k : Int) = ((p.getD k 0 : Nat) : Int) := by unfold pg; rw [Int.toNat_natCast]
theorem permL_get {n : Nat} (hn : n < 7) : ∀ (L : List (List Nat)), nxOK n L = true → ∀ (k : Nat), k + 1 < L.length → (∃ i, i < n ∧ nxI (L.getD k []) n i = true) ∧ ∀ i j, i < n → j < n → nxI (L.getD k []) n i = true → nxJ (L.getD k []) n i j = true → i ≤ j ∧ ∀ x, x < n → nxQ (L.getD k []) n i j x = (L.getD (k + 1) []).getD x 0
  | [], _, k, hk => absurd hk (by simp)
  | [p], _, k, hk => absurd hk (by simp)
  | p :: q :: L, h, 0, _ => by
    unfold nxOK at h
    simp only [Bool.and_eq_true, List.any_eq_true, List.all_eq_true, List.mem_range, Bool.or_eq_true, Bool.not_eq_true', decide_eq_true_eq, beq_iff_eq] at h
    obtain ⟨⟨⟨i, hi, hI⟩, h2⟩, -⟩ := h
    refine ⟨⟨i, hi, hI⟩, fun i j a b c d => ?_⟩
    have e := (h2 i a).resolve_left (by simpa using c)
    exact (e j b).resolve_left (by simpa using d)
  | p :: q :: L, h, k + 1, hk => by
    have h' : nxOK n (q :: L) = true := by
      unfold nxOK at h
      simp only [Bool.and_eq_true] at h
      exact h.2
    exact permL_get hn (q :: L) h' k (by simpa using hk)
theorem permL_last {n : Nat} : ∀ (L : List (List Nat)), nxOK n L = true → ∀ (k : Nat), k + 1 = L.length → ∀ i, i < n → nxI (L.getD k []) n i = false
  | [], _, k, hk => absurd hk (by simp)
  | [p], h, 0, hk => by
    unfold nxOK at h
    simp only [List.all_eq_true, List.mem_range, Bool.not_eq_true'] at h
    exact h
  | [p], h, k + 1, hk => absurd hk (by simp)
  | p :: q :: L, h, 0, hk => absurd hk (by simp)
  | p :: q :: L, h, k + 1, hk => by
    have h' : nxOK n (q :: L) = true := by
      unfold nxOK at h
      simp only [Bool.and_eq_true] at h
      exact h.2
    exact permL_last (q :: L) h' k (by simpa using hk)
theorem nxI_i {p : List Nat} {n : Nat} {i : Int} (h0 : 0 ≤ i) (h1 : i + 1 < (n : Int)) (h2 : pg p i ≤ pg p (i + 1)) (h3 : ∀ k : Int, i < k → k + 1 < n → pg p (k + 1) < pg p k) : nxI p n i.toNat = true := by
  obtain ⟨i, rfl⟩ := Int.eq_ofNat_of_zero_le h0
  have e : ∀ k : Nat, pg p ((k : Int) + 1) = ((p.getD (k + 1) 0 : Nat) : Int) := fun k => by rw [show ((k : Int) + 1) = ((k + 1 : Nat) : Int) by omega, pg_nat]
  unfold nxI
  simp only [Bool.and_eq_true, List.all_eq_true, List.mem_range, Bool.or_eq_true, Bool.not_eq_true', decide_eq_true_eq, Int.toNat_natCast]
  refine ⟨⟨by omega, ?_⟩, fun k hk => ?_⟩
  · rw [pg_nat, e] at h2; omega
  · by_cases q : i < k ∧ k + 1 < n
    · right
      have := h3 k (by omega) (by omega)
      rw [e, pg_nat] at this
      omega
    · left
      simp only [Bool.and_eq_false_iff, decide_eq_false_iff_not]
      omega
theorem nxI_o {p : List Nat} {n i : Nat} (h : nxI p n i = true) : i + 1 < n ∧ pg p (i : Int) ≤ pg p ((i : Int) + 1) := by
  unfold nxI at h
  simp only [Bool.and_eq_true, decide_eq_true_eq] at h
  rw [show ((i : Int) + 1) = ((i + 1 : Nat) : Int) by omega, pg_nat, pg_nat]
  exact ⟨h.1.1, by have := h.1.2; omega⟩
theorem nxJ_i {p : List Nat} {n i : Nat} {j : Int} (h0 : 0 ≤ j) (h1 : j < (n : Int)) (h2 : pg p (i : Int) ≤ pg p j) (h3 : ∀ k : Int, j < k → k < n → pg p k < pg p (i : Int)) : nxJ p n i j.toNat = true := by
  obtain ⟨j, rfl⟩ := Int.eq_ofNat_of_zero_le h0
  unfold nxJ
  simp only [Bool.and_eq_true, List.all_eq_true, List.mem_range, Bool.or_eq_true, Bool.not_eq_true', decide_eq_true_eq, Int.toNat_natCast]
  refine ⟨⟨by omega, ?_⟩, fun k hk => ?_⟩
  · rw [pg_nat, pg_nat] at h2; omega
  · by_cases q : j < k
    · right
      have := h3 k (by omega) (by omega)
      rw [pg_nat, pg_nat] at this
      omega
    · left
      simp only [decide_eq_false_iff_not]
      omega
theorem sW_nat {p : List Nat} {i j k : Nat} : sW (pg p) i j k = ((nxS p i j k : Nat) : Int) := by
  unfold sW nxS
  by_cases e : k = j
  · rw [if_pos e, e, fup_s, pg_nat]
  · rw [if_neg e, fup_n _ _ (by omega)]
    by_cases e2 : k = i
    · rw [if_pos e2, e2, fup_s, pg_nat]
    · rw [if_neg e2, fup_n _ _ (by omega), pg_nat]
theorem sW_cg {p p' : Int → Int} {i j k n : Int} (h : ∀ x : Int, 0 ≤ x → x < n → p x = p' x) (hi : 0 ≤ i ∧ i < n) (hj : 0 ≤ j ∧ j < n) (hk : 0 ≤ k ∧ k < n) : sW p i j k = sW p' i j k := by
  unfold sW
  by_cases e : k = j
  · rw [e, fup_s, fup_s, h i hi.1 hi.2]
  · rw [fup_n _ _ e, fup_n _ _ e]
    by_cases e2 : k = i
    · rw [e2, fup_s, fup_s, h j hj.1 hj.2]
    · rw [fup_n _ _ e2, fup_n _ _ e2, h k hk.1 hk.2]
/-- the machine's step from an order is that to the next one of all -/
theorem go_yes {n k : Int} {p q : Int → Int} (hn : 0 ≤ n ∧ n ≤ 6) (hk : 0 ≤ k ∧ k < pLen n) (hp : ∀ x : Int, 0 ≤ x → x < n → p x = pg (pAt n k) x) (hg : GoYes p n q) : k + 1 < pLen n ∧ ∀ x : Int, 0 ≤ x → x < n → q x = pg (pAt n (k + 1)) x := by
  obtain ⟨N, rfl⟩ := Int.eq_ofNat_of_zero_le hn.1
  obtain ⟨K, rfl⟩ := Int.eq_ofNat_of_zero_le hk.1
  have ok := nxOK6 N (by omega)
  have hl : K < (permL N).length := by have := hk.2; unfold pLen at this; rw [Int.toNat_natCast] at this; omega
  have eK : pAt (N : Int) (K : Int) = (permL N).getD K [] := by unfold pAt; rw [Int.toNat_natCast, Int.toNat_natCast]
  have eK1 : pAt (N : Int) ((K : Int) + 1) = (permL N).getD (K + 1) [] := by unfold pAt; rw [Int.toNat_natCast, show ((K : Int) + 1).toNat = K + 1 by omega]
  rw [eK] at hp
  rw [eK1]
  obtain ⟨i, j, g1, g2, g3, g4, g5, g6, g7, g8, g9⟩ := hg
  have hI : nxI ((permL N).getD K []) N i.toNat = true := nxI_i g1 g2 (by rw [← hp i g1 (by omega), ← hp (i + 1) (by omega) g2]; exact g3) (fun k a b => by rw [← hp k (by omega) (by omega), ← hp (k + 1) (by omega) b]; exact g4 k a b)
  have hJ : nxJ ((permL N).getD K []) N i.toNat j.toNat = true := nxJ_i (by omega) g6 (by rw [Int.toNat_of_nonneg g1, ← hp i g1 (by omega), ← hp j (by omega) g6]; exact g7) (fun k a b => by rw [Int.toNat_of_nonneg g1, ← hp k (by omega) b, ← hp i g1 (by omega)]; exact g8 k a b)
  have hlt : K + 1 < (permL N).length := by
    rcases Nat.lt_or_ge (K + 1) (permL N).length with w | w
    · exact w
    · have := permL_last (permL N) ok.1 K (by omega) i.toNat (by omega)
      rw [hI] at this
      exact absurd this (by simp)
  refine ⟨by unfold pLen; rw [Int.toNat_natCast]; omega, fun x x1 x2 => ?_⟩
  have st := (permL_get (by omega) (permL N) ok.1 K hlt).2 i.toNat j.toNat (by omega) (by omega) hI hJ
  obtain ⟨x, rfl⟩ := Int.eq_ofNat_of_zero_le x1
  have z := st.2 x (by omega)
  rw [pg_nat, ← z]
  unfold nxQ
  obtain ⟨i, rfl⟩ := Int.eq_ofNat_of_zero_le g1
  obtain ⟨j, rfl⟩ := Int.eq_ofNat_of_zero_le (show 0 ≤ j by omega)
  simp only [Int.toNat_natCast]
  have G := g9 x x1 x2
  by_cases e : x ≤ i
  · rw [if_pos e, G.1 (by omega), sW_cg hp ⟨g1, by omega⟩ ⟨by omega, g6⟩ ⟨x1, x2⟩, sW_nat]
  · rw [if_neg e, G.2 (by omega), sW_cg hp ⟨g1, by omega⟩ ⟨by omega, g6⟩ ⟨by omega, by omega⟩, show ((N : Int) + i - x) = ((N + i - x : Nat) : Int) by omega, sW_nat]
theorem go_no {n k : Int} {p : Int → Int} (hn : 0 ≤ n ∧ n ≤ 6) (hk : 0 ≤ k ∧ k < pLen n) (hp : ∀ x : Int, 0 ≤ x → x < n → p x = pg (pAt n k) x) (hg : GoNo p n) : k + 1 = pLen n := by
  obtain ⟨N, rfl⟩ := Int.eq_ofNat_of_zero_le hn.1
  obtain ⟨K, rfl⟩ := Int.eq_ofNat_of_zero_le hk.1
  have ok := nxOK6 N (by omega)
  have hl : K < (permL N).length := by have := hk.2; unfold pLen at this; rw [Int.toNat_natCast] at this; omega
  have eK : pAt (N : Int) (K : Int) = (permL N).getD K [] := by unfold pAt; rw [Int.toNat_natCast, Int.toNat_natCast]
  rw [eK] at hp
  unfold pLen
  rw [Int.toNat_natCast]
  rcases Nat.lt_or_ge (K + 1) (permL N).length with w | w
  · exfalso
    obtain ⟨i, hi, hI⟩ := (permL_get (by omega) (permL N) ok.1 K w).1
    have a := nxI_o hI
    have b := hg i (by omega) (by omega)
    rw [hp i (by omega) (by omega), hp (i + 1) (by omega) (by omega)] at b
    omega
  · omega
theorem pLen_pos {n : Int} (hn : 0 ≤ n ∧ n ≤ 6) : 0 < pLen n ∧ pLen n ≤ 720 ∧ ∀ x : Int, 0 ≤ x → x < n → x = pg (pAt n 0) x := by
  obtain ⟨N, rfl⟩ := Int.eq_ofNat_of_zero_le hn.1
  have h : ∀ n : Nat, n < 7 → 0 < (permL n).length ∧ (permL n).length ≤ 720 ∧ ∀ x, x < n → ((permL n).getD 0 []).getD x 0 = x := by decide +kernel
  have a := h N (by omega)
  unfold pLen
  rw [Int.toNat_natCast]
  refine ⟨by omega, by omega, fun x x1 x2 => ?_⟩
  obtain ⟨x, rfl⟩ := Int.eq_ofNat_of_zero_le x1
  unfold pAt
  rw [Int.toNat_natCast, pg_nat]
  have := a.2.2 x (by omega)
  show (x : Int) = (((permL N).getD 0 []).getD x 0 : Nat)
  rw [this]
/-! digits: the sounds of an order's places -/
theorem four_pow {i : Int} (h : 0 ≤ i) : (2 : Int) ^ (2 * i).toNat = 4 ^ i.toNat := by
  obtain ⟨i, rfl⟩ := Int.eq_ofNat_of_zero_le h
  rw [show (2 * (i : Int)).toNat = 2 * i by omega, Int.toNat_natCast, Int.pow_mul]
  rfl
def DigS (v n : Int) (s : Int → Int) : Prop := (0 ≤ v ∧ v < 2 ^ (2 * n).toNat) ∧ ∀ j : Int, 0 ≤ j → j < n → snd v j = s j
theorem DigS.zero {s : Int → Int} : DigS 0 0 s := ⟨⟨Int.le_refl _, by show (0 : Int) < 1; omega⟩, fun j a b => absurd a (by omega)⟩
theorem oo_add {v x i : Int} (hv : 0 ≤ v ∧ v < 2 ^ i.toNat) (hx : 0 ≤ x) : oo v (x * 2 ^ i.toNat) = x * 2 ^ i.toNat + v := by
  obtain ⟨v, rfl⟩ := Int.eq_ofNat_of_zero_le hv.1
  obtain ⟨x, rfl⟩ := Int.eq_ofNat_of_zero_le hx
  have hv2 : v < 2 ^ i.toNat := by
    have h := hv.2
    have e : ((2 ^ i.toNat : Nat) : Int) = 2 ^ i.toNat := by rw [Int.natCast_pow]; rfl
    rw [← e] at h
    omega
  have e : ((x * 2 ^ i.toNat : Nat) : Int) = (x : Int) * 2 ^ i.toNat := by rw [Int.natCast_mul, Int.natCast_pow]; rfl
  unfold oo
  rw [← e, Int.toNat_natCast, Int.toNat_natCast, Nat.or_comm, Nat.mul_comm x, ← Nat.two_pow_add_eq_or_of_lt hv2, Nat.mul_comm, Int.natCast_add]
theorem DigS.st {v n x : Int} {s : Int → Int} (h : DigS v n s) (hn : 0 ≤ n) (hx : 0 ≤ x ∧ x ≤ 3) (e : x = s n) : DigS (oo v (x * 2 ^ (2 * n).toNat)) (n + 1) s := by
  have pw : (2 : Int) ^ (2 * (n + 1)).toNat = 4 * 2 ^ (2 * n).toNat := by
    rw [show (2 * (n + 1)).toNat = 2 + (2 * n).toNat by omega, Int.pow_add]; rfl
  rw [oo_add h.1 hx.1]
  have h1 := h.1
  have pp : (0 : Int) < 2 ^ (2 * n).toNat := Int.pow_pos (by omega)
  have m1 : 0 ≤ x * 2 ^ (2 * n).toNat := Int.mul_nonneg hx.1 (by omega)
  have m2 : x * 2 ^ (2 * n).toNat ≤ 3 * 2 ^ (2 * n).toNat := Int.mul_le_mul_of_nonneg_right hx.2 (by omega)
  refine ⟨⟨by omega, by rw [pw]; omega⟩, fun j a b => ?_⟩
  unfold snd
  by_cases q : j = n
  · rw [q, Int.add_comm, Int.add_mul_ediv_right _ _ (by omega), Int.ediv_eq_zero_of_lt h1.1 h1.2, ← e]
    omega
  · have sp : (2 : Int) ^ (2 * n).toNat = 2 ^ (2 * j).toNat * (4 * 2 ^ (2 * (n - 1 - j)).toNat) := by
      rw [show (4 : Int) = 2 ^ 2 by rfl, ← Int.pow_add, ← Int.pow_add]
      congr 1
      omega
    have q2 := h.2 j a (by omega)
    unfold snd at q2
    have pj : (0 : Int) < 2 ^ (2 * j).toNat := Int.pow_pos (by omega)
    rw [sp, show x * (2 ^ (2 * j).toNat * (4 * 2 ^ (2 * (n - 1 - j)).toNat)) + v = v + (x * (4 * 2 ^ (2 * (n - 1 - j)).toNat)) * 2 ^ (2 * j).toNat by rw [Int.mul_assoc, Int.add_comm, Int.mul_comm (2 ^ (2 * j).toNat)], Int.add_mul_ediv_right _ _ (by omega), show x * (4 * 2 ^ (2 * (n - 1 - j)).toNat) = 4 * (x * 2 ^ (2 * (n - 1 - j)).toNat) by rw [← Int.mul_assoc, Int.mul_comm x 4, Int.mul_assoc]]
    omega
theorem DigS.le {v n : Int} {s : Int → Int} (h : DigS v n s) (hn : 0 ≤ n ∧ n ≤ 6) : 0 ≤ v ∧ v ≤ 4095 := by
  have a := p2_12 (k := 2 * n) (by omega)
  have b := h.1
  omega
/-- by how many sounds rightly read; only the places of the table count -/
theorem rdS_sd {sg : Int → Int} {tc : Int → Int → Int} {tl : Int → Int} {tm : Int} {sp : Int → Int} {gm : Int} {gl gs : Int → Int} {some tn : Int} {sd sd' : Int → Int} (htm : 0 ≤ tm) (hsp : ∀ s : Int, sp s = -4 ∨ (0 ≤ sp s ∧ sp s < tn)) (hs : ∀ q : Int, 0 ≤ q → q < tn → sd q = sd' q) : rdS sg tc tl tm sp gm gl gs some sd = rdS sg tc tl tm sp gm gl gs some sd' := by
  unfold rdS
  refine PS_congr (fun _ _ _ => rfl) (fun a b h1 h2 h3 => ?_) htm
  refine sel_by (fun z => ?_) (fun z => (sel_f z).symm)
  rw [sel_t z]
  refine bI_c ?_
  by_cases w : RD sg tc tl sp some a b
  · rcases Int.lt_or_le (we tc tl a b) b with q | q
    · have e : ∀ f g : Int → Int, rowS f (we tc tl a b - b) = rowS g (we tc tl a b - b) := fun f g => by
        unfold rowS ifo
        rw [show (we tc tl a b - b).toNat = 0 by omega]
        rfl
      rw [e (fun j => sd (sp (sa sg (tc a (b + j))))) (fun j => sd' (sp (sa sg (tc a (b + j)))))]
    · rw [rowS_congr (f := fun j => sd (sp (sa sg (tc a (b + j))))) (g := fun j => sd' (sp (sa sg (tc a (b + j))))) (n := we tc tl a b - b) (by omega) (fun j a1 a2 => by
        rcases hsp (sa sg (tc a (b + j))) with y | y
        · exact absurd y (w.2.2.2 j a1 a2)
        · exact hs _ y.1 y.2)]
  · exact ⟨fun y => absurd y.1 w, fun y => absurd y.1 w⟩
noncomputable def fBt (R : (Int → Int) → Int) (tn : Int) : Int := bB (fun k => R (snd (rowS (snd k) tn))) (fun k => rowS (snd k) tn) (1 * 2 ^ (2 * tn).toNat)
noncomputable def fRt (R : (Int → Int) → Int) (tn : Int) : Int := bR (fun k => R (snd (rowS (snd k) tn))) (1 * 2 ^ (2 * tn).toNat)
noncomputable def fMt (R : (Int → Int) → Int) (tn : Int) : Int := bM (fun k => R (snd (rowS (snd k) tn))) (1 * 2 ^ (2 * tn).toNat)
noncomputable def jSm (R : (Int → Int) → Int) (b tn by_ n : Int) : Int := isum (fun k => bI (¬ R (fun q => snd b (pg (pAt tn k) q)) < by_)) n
theorem judge_st {n k r : Int} {p q : Int → Int} (hn : 0 ≤ n ∧ n ≤ 6) (hk : 0 ≤ k ∧ k < pLen n) (hp : ∀ x : Int, 0 ≤ x → x < n → p x = pg (pAt n k) x) (hg : (r = 1 ∧ GoYes p n q) ∨ (r = 0 ∧ GoNo p n ∧ q = p)) : (r = 1 ∧ k + 1 < pLen n ∧ ∀ x : Int, 0 ≤ x → x < n → q x = pg (pAt n (k + 1)) x) ∨ (r = 0 ∧ k + 1 = pLen n) := by
  rcases hg with ⟨a, b⟩ | ⟨a, b, _⟩
  · exact Or.inl ⟨a, go_yes hn hk hp b⟩
  · exact Or.inr ⟨a, go_no hn hk hp b⟩
theorem nd_r {x y : Int} (h : 0 ≤ x) : 0 ≤ nd x y ∧ nd x y ≤ x := by
  have : x.toNat &&& y.toNat ≤ x.toNat := Nat.and_le_left
  unfold nd
  omega
theorem mul_r2 {x p : Int} (hx : 0 ≤ x ∧ x ≤ 3) (hp : 1 ≤ p ∧ p ≤ 4096) : 0 ≤ x * p ∧ x * p ≤ 12288 :=
  ⟨Int.mul_nonneg hx.1 (by omega), Int.le_trans (Int.mul_le_mul hx.2 hp.2 (by omega) (by omega)) (by omega)⟩
