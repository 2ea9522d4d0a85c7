set_option maxRecDepth 100000
/-! THE PLAIN LAW for the component: the shuffles so far -/
theorem pfP_mono {n f : Nat} {pre : List Nat} {v w : Nat} (h : v ≤ w) : (pfP n f pre v).length ≤ (pfP n f pre w).length := by
  induction w with
  | zero => rw [show v = 0 by omega]; exact Nat.le_refl _
  | succ w ih =>
    by_cases e : v = w + 1
    · rw [e]; exact Nat.le_refl _
    · have := ih (by omega)
      rw [pfP_s, List.length_append]
      omega
theorem UsB.stv {u v : Int} {pre : List Nat} (h : UsB u pre) (hu : 0 ≤ u) (hv : 0 ≤ v) : UsB (oo u (1 * 2 ^ v.toNat)) (pre ++ [v.toNat]) := by
  have z := h.st (v := v.toNat) hu
  rwa [Int.toNat_of_nonneg hv] at z
theorem UsB.at {u v : Int} {pre : List Nat} (h : UsB u pre) (h0 : 0 ≤ v) (h6 : v < 6) : u / 2 ^ v.toNat % 2 = 1 ↔ v.toNat ∈ pre := by
  have z := h v.toNat (by omega)
  rw [Int.toNat_of_nonneg h0] at z
  exact z
theorem UsB.nil : UsB 0 [] := fun i _ => ⟨fun q => by unfold Bt at q; rw [Int.zero_ediv] at q; exact absurd q (by decide), fun q => absurd q (by simp)⟩
theorem pg_st {m : Int → Int} {pre : List Nat} {d v : Int} (hd : d = (pre.length : Int)) (hv : 0 ≤ v) (h : ∀ j : Int, 0 ≤ j → j < d → m j = pg pre j) : ∀ j : Int, 0 ≤ j → j < d + 1 → fup m d v j = pg (pre ++ [v.toNat]) j := by
  intro j a b
  by_cases e : j = d
  · rw [e, fup_s, hd, pg_nat, List.getD_eq_getElem?_getD, List.getElem?_append_right (Nat.le_refl _), Nat.sub_self]
    show v = ((v.toNat : Nat) : Int)
    exact (Int.toNat_of_nonneg hv).symm
  · rw [fup_n _ _ e, h j a (by omega)]
    unfold pg
    rw [List.getD_eq_getElem?_getD, List.getD_eq_getElem?_getD, List.getElem?_append_left (by omega)]
noncomputable def RDX (m53 m202 m54 : Int → Int) (n : Int) (s : Int → Int) : Int := isum (fun i => bI (m53 (4096 * m202 i + rowS (fun j => s (m54 (6 * i + j))) (m202 i)) = 1)) n
noncomputable def jX (Rr : (Int → Int) → Int) (b le : Int) (p : List Nat) : Int := bI (¬ Rr (fun q => snd b (pg p q)) < le)
theorem pf_no {n f : Nat} {pre : List Nat} {X : List Nat → Int} {v a b a0 b0 : Int} (hv : 0 ≤ v) (hm : v.toNat ∈ pre) (h40 : a = a0 + ((pfP n f pre v.toNat).length : Int)) (h41 : b = b0 + lS X (pfP n f pre v.toNat)) : a = a0 + ((pfP n f pre (v + 1).toNat).length : Int) ∧ b = b0 + lS X (pfP n f pre (v + 1).toNat) := by
  rw [show (v + 1).toNat = v.toNat + 1 by omega, pfP_in hm]
  exact ⟨h40, h41⟩
theorem pf_yes {n f : Nat} {pre : List Nat} {X : List Nat → Int} {v a b a0 b0 a' b' : Int} (hv : 0 ≤ v) (hm : ¬ v.toNat ∈ pre) (h40 : a = a0 + ((pfP n f pre v.toNat).length : Int)) (h41 : b = b0 + lS X (pfP n f pre v.toNat)) (e40 : a' = a + ((pf n f (pre ++ [v.toNat])).length : Int)) (e41 : b' = b + lS X (pf n f (pre ++ [v.toNat]))) : a' = a0 + ((pfP n f pre (v + 1).toNat).length : Int) ∧ b' = b0 + lS X (pfP n f pre (v + 1).toNat) := by
  rw [show (v + 1).toNat = v.toNat + 1 by omega, pfP_out hm, List.length_append, lS_app]
  constructor
  · omega
  · omega
theorem pf_room {n f : Nat} {pre : List Nat} {v a a0 : Int} (hv : 0 ≤ v ∧ v < n) (hf : 1 ≤ f) (hm : ¬ v.toNat ∈ pre) (h40 : a = a0 + ((pfP n (f - 1) pre v.toNat).length : Int)) (hr : a0 + ((pf n f pre).length : Int) ≤ 720) : a + ((pf n (f - 1) (pre ++ [v.toNat])).length : Int) ≤ 720 := by
  have e : pf n f pre = pfP n (f - 1) pre n := by
    rw [pfP_n, show f - 1 + 1 = f by omega]
  have m := pfP_mono (n := n) (f := f - 1) (pre := pre) (v := v.toNat + 1) (w := n) (by omega)
  rw [pfP_out hm, List.length_append] at m
  rw [e] at hr
  omega
theorem addb_r {a n : Int} {P : Prop} (h : 0 ≤ a ∧ a + 1 ≤ n) : 0 ≤ a + bI P ∧ a + bI P ≤ n := by
  have := bI_01 P
  omega
