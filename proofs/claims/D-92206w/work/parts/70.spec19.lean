set_option maxRecDepth 100000
/-! THE PLAIN LAW for the component: all orders that begin alike -/
def lS (X : List Nat → Int) (L : List (List Nat)) : Int := (L.map X).sum
theorem lS_app (X : List Nat → Int) (a b : List (List Nat)) : lS X (a ++ b) = lS X a + lS X b := by
  unfold lS
  rw [List.map_append, List.sum_append]
theorem lS_nil (X : List Nat → Int) : lS X [] = 0 := rfl
theorem lS_one (X : List Nat → Int) (p : List Nat) : lS X [p] = X p := by
  show X p + 0 = X p
  omega
/-- those that go on with a place before v -/
def pfP (n f : Nat) (pre : List Nat) (v : Nat) : List (List Nat) := (List.range v).flatMap (fun k => if pre.contains k then [] else pf n f (pre ++ [k]))
theorem pfP_0 (n f : Nat) (pre : List Nat) : pfP n f pre 0 = [] := rfl
theorem pfP_n (n f : Nat) (pre : List Nat) : pfP n f pre n = pf n (f + 1) pre := rfl
theorem pfP_s (n f : Nat) (pre : List Nat) (v : Nat) : pfP n f pre (v + 1) = pfP n f pre v ++ (if pre.contains v then [] else pf n f (pre ++ [v])) := by
  unfold pfP
  rw [List.range_succ, List.flatMap_append]
  simp
theorem pfP_in {n f v : Nat} {pre : List Nat} (h : v ∈ pre) : pfP n f pre (v + 1) = pfP n f pre v := by
  rw [pfP_s, if_pos (by simpa using h), List.append_nil]
theorem pfP_out {n f v : Nat} {pre : List Nat} (h : ¬ v ∈ pre) : pfP n f pre (v + 1) = pfP n f pre v ++ pf n f (pre ++ [v]) := by
  rw [pfP_s, if_neg (by simpa using h)]
/-- the places used so far, as bits -/
def UsB (u : Int) (pre : List Nat) : Prop := ∀ i : Nat, i < 6 → (Bt u (i : Int) ↔ i ∈ pre)
theorem UsB.st {u : Int} {pre : List Nat} {v : Nat} (h : UsB u pre) (hu : 0 ≤ u) : UsB (oo u (1 * 2 ^ ((v : Int)).toNat)) (pre ++ [v]) := by
  intro i hi
  have hx : (0 : Int) ≤ 1 * 2 ^ ((v : Int)).toNat := by rw [Int.one_mul, ← p2_nat]; exact Int.natCast_nonneg _
  rw [Bt_oo hu hx, h i hi, Bt_one (Int.natCast_nonneg v) (Int.natCast_nonneg i), List.mem_append, List.mem_singleton]
  exact or_congr Iff.rfl ⟨fun e => by omega, fun e => by omega⟩
theorem lS_isum (X : List Nat → Int) : ∀ (L : List (List Nat)), lS X L = isum (fun k => X (L.getD k.toNat [])) (L.length : Int) := by
  intro L
  have key : ∀ n : Nat, n ≤ L.length → lS X (L.take n) = isum (fun k => X (L.getD k.toNat [])) (n : Int) := by
    intro n
    induction n with
    | zero => intro _; rfl
    | succ n ih =>
      intro h
      have e : L.take (n + 1) = L.take n ++ [L.getD n []] := by
        rw [List.take_succ, List.getD_eq_getElem?_getD, List.getElem?_eq_getElem (by omega)]
        rfl
      rw [e, lS_app, lS_one, ih (by omega), isum_n, Int.toNat_natCast]
  have z := key L.length (Nat.le_refl _)
  rw [List.take_length] at z
  exact z
