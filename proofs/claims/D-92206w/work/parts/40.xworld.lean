set_option maxRecDepth 100000
/-! TWO-LEVEL NAMES: families of cells, and cells of the moment -/
abbrev x_T : Type := Nat → Option (Nat × va_E)
def x_ad (B : Nat → Int → Nat) (T : x_T) : Nat → Nat := fun r => if r % 128 < 100 then B (r % 128) ((r / 128 : Nat) : Int) else if r / 128 = 0 then (match T (r % 128 - 100) with | some q => q.1 | none => 0) else 0
def x_ce (K : Nat → Int → Option va_E) (T : x_T) : Nat → Option va_E := fun r => if r % 128 < 100 then K (r % 128) ((r / 128 : Nat) : Int) else if r / 128 = 0 then (T (r % 128 - 100)).map Prod.snd else none
def x_r (f : Nat) (i : Int) : Nat := i.toNat * 128 + f
theorem x_rm {f : Nat} {i : Int} (hf : f < 100) : x_r f i % 128 = f := by unfold x_r; omega
theorem x_rd {f : Nat} {i : Int} (hf : f < 100) (hi : 0 ≤ i) : ((x_r f i / 128 : Nat) : Int) = i := by unfold x_r; omega
theorem x_adf {B : Nat → Int → Nat} {T : x_T} {f : Nat} {i : Int} (hf : f < 100) (hi : 0 ≤ i) : x_ad B T (x_r f i) = B f i := by
  unfold x_ad
  rw [x_rm hf, if_pos hf, x_rd hf hi]
theorem x_cef {K : Nat → Int → Option va_E} {T : x_T} {f : Nat} {i : Int} (hf : f < 100) (hi : 0 ≤ i) : x_ce K T (x_r f i) = K f i := by
  unfold x_ce
  rw [x_rm hf, if_pos hf, x_rd hf hi]
theorem x_adt {B : Nat → Int → Nat} {T : x_T} {j : Nat} {q : Nat × va_E} (hj : j < 28) (h : T j = some q) : x_ad B T (100 + j) = q.1 := by
  unfold x_ad
  rw [if_neg (by omega), if_pos (by omega), show (100 + j) % 128 - 100 = j by omega, h]
theorem x_cet {K : Nat → Int → Option va_E} {T : x_T} {j : Nat} {q : Nat × va_E} (hj : j < 28) (h : T j = some q) : x_ce K T (100 + j) = some q.2 := by
  unfold x_ce
  rw [if_neg (by omega), if_pos (by omega), show (100 + j) % 128 - 100 = j by omega, h]
  rfl
theorem x_ceu {K : Nat → Int → Option va_E} {T : x_T} {f : Nat} {i : Int} {e : Option va_E} (hf : f < 100) (hi : 0 ≤ i) : va_up (x_ce K T) (x_r f i) e = x_ce (va_up K f (fup (K f) i e)) T := by
  funext r
  by_cases h : r = x_r f i
  · subst h
    rw [va_up_self, x_cef hf hi, va_up_self, fup_s]
  · rw [va_up_ne _ _ h]
    unfold x_ce
    by_cases q : r % 128 < 100
    · rw [if_pos q, if_pos q]
      by_cases z : r % 128 = f
      · rw [z, va_up_self, fup_n _ _ (fun y => h (by unfold x_r; omega))]
      · rw [va_up_ne _ _ z]
    · rw [if_neg q, if_neg q]
theorem x_tad {B : Nat → Int → Nat} {T : x_T} {j : Nat} {q : Nat × va_E} (hj : j < 28) : va_up (x_ad B T) (100 + j) q.1 = x_ad B (va_up T j (some q)) := by
  funext r
  by_cases h : r = 100 + j
  · subst h
    rw [va_up_self, x_adt hj (va_up_self _ _ _)]
  · rw [va_up_ne _ _ h]
    unfold x_ad
    by_cases z : r % 128 < 100
    · rw [if_pos z, if_pos z]
    · rw [if_neg z, if_neg z]
      by_cases y : r / 128 = 0
      · rw [if_pos y, if_pos y, va_up_ne T (some q) (show r % 128 - 100 ≠ j by omega)]
      · rw [if_neg y, if_neg y]
theorem x_tce {K : Nat → Int → Option va_E} {T : x_T} {j : Nat} {q : Nat × va_E} (hj : j < 28) : va_up (x_ce K T) (100 + j) (some q.2) = x_ce K (va_up T j (some q)) := by
  funext r
  by_cases h : r = 100 + j
  · subst h
    rw [va_up_self, x_cet hj (va_up_self _ _ _)]
  · rw [va_up_ne _ _ h]
    unfold x_ce
    by_cases z : r % 128 < 100
    · rw [if_pos z, if_pos z]
    · rw [if_neg z, if_neg z]
      by_cases y : r / 128 = 0
      · rw [if_pos y, if_pos y, va_up_ne T (some q) (show r % 128 - 100 ≠ j by omega)]
      · rw [if_neg y, if_neg y]
theorem x_tau {B : Nat → Int → Nat} {T : x_T} {j : Nat} {a : Nat} {e e' : va_E} (hj : j < 28) (h : T j = some (a, e)) : x_ad B (va_up T j (some (a, e'))) = x_ad B T := by
  rw [← x_tad (q := (a, e')) hj]
  exact up_id _ (show x_ad B T (100 + j) = a from x_adt hj h)
abbrev x_H (D : va_G) (A : Nat → Prop) (B : Nat → Int → Nat) (K : Nat → Int → Option va_E) (T : x_T) (H : Heap) : Prop := rw_H D A (x_ad B T) (x_ce K T) H
/-! what each family holds -/
def xsp : Nat → Option (Nat × Nat × Nat) := fun f => match f with
  | 0 => some (0, 24, 1)
  | 3 => some (0, 24, 1)
  | 7 => some (0, 24, 1)
  | 8 => some (0, 24, 1)
  | 9 => some (0, 192, 1)
  | 10 => some (0, 192, 1)
  | 11 => some (0, 192, 1)
  | 15 => some (0, 8, 1)
  | 17 => some (0, 8, 1)
  | 18 => some (0, 8, 1)
  | 19 => some (0, 8, 1)
  | 20 => some (0, 8, 1)
  | 22 => some (0, 4, 1)
  | 28 => some (0, 4, 1)
  | 29 => some (0, 24, 1)
  | 30 => some (0, 6, 1)
  | 32 => some (0, 24, 1)
  | 33 => some (0, 6, 1)
  | 39 => some (0, 6, 1)
  | 45 => some (1, 160, 1)
  | 50 => some (0, 24, 24)
  | 51 => some (0, 24, 24)
  | 52 => some (0, 24, 24)
  | 53 => some (3, 4096, 7)
  | _ => none
def xrf : Nat → Option (Nat × Nat) := fun f => match f with
  | 4 => some (4, 24)
  | 13 => some (4, 24)
  | 14 => some (4, 24)
  | 27 => some (5, 7)
  | 34 => some (4, 192)
  | 5 => some (6, 8)
  | 23 => some (7, 4)
  | 25 => some (8, 12)
  | 42 => some (9, 20)
  | 48 => some (10, 4)
  | _ => none
def xgf : Nat → Option Nat := fun f => match f with
  | 4 => some 50
  | 13 => some 51
  | 14 => some 52
  | 27 => some 53
  | 5 => some 55
  | 23 => some 57
  | 34 => some 54
  | 42 => some 59
  | 48 => some 60
  | _ => none
def xgn (F : Nat → Int) : Nat → Int := fun f => match f with
  | 4 => 24
  | 13 => 24
  | 14 => 24
  | 27 => 7
  | 5 => F 6
  | 23 => F 24
  | 34 => F 35
  | 42 => F 43
  | 48 => 4
  | _ => 0
def xin : Nat → Bool := fun f => match f with
  | 1 => true
  | 2 => true
  | 6 => true
  | 12 => true
  | 16 => true
  | 21 => true
  | 24 => true
  | 26 => true
  | 31 => true
  | 35 => true
  | 36 => true
  | 37 => true
  | 38 => true
  | 40 => true
  | 41 => true
  | 43 => true
  | 44 => true
  | 46 => true
  | 47 => true
  | _ => false
def xfb : Nat → Option (Int × Int) := fun k => match k with
  | 1 => some (0, 24)
  | 2 => some (0, 12)
  | 6 => some (0, 8)
  | 12 => some (0, 192)
  | 16 => some (0, 8)
  | 21 => some (0, 8)
  | 24 => some (0, 4)
  | 26 => some (0, 12)
  | 31 => some (0, 6)
  | 35 => some (0, 192)
  | 36 => some (0, 4095)
  | 37 => some (-1, 192)
  | 38 => some (0, 4096)
  | 40 => some (0, 720)
  | 41 => some (0, 720)
  | 43 => some (0, 20)
  | 44 => some (0, 99)
  | 46 => some (0, 160)
  | 47 => some (0, 5)
  | _ => none
def xmb : Nat → Option (Int × Int) := fun k => match k with
  | 0 => some (0, 4095)
  | 3 => some (0, 23)
  | 200 => some (0, 24)
  | 56 => some (-2, 23)
  | 9 => some (0, 7)
  | 10 => some (0, 23)
  | 11 => some (0, 24)
  | 15 => some (0, 23)
  | 17 => some (0, 2)
  | 18 => some (0, 2)
  | 19 => some (0, 1048575)
  | 20 => some (0, 1048575)
  | 22 => some (0, 7)
  | 201 => some (0, 8)
  | 58 => some (0, 3)
  | 53 => some (0, 1)
  | 28 => some (-4, 23)
  | 29 => some (-4, 3)
  | 30 => some (0, 23)
  | 32 => some (-4, 5)
  | 33 => some (0, 3)
  | 202 => some (0, 6)
  | 54 => some (0, 5)
  | 39 => some (0, 5)
  | 45 => some (-128, 127)
  | 50 => some (0, 9)
  | 52 => some (0, 9)
  | 203 => some (-4, 2)
  | 204 => some (0, 60)
  | 61 => some (-2147483648, 2147483647)
  | 205 => some (0, 4)
  | 206 => some (0, 99)
  | 207 => some (0, 99)
  | 208 => some (0, 1048575)
  | 209 => some (-4, 99)
  | _ => none
def xrow (n : Nat) (m : Int → Int) (i : Int) : Int → Int := fun j => if 0 ≤ j ∧ j < n then m (n * i + j) else 0
theorem xrow_in {n : Nat} {m : Int → Int} {i j : Int} (h : 0 ≤ j ∧ j < n) : xrow n m i j = m (n * i + j) := if_pos h
theorem xrow_s {n : Nat} {m : Int → Int} {i j v : Int} (h : 0 ≤ j ∧ j < n) : fup (xrow n m i) j v = xrow n (fup m (n * i + j) v) i := by
  funext x
  unfold xrow
  by_cases q : x = j
  · subst q
    rw [fup_s, if_pos h, fup_s]
  · rw [fup_n _ _ q]
    by_cases z : 0 ≤ x ∧ x < n
    · rw [if_pos z, if_pos z, fup_n _ _ (by omega)]
    · rw [if_neg z, if_neg z]
theorem xdiv {n i j : Int} (h : 0 ≤ j ∧ j < n) : (n * i + j) / n = i := by
  rw [Int.add_comm, Int.add_mul_ediv_left _ _ (by omega), Int.ediv_eq_zero_of_lt h.1 h.2, Int.zero_add]
theorem xrow_n {n : Nat} {m : Int → Int} {i k j v : Int} (h : 0 ≤ j ∧ j < n) (hk : ¬ k = i) : xrow n (fup m (n * i + j) v) k = xrow n m k := by
  funext x
  unfold xrow
  by_cases z : 0 ≤ x ∧ x < n
  · rw [if_pos z, if_pos z, fup_n _ _ (fun y => hk ((xdiv (i := k) z).symm.trans ((congrArg (fun q => q / (n : Int)) y).trans (xdiv (i := i) h))))]
  · rw [if_neg z, if_neg z]
def xF (B : Nat → Int → Nat) (F : Nat → Int) : List Value := (List.range 49).map (fun k => if xin k = true then .int (zi (F k)) else .ref (B k 0))
noncomputable def xpr (F : Nat → Int) (M : Nat → Int → Int) (f : Nat) (i : Int) : Option (Nat × Nat × Nat) :=
  if f = 54 then (if 0 ≤ i ∧ i < F 35 then some (0, (M 202 i).toNat, 6) else none)
  else if f = 56 then (if 0 ≤ i ∧ i < F 6 then some (0, (M 200 i).toNat, 24) else none)
  else if f = 58 then (if 0 ≤ i ∧ i < F 24 then some (0, (M 201 i).toNat, 8) else none)
  else if f = 61 then (if (0 ≤ i ∧ i < 4) ∧ ¬ M 203 i = -4 then some (if M 203 i = 0 then 1 else if M 203 i = 1 then 2 else 0, (M 204 i).toNat, 60) else none)
  else none
noncomputable def xob (B : Nat → Int → Nat) (F : Nat → Int) (M : Nat → Int → Int) (f : Nat) (i : Int) : Option (Nat × List Value) :=
  if f = 49 then (if i = 0 then some (0, xF B F) else none)
  else if f = 55 then (if 0 ≤ i ∧ i < F 6 then some (1, [.ref (B 56 i)]) else none)
  else if f = 57 then (if 0 ≤ i ∧ i < F 24 then some (2, [.ref (B 58 i)]) else none)
  else if f = 59 then (if 0 ≤ i ∧ i < F 43 then some (4, [.int (zi (M 205 i)), .int (zi (M 206 i)), .int (zi (M 207 i)), .int (zi (M 208 i)), .int (zi (M 209 i))]) else none)
  else if f = 60 then (if 0 ≤ i ∧ i < 4 then some (5, [if M 203 i = -4 then .null else .ref (B 61 i), .int (zi (M 204 i))]) else none)
  else none
noncomputable def xK (tc : Nat → ClassId) (B : Nat → Int → Nat) (F : Nat → Int) (M : Nat → Int → Int) (G : Nat → Int → Option Nat) : Nat → Int → Option va_E := fun f i =>
  match xsp f with
  | some q => if 0 ≤ i ∧ i < q.2.2 then some (.inl (tc q.1, q.2.1, .inl (fun j : Nat => zi (xrow q.2.1 (M f) i j)))) else none
  | none => match xrf f with
    | some q => if i = 0 then some (.inl (tc q.1, q.2, .inr (.inr (.inr (.inr (fun j : Nat => G f j)))))) else none
    | none => match xpr F M f i with
      | some q => some (.inl (tc q.1, q.2.1, .inl (fun j : Nat => zi (xrow q.2.2 (M f) i j))))
      | none => (xob B F M f i).map (fun q => .inr (q.1, q.2))
theorem xK_i {tc : Nat → ClassId} {B : Nat → Int → Nat} {F : Nat → Int} {M : Nat → Int → Int} {G : Nat → Int → Option Nat} {f t n R : Nat} {i : Int} (h : xsp f = some (t, n, R)) (hi : 0 ≤ i ∧ i < R) : xK tc B F M G f i = some (.inl (tc t, n, .inl (fun j : Nat => zi (xrow n (M f) i j)))) := by
  unfold xK
  rw [h]
  exact if_pos hi
theorem xK_r {tc : Nat → ClassId} {B : Nat → Int → Nat} {F : Nat → Int} {M : Nat → Int → Int} {G : Nat → Int → Option Nat} {f t n : Nat} (h0 : xsp f = none) (h : xrf f = some (t, n)) : xK tc B F M G f 0 = some (.inl (tc t, n, .inr (.inr (.inr (.inr (fun j : Nat => G f j)))))) := by
  unfold xK
  rw [h0, h]
  exact if_pos rfl
theorem xK_d {tc : Nat → ClassId} {B : Nat → Int → Nat} {F : Nat → Int} {M : Nat → Int → Int} {G : Nat → Int → Option Nat} {f t n st : Nat} {i : Int} (h0 : xsp f = none) (h1 : xrf f = none) (h : xpr F M f i = some (t, n, st)) : xK tc B F M G f i = some (.inl (tc t, n, .inl (fun j : Nat => zi (xrow st (M f) i j)))) := by
  unfold xK
  rw [h0, h1, h]
theorem xK_o {tc : Nat → ClassId} {B : Nat → Int → Nat} {F : Nat → Int} {M : Nat → Int → Int} {G : Nat → Int → Option Nat} {f ci : Nat} {fs : List Value} {i : Int} (h0 : xsp f = none) (h1 : xrf f = none) (h2 : xpr F M f i = none) (h : xob B F M f i = some (ci, fs)) : xK tc B F M G f i = some (.inr (ci, fs)) := by
  unfold xK
  rw [h0, h1, h2, h]
  rfl
theorem xpr_M {F F' : Nat → Int} {M M' : Nat → Int → Int} (h : ∀ k, 200 ≤ k → M' k = M k) (hF : F' 6 = F 6 ∧ F' 24 = F 24 ∧ F' 35 = F 35) : xpr F' M' = xpr F M := by
  funext f i
  unfold xpr
  rw [h 200 (by omega), h 201 (by omega), h 202 (by omega), h 203 (by omega), h 204 (by omega), hF.1, hF.2.1, hF.2.2]
theorem xob_M {B : Nat → Int → Nat} {F : Nat → Int} {M M' : Nat → Int → Int} (h : ∀ k, 200 ≤ k → M' k = M k) : xob B F M' = xob B F M := by
  funext f i
  unfold xob
  rw [h 203 (by omega), h 204 (by omega), h 205 (by omega), h 206 (by omega), h 207 (by omega), h 208 (by omega), h 209 (by omega)]
theorem vup200 {M : Nat → Int → Int} {f : Nat} {g : Int → Int} (hf : f < 100) : ∀ k, 200 ≤ k → va_up M f g k = M k := fun k hk => va_up_ne M g (by omega)
theorem xK_st {tc : Nat → ClassId} {B : Nat → Int → Nat} {F : Nat → Int} {M : Nat → Int → Int} {G : Nat → Int → Option Nat} {f t n R : Nat} {i j v : Int} (h : xsp f = some (t, n, R)) (hf : f < 100) (hi : 0 ≤ i ∧ i < R) (hj : 0 ≤ j ∧ j < n) :
    va_up (xK tc B F M G) f (fup (xK tc B F M G f) i (some (.inl (tc t, n, .inl (fun x : Nat => zi (fup (xrow n (M f) i) j v x)))))) = xK tc B F (va_up M f (fup (M f) (n * i + j) v)) G := by
  funext f' i'
  by_cases e : f' = f
  · subst e
    rw [va_up_self]
    by_cases e2 : i' = i
    · subst e2
      rw [fup_s, xK_i h hi, va_up_self, xrow_s hj]
    · rw [fup_n _ _ e2]
      unfold xK
      rw [h]
      simp only [va_up_self]
      rw [xrow_n hj e2]
  · rw [va_up_ne _ _ e]
    unfold xK
    rw [va_up_ne M _ e, xpr_M (F' := F) (vup200 hf) ⟨rfl, rfl, rfl⟩, xob_M (vup200 hf)]
theorem xK_dst {tc : Nat → ClassId} {B : Nat → Int → Nat} {F : Nat → Int} {M : Nat → Int → Int} {G : Nat → Int → Option Nat} {f t n st : Nat} {i j v : Int} (h0 : xsp f = none) (h1 : xrf f = none) (h : xpr F M f i = some (t, n, st)) (hst : ∀ k q, xpr F M f k = some q → q.2.2 = st) (hf : f < 100) (hj : 0 ≤ j ∧ j < st) :
    va_up (xK tc B F M G) f (fup (xK tc B F M G f) i (some (.inl (tc t, n, .inl (fun x : Nat => zi (fup (xrow st (M f) i) j v x)))))) = xK tc B F (va_up M f (fup (M f) (st * i + j) v)) G := by
  funext f' i'
  by_cases e : f' = f
  · subst e
    rw [va_up_self]
    by_cases e2 : i' = i
    · subst e2
      rw [fup_s, xK_d (M := va_up M _ _) h0 h1 (by rw [xpr_M (F' := F) (vup200 hf) ⟨rfl, rfl, rfl⟩]; exact h), va_up_self, xrow_s hj]
    · rw [fup_n _ _ e2]
      unfold xK
      rw [h0, h1, xpr_M (F' := F) (vup200 hf) ⟨rfl, rfl, rfl⟩, xob_M (vup200 hf)]
      simp only [va_up_self]
      cases hq : xpr F M f' i' with
      | none => rfl
      | some q =>
        have z := hst i' q hq
        simp only [z]
        rw [xrow_n hj e2]
  · rw [va_up_ne _ _ e]
    unfold xK
    rw [va_up_ne M _ e, xpr_M (F' := F) (vup200 hf) ⟨rfl, rfl, rfl⟩, xob_M (vup200 hf)]
theorem xF_get {B : Nat → Int → Nat} {F : Nat → Int} {k : Nat} (hk : k < 49) : (xF B F)[k]? = some (if xin k = true then .int (zi (F k)) else .ref (B k 0)) := by
  unfold xF
  rw [List.getElem?_map, List.getElem?_range hk]
  rfl
theorem xF_set {B : Nat → Int → Nat} {F : Nat → Int} {k : Nat} {v : Int} (hk : xin k = true) : (xF B F).set k (.int (zi v)) = xF B (va_up F k v) := by
  apply List.ext_getElem?
  intro i
  unfold xF
  rw [List.getElem?_set, List.getElem?_map, List.getElem?_map, List.length_map, List.length_range]
  by_cases h : k = i
  · subst h
    rw [if_pos rfl]
    by_cases h2 : k < 49
    · rw [if_pos h2, List.getElem?_range h2]
      simp [hk, va_up_self]
    · rw [if_neg h2, List.getElem?_eq_none (by rw [List.length_range]; omega)]
      rfl
  · rw [if_neg h]
    by_cases h2 : i < 49
    · rw [List.getElem?_range h2]
      simp [va_up_ne F v (Ne.symm h)]
    · rw [List.getElem?_eq_none (by rw [List.length_range]; omega)]
      rfl
theorem xob_49 {B : Nat → Int → Nat} {F : Nat → Int} {M : Nat → Int → Int} : xob B F M 49 0 = some (0, xF B F) := rfl
theorem xK_49 {tc : Nat → ClassId} {B : Nat → Int → Nat} {F : Nat → Int} {M : Nat → Int → Int} {G : Nat → Int → Option Nat} : xK tc B F M G 49 0 = some (.inr (0, xF B F)) := rfl
/-- an int field that says nothing of which cells are there -/
theorem xK_put {tc : Nat → ClassId} {B : Nat → Int → Nat} {F : Nat → Int} {M : Nat → Int → Int} {G : Nat → Int → Option Nat} {k : Nat} {v : Int} (hk : xin k = true) (hp : ¬ 6 = k ∧ ¬ 24 = k ∧ ¬ 35 = k ∧ ¬ 43 = k) : va_up (xK tc B F M G) 49 (fup (xK tc B F M G 49) 0 (some (.inr (0, (xF B F).set k (.int (zi v)))))) = xK tc B (va_up F k v) M G := by
  have e6 : va_up F k v 6 = F 6 := va_up_ne F v hp.1
  have e24 : va_up F k v 24 = F 24 := va_up_ne F v hp.2.1
  have e35 : va_up F k v 35 = F 35 := va_up_ne F v hp.2.2.1
  have e43 : va_up F k v 43 = F 43 := va_up_ne F v hp.2.2.2
  funext f' i'
  by_cases e : f' = 49
  · subst e
    rw [va_up_self]
    by_cases e2 : i' = 0
    · subst e2
      rw [fup_s, xK_49, xF_set hk]
    · rw [fup_n _ _ e2]
      show Option.map _ (xob B F M 49 i') = Option.map _ (xob B (va_up F k v) M 49 i')
      unfold xob
      rw [if_pos rfl, if_pos rfl, if_neg e2, if_neg e2]
  · rw [va_up_ne _ _ e]
    have eo : xob B (va_up F k v) M f' i' = xob B F M f' i' := by
      unfold xob
      rw [if_neg e, if_neg e, e6, e24, e43]
    unfold xK
    rw [xpr_M (F' := va_up F k v) (F := F) (fun _ _ => rfl) ⟨e6, e24, e35⟩, eo]
def XG (B : Nat → Int → Nat) (F : Nat → Int) (G : Nat → Int → Option Nat) : Prop := ∀ f g, xgf f = some g → ∀ j : Int, 0 ≤ j → j < xgn F f → G f j = some (B g j)
theorem XG.put {B : Nat → Int → Nat} {F : Nat → Int} {G : Nat → Int → Option Nat} {k : Nat} {v : Int} (h : XG B F G) (hp : ¬ 6 = k ∧ ¬ 24 = k ∧ ¬ 35 = k ∧ ¬ 43 = k) : XG B (va_up F k v) G := by
  intro f g hg j h0 hj
  refine h f g hg j h0 ?_
  have e : xgn (va_up F k v) f = xgn F f := by
    unfold xgn
    rw [va_up_ne F v hp.1, va_up_ne F v hp.2.1, va_up_ne F v hp.2.2.1, va_up_ne F v hp.2.2.2]
  rw [← e]; exact hj
def XH (E : us_E) (A : Nat → Prop) (B : Nat → Int → Nat) (F : Nat → Int) (M : Nat → Int → Int) (G : Nat → Int → Option Nat) (T : x_T) (H : Heap) : Prop :=
  x_H E.1 A B (xK E.2 B F M G) T H ∧ (∀ k q, xfb k = some q → q.1 ≤ F k ∧ F k ≤ q.2) ∧ (∀ k q, xmb k = some q → ∀ j : Int, q.1 ≤ M k j ∧ M k j ≤ q.2) ∧ XG B F G
theorem XH.to {E : us_E} {A : Nat → Prop} {B B' : Nat → Int → Nat} {F F' : Nat → Int} {M M' : Nat → Int → Int} {G G' : Nat → Int → Option Nat} {T T' : x_T} {H : Heap} (h : XH E A B F M G T H) (hB : B = B') (hF : F = F') (hM : M = M') (hG : G = G') (hT : T = T') : XH E A B' F' M' G' T' H := by subst hB; subst hF; subst hM; subst hG; subst hT; exact h
section XROWS
variable {p : Program} {l : Launch} {e : Env} {R : Room} {s : State} {m : MethodId} {args : Array Value} {below : List Frame} {meth : Method} {c : Code} {H : Heap} {locs : List Loc} {cells slots : Nat} {Q : State → Prop}
variable {A : Nat → Prop} {own : String} {cc : ByteArray} {nL : Nat} {rt : Option FieldType} {E : us_E} {pc : Nat} {ls : Array Slot} {rest : List Value} {B : Nat → Int → Nat} {F : Nat → Int} {M : Nat → Int → Int} {G : Nat → Int → Option Nat} {T : x_T}
theorem x_recv (C : Cx p s m args meth c A own cc nL rt E) (hX : XH E A B F M G T H) {f ci : Nat} {i : Int} {fs : List Value} (hf : f < 100) (hi : 0 ≤ i) (hk : xK E.2 B F M G f i = some (.inr (ci, fs))) {q : vw_C} (hc : us_cl[ci]? = some q) : ∃ cell : Cell, H[B f i]? = some cell ∧ cell.vm.isStatics = false ∧ s.vm.findClass q.1 = some cell.cls := by
  have key := g_recv C hX.1 (k := x_r f i) (by rw [x_cef hf hi]; exact hk) hc
  rw [x_adf hf hi] at key
  exact key
theorem x_this (C : Cx p s m args meth c A own cc nL rt E) (hX : XH E A B F M G T H) : ∃ cell : Cell, H[B 49 0]? = some cell ∧ cell.vm.isStatics = false ∧ s.vm.findClass RX0 = some cell.cls := x_recv C hX (f := 49) (i := 0) (by omega) (Int.le_refl 0) xK_49 (q := (RX0, TX0, 49)) rfl
theorem x_gi (C : Cx p s m args meth c A own cc nL rt E) (hX : XH E A B F M G T H) (k : Nat) (hk : k < 49) (hi : xin k = true) {ref : String} {index : Nat} (hlink : Cond.fieldLink own index ref (TX0 k).2.1 (TX0 k).2.2.1 ∈ lw_all) (hsame : ∀ x, s.fieldFound? (TX0 k).1 (TX0 k).2.1 (TX0 k).2.2.1 = some x → s.fieldFound? ref (TX0 k).2.1 (TX0 k).2.2.1 = some x) (v : Int) (hv : F k = v) {b : Int × Int} (hb : xfb k = some b) (hdg : decode cc pc = .ok (.getfield index, 3)) (kk : b.1 ≤ v ∧ v ≤ b.2 → W p l e R s m args below meth c H locs cells slots Q (F0 m (pc + 3) ls (.int (zi v) :: rest))) : W p l e R s m args below meth c H locs cells slots Q (F0 m pc ls (.ref (B 49 0) :: rest)) := by
  have key := g_get C hX.1 (x_r 49 0) (Cn := RX0) (T := TX0) (N := 49) (ci := 0) (fs := xF B F) (by rw [x_cef (by omega) (Int.le_refl 0)]; exact xK_49) rfl in_X0 k hk hlink hsame (v := .int (zi v)) (by rw [xF_get hk, if_pos hi, hv]) hdg (kk (hv ▸ hX.2.1 k b hb))
  rw [x_adf (by omega) (Int.le_refl 0)] at key
  exact key
theorem x_ga (C : Cx p s m args meth c A own cc nL rt E) (hX : XH E A B F M G T H) (k : Nat) (hk : k < 49) (hi : xin k = false) {ref : String} {index : Nat} (hlink : Cond.fieldLink own index ref (TX0 k).2.1 (TX0 k).2.2.1 ∈ lw_all) (hsame : ∀ x, s.fieldFound? (TX0 k).1 (TX0 k).2.1 (TX0 k).2.2.1 = some x → s.fieldFound? ref (TX0 k).2.1 (TX0 k).2.2.1 = some x) (hdg : decode cc pc = .ok (.getfield index, 3)) (kk : W p l e R s m args below meth c H locs cells slots Q (F0 m (pc + 3) ls (.ref (B k 0) :: rest))) : W p l e R s m args below meth c H locs cells slots Q (F0 m pc ls (.ref (B 49 0) :: rest)) := by
  have key := g_get C hX.1 (x_r 49 0) (Cn := RX0) (T := TX0) (N := 49) (ci := 0) (fs := xF B F) (by rw [x_cef (by omega) (Int.le_refl 0)]; exact xK_49) rfl in_X0 k hk hlink hsame (v := .ref (B k 0)) (by rw [xF_get hk, if_neg (by rw [hi]; decide)]) hdg kk
  rw [x_adf (by omega) (Int.le_refl 0)] at key
  exact key
theorem x_pi (C : Cx p s m args meth c A own cc nL rt E) (hX : XH E A B F M G T H) (hS : va_S A s.heap H locs) (k : Nat) (hk : k < 49) (hi : xin k = true) (hp : ¬ 6 = k ∧ ¬ 24 = k ∧ ¬ 35 = k ∧ ¬ 43 = k) (hty : tyX0 k = .int) (hfin : (TX0 k).2.2.2 = false) {ref : String} {index : Nat} (hlink : Cond.fieldLink own index ref (TX0 k).2.1 (TX0 k).2.2.1 ∈ lw_all) (hsame : ∀ x, s.fieldFound? (TX0 k).1 (TX0 k).2.1 (TX0 k).2.2.1 = some x → s.fieldFound? ref (TX0 k).2.1 (TX0 k).2.2.1 = some x) {v : Int} {b : Int × Int} (hb : xfb k = some b) (hv : b.1 ≤ v ∧ v ≤ b.2) {F' : Nat → Int} (hF : va_up F k v = F') (hdg : decode cc pc = .ok (.putfield index, 3)) (kk : ∀ (H : Heap) (locs : List Loc), XH E A B F' M G T H → va_S A s.heap H locs → W p l e R s m args below meth c H locs cells slots Q (F0 m (pc + 3) ls rest)) : W p l e R s m args below meth c H locs cells slots Q (F0 m pc ls (.int (zi v) :: .ref (B 49 0) :: rest)) := by
  have key := g_put C hX.1 hS (x_r 49 0) (Cn := RX0) (T := TX0) (N := 49) (ci := 0) (fs := xF B F) (by rw [x_cef (by omega) (Int.le_refl 0)]; exact xK_49) rfl in_X0 tyX0 tyX0_ok nmX0 k hk hlink hsame hfin (v := .int (zi v)) (by rw [hty]; rfl) (by rw [hty]; rfl) (by show k < (List.map _ (List.range 49)).length; rw [List.length_map, List.length_range]; exact hk) hdg (fun H1 locs1 h1 h2 => kk H1 locs1 (by
    subst hF
    rw [x_ceu (by omega) (Int.le_refl 0), xK_put hi hp] at h1
    exact ⟨h1, mb_up hX.2.1 (fun q hq => by rw [hb] at hq; cases hq; exact hv), hX.2.2.1, hX.2.2.2.put hp⟩) h2)
  rw [x_adf (by omega) (Int.le_refl 0)] at key
  exact key
theorem x_li (C : Cx p s m args meth c A own cc nL rt E) (hX : XH E A B F M G T H) (f : Nat) {t n R1 : Nat} (h : xsp f = some (t, n, R1)) (hf : f < 100) (ht : (us_T E.2)[t]? = some (E.2 t, .int)) {i : Int} (hi : 0 ≤ i ∧ i < R1) {j : Int} (hj : 0 ≤ j ∧ j < n) (hn : n < 2147483648) (v : Int) (hv : M f (n * i + j) = v) (hdg : decode cc pc = .ok (.iaload, 1)) (kk : (∀ b, xmb f = some b → b.1 ≤ v ∧ v ≤ b.2) → W p l e R s m args below meth c H locs cells slots Q (F0 m (pc + 1) ls (.int (zi v) :: rest))) : W p l e R s m args below meth c H locs cells slots Q (F0 m pc ls (.int (zi j) :: .ref (B f i) :: rest)) := by
  have key := g_iald C hX.1 (x_r f i) t (n := n) (g := xrow n (M f) i) (rest := rest) (by rw [x_cef hf hi.1]; exact xK_i h hi) ht hj hn hdg (by rw [xrow_in hj, hv]; exact kk (fun b hb => hv ▸ hX.2.2.1 f b hb _))
  rw [x_adf hf hi.1] at key
  exact key
theorem x_lb (C : Cx p s m args meth c A own cc nL rt E) (hX : XH E A B F M G T H) (f : Nat) {t n R1 : Nat} (h : xsp f = some (t, n, R1)) (hf : f < 100) (ht : (us_T E.2)[t]? = some (E.2 t, .byte)) {i : Int} (hi : 0 ≤ i ∧ i < R1) {j : Int} (hj : 0 ≤ j ∧ j < n) (hn : n < 2147483648) (v : Int) (hv : M f (n * i + j) = v) (hdg : decode cc pc = .ok (.baload, 1)) (kk : (∀ b, xmb f = some b → b.1 ≤ v ∧ v ≤ b.2) → W p l e R s m args below meth c H locs cells slots Q (F0 m (pc + 1) ls (.int (zi v) :: rest))) : W p l e R s m args below meth c H locs cells slots Q (F0 m pc ls (.int (zi j) :: .ref (B f i) :: rest)) := by
  have key := g_bald C hX.1 (x_r f i) t (n := n) (g := xrow n (M f) i) (rest := rest) (by rw [x_cef hf hi.1]; exact xK_i h hi) ht hj hn hdg (by rw [xrow_in hj, hv]; exact kk (fun b hb => hv ▸ hX.2.2.1 f b hb _))
  rw [x_adf hf hi.1] at key
  exact key
theorem x_lz (C : Cx p s m args meth c A own cc nL rt E) (hX : XH E A B F M G T H) (f : Nat) {t n R1 : Nat} (h : xsp f = some (t, n, R1)) (hf : f < 100) (ht : (us_T E.2)[t]? = some (E.2 t, .boolean)) {i : Int} (hi : 0 ≤ i ∧ i < R1) {j : Int} (hj : 0 ≤ j ∧ j < n) (hn : n < 2147483648) (v : Int) (hv : M f (n * i + j) = v) (hdg : decode cc pc = .ok (.baload, 1)) (kk : (∀ b, xmb f = some b → b.1 ≤ v ∧ v ≤ b.2) → W p l e R s m args below meth c H locs cells slots Q (F0 m (pc + 1) ls (.int (zi v) :: rest))) : W p l e R s m args below meth c H locs cells slots Q (F0 m pc ls (.int (zi j) :: .ref (B f i) :: rest)) := by
  have key := g_zald C hX.1 (x_r f i) t (n := n) (g := xrow n (M f) i) (rest := rest) (by rw [x_cef hf hi.1]; exact xK_i h hi) ht hj hn hdg (by rw [xrow_in hj, hv]; exact kk (fun b hb => hv ▸ hX.2.2.1 f b hb _))
  rw [x_adf hf hi.1] at key
  exact key
theorem x_si (C : Cx p s m args meth c A own cc nL rt E) (hX : XH E A B F M G T H) (hS : va_S A s.heap H locs) (f : Nat) {t n R1 : Nat} (h : xsp f = some (t, n, R1)) (hf : f < 100) (ht : (us_T E.2)[t]? = some (E.2 t, .int)) {i : Int} (hi : 0 ≤ i ∧ i < R1) {j v : Int} (hj : 0 ≤ j ∧ j < n) (hn : n < 2147483648) (hv : ∀ b, xmb f = some b → b.1 ≤ v ∧ v ≤ b.2) {M' : Nat → Int → Int} (hM : va_up M f (fup (M f) (n * i + j) v) = M') (hdg : decode cc pc = .ok (.iastore, 1)) (kk : ∀ (H : Heap) (locs : List Loc), XH E A B F M' G T H → va_S A s.heap H locs → W p l e R s m args below meth c H locs cells slots Q (F0 m (pc + 1) ls rest)) : W p l e R s m args below meth c H locs cells slots Q (F0 m pc ls (.int (zi v) :: .int (zi j) :: .ref (B f i) :: rest)) := by
  have key := g_iast C hX.1 hS (x_r f i) t (n := n) (g := xrow n (M f) i) (v := v) (rest := rest) (by rw [x_cef hf hi.1]; exact xK_i h hi) ht hj hn hdg (fun H1 locs1 h1 h2 => kk H1 locs1 (by
    subst hM
    rw [x_ceu hf hi.1, xK_st h hf hi hj] at h1
    exact ⟨h1, hX.2.1, mb_st hX.2.2.1 hv, hX.2.2.2⟩) h2)
  rw [x_adf hf hi.1] at key
  exact key
theorem x_sb (C : Cx p s m args meth c A own cc nL rt E) (hX : XH E A B F M G T H) (hS : va_S A s.heap H locs) (f : Nat) {t n R1 : Nat} (h : xsp f = some (t, n, R1)) (hf : f < 100) (ht : (us_T E.2)[t]? = some (E.2 t, .byte)) {i : Int} (hi : 0 ≤ i ∧ i < R1) {j v : Int} (hj : 0 ≤ j ∧ j < n) (hn : n < 2147483648) (hnar : narrow .byte (.int (zi v)) = .int (zi v)) (hv : ∀ b, xmb f = some b → b.1 ≤ v ∧ v ≤ b.2) {M' : Nat → Int → Int} (hM : va_up M f (fup (M f) (n * i + j) v) = M') (hdg : decode cc pc = .ok (.bastore, 1)) (kk : ∀ (H : Heap) (locs : List Loc), XH E A B F M' G T H → va_S A s.heap H locs → W p l e R s m args below meth c H locs cells slots Q (F0 m (pc + 1) ls rest)) : W p l e R s m args below meth c H locs cells slots Q (F0 m pc ls (.int (zi v) :: .int (zi j) :: .ref (B f i) :: rest)) := by
  have key := g_bast C hX.1 hS (x_r f i) t (n := n) (g := xrow n (M f) i) (v := v) (rest := rest) (by rw [x_cef hf hi.1]; exact xK_i h hi) ht hj hn hnar hdg (fun H1 locs1 h1 h2 => kk H1 locs1 (by
    subst hM
    rw [x_ceu hf hi.1, xK_st h hf hi hj] at h1
    exact ⟨h1, hX.2.1, mb_st hX.2.2.1 hv, hX.2.2.2⟩) h2)
  rw [x_adf hf hi.1] at key
  exact key
theorem x_sz (C : Cx p s m args meth c A own cc nL rt E) (hX : XH E A B F M G T H) (hS : va_S A s.heap H locs) (f : Nat) {t n R1 : Nat} (h : xsp f = some (t, n, R1)) (hf : f < 100) (ht : (us_T E.2)[t]? = some (E.2 t, .boolean)) {i : Int} (hi : 0 ≤ i ∧ i < R1) {j v : Int} (hj : 0 ≤ j ∧ j < n) (hn : n < 2147483648) (hnar : narrow .boolean (.int (zi v)) = .int (zi v)) (hv : ∀ b, xmb f = some b → b.1 ≤ v ∧ v ≤ b.2) {M' : Nat → Int → Int} (hM : va_up M f (fup (M f) (n * i + j) v) = M') (hdg : decode cc pc = .ok (.bastore, 1)) (kk : ∀ (H : Heap) (locs : List Loc), XH E A B F M' G T H → va_S A s.heap H locs → W p l e R s m args below meth c H locs cells slots Q (F0 m (pc + 1) ls rest)) : W p l e R s m args below meth c H locs cells slots Q (F0 m pc ls (.int (zi v) :: .int (zi j) :: .ref (B f i) :: rest)) := by
  have key := g_zast C hX.1 hS (x_r f i) t (n := n) (g := xrow n (M f) i) (v := v) (rest := rest) (by rw [x_cef hf hi.1]; exact xK_i h hi) ht hj hn hnar hdg (fun H1 locs1 h1 h2 => kk H1 locs1 (by
    subst hM
    rw [x_ceu hf hi.1, xK_st h hf hi hj] at h1
    exact ⟨h1, hX.2.1, mb_st hX.2.2.1 hv, hX.2.2.2⟩) h2)
  rw [x_adf hf hi.1] at key
  exact key
theorem x_li1 (C : Cx p s m args meth c A own cc nL rt E) (hX : XH E A B F M G T H) (f : Nat) {t n : Nat} (h : xsp f = some (t, n, 1)) (hf : f < 100) (ht : (us_T E.2)[t]? = some (E.2 t, .int)) {j : Int} (hj : 0 ≤ j ∧ j < n) (hn : n < 2147483648) (v : Int) (hv : M f j = v) (hdg : decode cc pc = .ok (.iaload, 1)) (kk : (∀ b, xmb f = some b → b.1 ≤ v ∧ v ≤ b.2) → W p l e R s m args below meth c H locs cells slots Q (F0 m (pc + 1) ls (.int (zi v) :: rest))) : W p l e R s m args below meth c H locs cells slots Q (F0 m pc ls (.int (zi j) :: .ref (B f 0) :: rest)) :=
  x_li C hX f h hf ht (i := 0) (by decide) hj hn v (by rw [Int.mul_zero, Int.zero_add]; exact hv) hdg kk
theorem x_lb1 (C : Cx p s m args meth c A own cc nL rt E) (hX : XH E A B F M G T H) (f : Nat) {t n : Nat} (h : xsp f = some (t, n, 1)) (hf : f < 100) (ht : (us_T E.2)[t]? = some (E.2 t, .byte)) {j : Int} (hj : 0 ≤ j ∧ j < n) (hn : n < 2147483648) (v : Int) (hv : M f j = v) (hdg : decode cc pc = .ok (.baload, 1)) (kk : (∀ b, xmb f = some b → b.1 ≤ v ∧ v ≤ b.2) → W p l e R s m args below meth c H locs cells slots Q (F0 m (pc + 1) ls (.int (zi v) :: rest))) : W p l e R s m args below meth c H locs cells slots Q (F0 m pc ls (.int (zi j) :: .ref (B f 0) :: rest)) :=
  x_lb C hX f h hf ht (i := 0) (by decide) hj hn v (by rw [Int.mul_zero, Int.zero_add]; exact hv) hdg kk
theorem x_lz1 (C : Cx p s m args meth c A own cc nL rt E) (hX : XH E A B F M G T H) (f : Nat) {t n : Nat} (h : xsp f = some (t, n, 1)) (hf : f < 100) (ht : (us_T E.2)[t]? = some (E.2 t, .boolean)) {j : Int} (hj : 0 ≤ j ∧ j < n) (hn : n < 2147483648) (v : Int) (hv : M f j = v) (hdg : decode cc pc = .ok (.baload, 1)) (kk : (∀ b, xmb f = some b → b.1 ≤ v ∧ v ≤ b.2) → W p l e R s m args below meth c H locs cells slots Q (F0 m (pc + 1) ls (.int (zi v) :: rest))) : W p l e R s m args below meth c H locs cells slots Q (F0 m pc ls (.int (zi j) :: .ref (B f 0) :: rest)) :=
  x_lz C hX f h hf ht (i := 0) (by decide) hj hn v (by rw [Int.mul_zero, Int.zero_add]; exact hv) hdg kk
theorem x_si1 (C : Cx p s m args meth c A own cc nL rt E) (hX : XH E A B F M G T H) (hS : va_S A s.heap H locs) (f : Nat) {t n : Nat} (h : xsp f = some (t, n, 1)) (hf : f < 100) (ht : (us_T E.2)[t]? = some (E.2 t, .int)) {j v : Int} (hj : 0 ≤ j ∧ j < n) (hn : n < 2147483648) (hv : ∀ b, xmb f = some b → b.1 ≤ v ∧ v ≤ b.2) {M' : Nat → Int → Int} (hM : va_up M f (fup (M f) j v) = M') (hdg : decode cc pc = .ok (.iastore, 1)) (kk : ∀ (H : Heap) (locs : List Loc), XH E A B F M' G T H → va_S A s.heap H locs → W p l e R s m args below meth c H locs cells slots Q (F0 m (pc + 1) ls rest)) : W p l e R s m args below meth c H locs cells slots Q (F0 m pc ls (.int (zi v) :: .int (zi j) :: .ref (B f 0) :: rest)) :=
  x_si C hX hS f h hf ht (i := 0) (by decide) hj hn hv (by rw [Int.mul_zero, Int.zero_add]; exact hM) hdg kk
theorem x_sb1 (C : Cx p s m args meth c A own cc nL rt E) (hX : XH E A B F M G T H) (hS : va_S A s.heap H locs) (f : Nat) {t n : Nat} (h : xsp f = some (t, n, 1)) (hf : f < 100) (ht : (us_T E.2)[t]? = some (E.2 t, .byte)) {j v : Int} (hj : 0 ≤ j ∧ j < n) (hn : n < 2147483648) (hnar : narrow .byte (.int (zi v)) = .int (zi v)) (hv : ∀ b, xmb f = some b → b.1 ≤ v ∧ v ≤ b.2) {M' : Nat → Int → Int} (hM : va_up M f (fup (M f) j v) = M') (hdg : decode cc pc = .ok (.bastore, 1)) (kk : ∀ (H : Heap) (locs : List Loc), XH E A B F M' G T H → va_S A s.heap H locs → W p l e R s m args below meth c H locs cells slots Q (F0 m (pc + 1) ls rest)) : W p l e R s m args below meth c H locs cells slots Q (F0 m pc ls (.int (zi v) :: .int (zi j) :: .ref (B f 0) :: rest)) :=
  x_sb C hX hS f h hf ht (i := 0) (by decide) hj hn hnar hv (by rw [Int.mul_zero, Int.zero_add]; exact hM) hdg kk
theorem x_sz1 (C : Cx p s m args meth c A own cc nL rt E) (hX : XH E A B F M G T H) (hS : va_S A s.heap H locs) (f : Nat) {t n : Nat} (h : xsp f = some (t, n, 1)) (hf : f < 100) (ht : (us_T E.2)[t]? = some (E.2 t, .boolean)) {j v : Int} (hj : 0 ≤ j ∧ j < n) (hn : n < 2147483648) (hnar : narrow .boolean (.int (zi v)) = .int (zi v)) (hv : ∀ b, xmb f = some b → b.1 ≤ v ∧ v ≤ b.2) {M' : Nat → Int → Int} (hM : va_up M f (fup (M f) j v) = M') (hdg : decode cc pc = .ok (.bastore, 1)) (kk : ∀ (H : Heap) (locs : List Loc), XH E A B F M' G T H → va_S A s.heap H locs → W p l e R s m args below meth c H locs cells slots Q (F0 m (pc + 1) ls rest)) : W p l e R s m args below meth c H locs cells slots Q (F0 m pc ls (.int (zi v) :: .int (zi j) :: .ref (B f 0) :: rest)) :=
  x_sz C hX hS f h hf ht (i := 0) (by decide) hj hn hnar hv (by rw [Int.mul_zero, Int.zero_add]; exact hM) hdg kk
theorem nar_z {v : Int} (h : v = 0 ∨ v = 1) : narrow .boolean (.int (zi v)) = .int (zi v) := by rcases h with rfl | rfl <;> rfl
theorem x_la (C : Cx p s m args meth c A own cc nL rt E) (hX : XH E A B F M G T H) (f : Nat) {t n g0 : Nat} (h0 : xsp f = none) (h : xrf f = some (t, n)) (hg : xgf f = some g0) (hf : f < 100) {ty : FieldType} (ht : (us_T E.2)[t]? = some (E.2 t, ty)) (hr : ty.isReference = true) {j : Int} (hj : 0 ≤ j ∧ j < xgn F f) (hj2 : j < n) (hn : n < 2147483648) (hdg : decode cc pc = .ok (.aaload, 1)) (kk : W p l e R s m args below meth c H locs cells slots Q (F0 m (pc + 1) ls (.ref (B g0 j) :: rest))) : W p l e R s m args below meth c H locs cells slots Q (F0 m pc ls (.int (zi j) :: .ref (B f 0) :: rest)) := by
  have key := g_aald C hX.1 (x_r f 0) t (n := n) (f := fun j : Nat => G f j) (rest := rest) (by rw [x_cef hf (Int.le_refl 0)]; exact xK_r h0 h) ht hr ⟨hj.1, hj2⟩ hn (v := some (B g0 j)) (by show G f ((j.toNat : Nat) : Int) = _; rw [Int.toNat_of_nonneg hj.1]; exact hX.2.2.2 f g0 hg j hj.1 hj.2) hdg kk
  rw [x_adf hf (Int.le_refl 0)] at key
  exact key
theorem x_ld (C : Cx p s m args meth c A own cc nL rt E) (hX : XH E A B F M G T H) (f : Nat) {t n st : Nat} {i : Int} (h0 : xsp f = none) (h1 : xrf f = none) (h : xpr F M f i = some (t, n, st)) (hf : f < 100) (hi : 0 ≤ i) (ht : (us_T E.2)[t]? = some (E.2 t, .int)) {j : Int} (hj : 0 ≤ j ∧ j < n) (hst : n ≤ st) (hn : n < 2147483648) (v : Int) (hv : M f (st * i + j) = v) (hdg : decode cc pc = .ok (.iaload, 1)) (kk : (∀ b, xmb f = some b → b.1 ≤ v ∧ v ≤ b.2) → W p l e R s m args below meth c H locs cells slots Q (F0 m (pc + 1) ls (.int (zi v) :: rest))) : W p l e R s m args below meth c H locs cells slots Q (F0 m pc ls (.int (zi j) :: .ref (B f i) :: rest)) := by
  have key := g_iald C hX.1 (x_r f i) t (n := n) (g := xrow st (M f) i) (rest := rest) (by rw [x_cef hf hi]; exact xK_d h0 h1 h) ht hj hn hdg (by rw [xrow_in (by omega), hv]; exact kk (fun b hb => hv ▸ hX.2.2.1 f b hb _))
  rw [x_adf hf hi] at key
  exact key
theorem x_len (C : Cx p s m args meth c A own cc nL rt E) (hX : XH E A B F M G T H) (f : Nat) {t n st : Nat} {i : Int} (h0 : xsp f = none) (h1 : xrf f = none) (h : xpr F M f i = some (t, n, st)) (hf : f < 100) (hi : 0 ≤ i) {ty : FieldType} (ht : (us_T E.2)[t]? = some (E.2 t, ty)) (v : Int) (hv : (n : Int) = v) (hdg : decode cc pc = .ok (.arraylength, 1)) (kk : W p l e R s m args below meth c H locs cells slots Q (F0 m (pc + 1) ls (.int (zi v) :: rest))) : W p l e R s m args below meth c H locs cells slots Q (F0 m pc ls (.ref (B f i) :: rest)) := by
  have key := g_alen C hX.1 (x_r f i) t (by rw [x_cef hf hi]; exact xK_d h0 h1 h) ht v hv hdg kk
  rw [x_adf hf hi] at key
  exact key
theorem g_getN (C : Cx p s m args meth c A own cc nL rt E) {ad : Nat → Nat} {ce : Nat → Option va_E} (hX : rw_H E.1 A ad ce H) (k : Nat) {ci : Nat} {fs : List Value} (hk : ce k = some (.inr (ci, fs))) {Cn : String} {T : u_T} {N : Nat} (hc : us_cl[ci]? = some (Cn, T, N)) (hin : ∀ w ∈ u_ws Cn T N, w ∈ lw_all) (f : Nat) (hf : f < N) {ref host : String} {index : Nat} (hlink : Cond.fieldLinkNest own index ref (T f).2.1 (T f).2.2.1 host ∈ us_N) (hsame : ∀ x, s.fieldFound? (T f).1 (T f).2.1 (T f).2.2.1 = some x → s.fieldFound? ref (T f).2.1 (T f).2.2.1 = some x) {v : Value} (hv : fs[f]? = some v) (hdg : decode cc pc = .ok (.getfield index, 3))
    (kk : W p l e R s m args below meth c H locs cells slots Q (F0 m (pc + 3) ls (v :: rest))) : W p l e R s m args below meth c H locs cells slots Q (F0 m pc ls (.ref (ad k) :: rest)) :=
  va_getN (ws := [(ad k, .inr (ci, fs))]) C.x C.b C.t hin C.o C.k.1 (rw_one hX hk) 0 rfl hc f hf (C.w hlink) hsame hv hdg kk
theorem x_go (C : Cx p s m args meth c A own cc nL rt E) (hX : XH E A B F M G T H) (f : Nat) (hf : f < 100) {i : Int} (hi : 0 ≤ i) {ci : Nat} {fs : List Value} (hk : xK E.2 B F M G f i = some (.inr (ci, fs))) {Cn : String} {T1 : u_T} {N : Nat} (hc : us_cl[ci]? = some (Cn, T1, N)) (hin : ∀ w ∈ u_ws Cn T1 N, w ∈ lw_all) (k : Nat) (hkN : k < N) {ref : String} {index : Nat} (hlink : Cond.fieldLink own index ref (T1 k).2.1 (T1 k).2.2.1 ∈ lw_all) (hsame : ∀ x, s.fieldFound? (T1 k).1 (T1 k).2.1 (T1 k).2.2.1 = some x → s.fieldFound? ref (T1 k).2.1 (T1 k).2.2.1 = some x) (v : Value) (hv : fs[k]? = some v) (hdg : decode cc pc = .ok (.getfield index, 3))
    (kk : W p l e R s m args below meth c H locs cells slots Q (F0 m (pc + 3) ls (v :: rest))) : W p l e R s m args below meth c H locs cells slots Q (F0 m pc ls (.ref (B f i) :: rest)) := by
  have key := g_get C hX.1 (x_r f i) (by rw [x_cef hf hi]; exact hk) hc hin k hkN hlink hsame hv hdg kk
  rw [x_adf hf hi] at key
  exact key
theorem x_goN (C : Cx p s m args meth c A own cc nL rt E) (hX : XH E A B F M G T H) (f : Nat) (hf : f < 100) {i : Int} (hi : 0 ≤ i) {ci : Nat} {fs : List Value} (hk : xK E.2 B F M G f i = some (.inr (ci, fs))) {Cn : String} {T1 : u_T} {N : Nat} (hc : us_cl[ci]? = some (Cn, T1, N)) (hin : ∀ w ∈ u_ws Cn T1 N, w ∈ lw_all) (k : Nat) (hkN : k < N) {ref host : String} {index : Nat} (hlink : Cond.fieldLinkNest own index ref (T1 k).2.1 (T1 k).2.2.1 host ∈ us_N) (hsame : ∀ x, s.fieldFound? (T1 k).1 (T1 k).2.1 (T1 k).2.2.1 = some x → s.fieldFound? ref (T1 k).2.1 (T1 k).2.2.1 = some x) (v : Value) (hv : fs[k]? = some v) (hdg : decode cc pc = .ok (.getfield index, 3))
    (kk : W p l e R s m args below meth c H locs cells slots Q (F0 m (pc + 3) ls (v :: rest))) : W p l e R s m args below meth c H locs cells slots Q (F0 m pc ls (.ref (B f i) :: rest)) := by
  have key := g_getN C hX.1 (x_r f i) (by rw [x_cef hf hi]; exact hk) hc hin k hkN hlink hsame hv hdg kk
  rw [x_adf hf hi] at key
  exact key
theorem xK_55 {tc : Nat → ClassId} {i : Int} (h : 0 ≤ i ∧ i < F 6) : xK tc B F M G 55 i = some (.inr (1, [.ref (B 56 i)])) := xK_o rfl rfl rfl (if_pos h)
theorem xK_57 {tc : Nat → ClassId} {i : Int} (h : 0 ≤ i ∧ i < F 24) : xK tc B F M G 57 i = some (.inr (2, [.ref (B 58 i)])) := xK_o rfl rfl rfl (if_pos h)
theorem xK_59 {tc : Nat → ClassId} {i : Int} (h : 0 ≤ i ∧ i < F 43) : xK tc B F M G 59 i = some (.inr (4, [.int (zi (M 205 i)), .int (zi (M 206 i)), .int (zi (M 207 i)), .int (zi (M 208 i)), .int (zi (M 209 i))])) := xK_o rfl rfl rfl (if_pos h)
theorem xpr_56 {i : Int} (h : 0 ≤ i ∧ i < F 6) : xpr F M 56 i = some (0, (M 200 i).toNat, 24) := if_pos h
theorem xpr_58 {i : Int} (h : 0 ≤ i ∧ i < F 24) : xpr F M 58 i = some (0, (M 201 i).toNat, 8) := if_pos h
theorem xpr_54 {i : Int} (h : 0 ≤ i ∧ i < F 35) : xpr F M 54 i = some (0, (M 202 i).toNat, 6) := if_pos h
end XROWS
