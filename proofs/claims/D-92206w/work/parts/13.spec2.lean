set_option maxRecDepth 100000
/-! THE PLAIN LAW: numbers that add up, names dragged -/
theorem bl_s {P : Int → Prop} {n : Int} (h : 0 ≤ n) : (∀ k : Int, 0 ≤ k → k < n + 1 → P k) ↔ ((∀ k : Int, 0 ≤ k → k < n → P k) ∧ P n) := by
  constructor
  · intro q; exact ⟨fun k a b => q k a (by omega), q n h (by omega)⟩
  · intro q k a b
    by_cases e : k = n
    · rw [e]; exact q.2
    · exact q.1 k a (by omega)
theorem bl_st {a : Prop} {P : Int → Prop} {n : Int} (h : 0 ≤ n) (e : a ↔ ∀ k : Int, 0 ≤ k → k < n → P k) : (a ∧ P n) ↔ ∀ k : Int, 0 ≤ k → k < n + 1 → P k := by rw [bl_s h, e]
theorem ba_st {a b : Prop} {P : Int → Prop} {n : Int} (h : 0 ≤ n) (e : a ↔ (b ∧ ∀ k : Int, 0 ≤ k → k < n → P k)) : (a ∧ P n) ↔ (b ∧ ∀ k : Int, 0 ≤ k → k < n + 1 → P k) := by rw [bl_s h, e, and_assoc]
theorem bl_0 {P : Int → Prop} : True ↔ ∀ k : Int, 0 ≤ k → k < 0 → P k := ⟨fun _ k a b => absurd a (by omega), fun _ => trivial⟩
theorem ba_0 {b : Prop} {P : Int → Prop} : b ↔ (b ∧ ∀ k : Int, 0 ≤ k → k < 0 → P k) := ⟨fun h => ⟨h, fun k a c => absurd a (by omega)⟩, fun h => h.1⟩
theorem sel_a1 {c : Prop} {a : Int} : sel c (a + 1) a = a + bI c := by
  by_cases h : c
  · rw [sel_t h, bI_t h]
  · rw [sel_f h, bI_f h]; omega
/-- a mark of a number -/
def mk5 (v m : Int) : Int := v / 2 ^ (5 * m).toNat % 32
theorem mk5_r (v m : Int) : 0 ≤ mk5 v m ∧ mk5 v m ≤ 31 := by unfold mk5; omega
def okM (v : Int) : Prop := (0 ≤ v ∧ v ≤ 1048575) ∧ ∀ k : Int, 0 ≤ k → k < 4 → ¬ 20 < mk5 v k
noncomputable def lst (k : Int) : Int := sel (k = 0) 1 (sel (k = 1) 2 (sel (k = 2) 4 (sel (k = 3) 5 (sel (k = 4) 6 (sel (k = 5) 10 (sel (k = 6) 12 60))))))
theorem lst_r (k : Int) : 1 ≤ lst k ∧ lst k ≤ 60 := by
  unfold lst
  exact sel_rg (fun _ => by omega) (fun _ => sel_rg (fun _ => by omega) (fun _ => sel_rg (fun _ => by omega) (fun _ => sel_rg (fun _ => by omega) (fun _ => sel_rg (fun _ => by omega) (fun _ => sel_rg (fun _ => by omega) (fun _ => sel_rg (fun _ => by omega) (fun _ => by omega)))))))
theorem lst_mul (k d : Int) (h : -31 ≤ d ∧ d ≤ 31) : -1860 ≤ lst k * d ∧ lst k * d ≤ 1860 := by
  have hk := lst_r k
  have a1 := Int.mul_le_mul_of_nonneg_left h.2 (show 0 ≤ lst k by omega)
  have a2 := Int.mul_le_mul_of_nonneg_left h.1 (show 0 ≤ lst k by omega)
  omega
noncomputable def asum (vl : Int → Int) (a b : Int) : Int := isum (fun m => lst (vl m) * (mk5 a m - mk5 b m)) 4
def Adds (vl it to : Int → Int) (am : Int) : Prop := ∀ k : Int, 0 ≤ k → k < am → asum vl (it k) (to k) = 0
/-- the values of a code -/
def vc (c m : Int) : Int := c / 2 ^ (3 * (3 - m)).toNat % 8
theorem vc_r (c m : Int) : 0 ≤ vc c m ∧ vc c m ≤ 7 := by unfold vc; omega
def Unl (vl : Int → Int) : Prop := ∀ a : Int, 0 ≤ a → a < 4 → ∀ b : Int, 0 ≤ b → b < a → ¬ vl a = vl b
def fitc (it to : Int → Int) (am c : Int) : Prop := Unl (vc c) ∧ Adds (vc c) it to am
theorem asum_congr {vl vl' : Int → Int} {a b : Int} (h : ∀ m : Int, 0 ≤ m → m < 4 → vl m = vl' m) : asum vl a b = asum vl' a b := isum_congr (fun m h1 h2 => by rw [h m h1 h2])
theorem Adds_congr {vl vl' it to : Int → Int} {am : Int} (h : ∀ m : Int, 0 ≤ m → m < 4 → vl m = vl' m) : Adds vl it to am ↔ Adds vl' it to am := by
  unfold Adds
  constructor
  · intro q k a b; rw [← asum_congr h]; exact q k a b
  · intro q k a b; rw [asum_congr h]; exact q k a b
theorem Unl_congr {vl vl' : Int → Int} (h : ∀ m : Int, 0 ≤ m → m < 4 → vl m = vl' m) : Unl vl ↔ Unl vl' := by
  unfold Unl
  constructor
  · intro q a h1 h2 b h3 h4; rw [← h a h1 h2, ← h b h3 (by omega)]; exact q a h1 h2 b h3 h4
  · intro q a h1 h2 b h3 h4; rw [h a h1 h2, h b h3 (by omega)]; exact q a h1 h2 b h3 h4
noncomputable def nfit (it to : Int → Int) (am : Int) : Int := isum (fun c => bI (fitc it to am c)) 4096
/-- the first place of which P holds; -1 -/
noncomputable def fstc (P : Int → Prop) : Int → Int := ifo (fun b c => sel (b = -1 ∧ P c) c b) (-1)
noncomputable def valS (it to : Int → Int) (am what : Int) : Int := sel (what = 0) (nfit it to am) (sel (fstc (fitc it to am) 4096 = -1) (-4) (lst (vc (fstc (fitc it to am) 4096) (what - 1))))
noncomputable def sureS (it to : Int → Int) (am mark : Int) : Int := isum (fun k => bI (∃ c, 0 ≤ c ∧ c < 4096 ∧ fitc it to am c ∧ vc c mark = k)) 8
theorem fstc_s {P : Int → Prop} {n : Int} (h : 0 ≤ n) : fstc P (n + 1) = sel (fstc P n = -1 ∧ P n) n (fstc P n) := ifo_s h
theorem int_ind {P : Int → Prop} {n : Int} (hn : 0 ≤ n) (h0 : P 0) (hs : ∀ m : Int, 0 ≤ m → m < n → P m → P (m + 1)) : P n := by
  have : ∀ m : Nat, (m : Int) ≤ n → P m := by
    intro m
    induction m with
    | zero => intro _; exact h0
    | succ m ih => intro h; rw [Int.natCast_add]; exact hs m (by omega) (by omega) (ih (by omega))
  have z := this n.toNat (by omega)
  rw [Int.toNat_of_nonneg hn] at z
  exact z
theorem fstc_r {P : Int → Prop} {n : Int} (h : 0 ≤ n) : (fstc P n = -1 ∧ ∀ c : Int, 0 ≤ c → c < n → ¬ P c) ∨ (0 ≤ fstc P n ∧ fstc P n < n ∧ P (fstc P n) ∧ ∀ c : Int, 0 ≤ c → c < fstc P n → ¬ P c) := by
  refine int_ind (P := fun m => (fstc P m = -1 ∧ ∀ c : Int, 0 ≤ c → c < m → ¬ P c) ∨ (0 ≤ fstc P m ∧ fstc P m < m ∧ P (fstc P m) ∧ ∀ c : Int, 0 ≤ c → c < fstc P m → ¬ P c)) h (Or.inl ⟨rfl, fun c a b => absurd a (by omega)⟩) (fun m h1 h2 ih => ?_)
  rw [fstc_s h1]
  rcases ih with ⟨e, q⟩ | ⟨a, b, c, d⟩
  · by_cases hp : P m
    · rw [sel_t ⟨e, hp⟩]
      exact Or.inr ⟨by omega, by omega, hp, fun c h1 h2 => q c h1 h2⟩
    · rw [sel_f (fun z => hp z.2), e]
      refine Or.inl ⟨rfl, fun c h1 h2 => ?_⟩
      by_cases e2 : c = m
      · rw [e2]; exact hp
      · exact q c h1 (by omega)
  · rw [sel_f (fun z => by omega)]
    exact Or.inr ⟨a, by omega, c, d⟩
/-! names -/
def sn (ns nl : Int → Int) (a i : Int) : Int := ns a / 2 ^ (2 * (nl a - 1 - i)).toNat % 4
theorem sn_r (ns nl : Int → Int) (a i : Int) : 0 ≤ sn ns nl a i ∧ sn ns nl a i ≤ 3 := by unfold sn; omega
theorem p2_r {k : Int} (h : 0 ≤ k ∧ k ≤ 16) : 1 ≤ (1 : Int) * 2 ^ k.toNat ∧ (1 : Int) * 2 ^ k.toNat ≤ 65536 := by
  obtain ⟨n, rfl⟩ : ∃ n : Nat, k = n := ⟨k.toNat, by omega⟩
  rw [Int.toNat_natCast]
  have hn : n ≤ 16 := by omega
  have e : ((2 ^ n : Nat) : Int) = 2 ^ n := by rw [Int.natCast_pow]; rfl
  have h1 : 2 ^ n ≤ 2 ^ 16 := Nat.pow_le_pow_right (by omega) hn
  have h2 : 0 < 2 ^ n := Nat.pow_pos (by omega)
  rw [← e]
  omega
def areS (n most v : Int) : Prop := (1 ≤ n ∧ n ≤ most) ∧ (0 ≤ v ∧ v ≤ 1 * 2 ^ (2 * n).toNat - 1)
/-- signs of two places and sounds of two names are alike together -/
def Agr (s1 s2 n1 n2 : Int → Int) (k1 k2 : Int) : Prop := ∀ x : Int, 0 ≤ x → x < k1 → ∀ y : Int, 0 ≤ y → y < k2 → ((s1 x = s2 y) ↔ (n1 x = n2 y))
def Fits (s n : Int → Int) (k L : Int) : Prop := k ≤ L ∧ (∀ x : Int, 0 ≤ x → x < k → ¬ s x < 0) ∧ Agr s s n n k k
noncomputable def cntF (P : Int → Prop) (n : Int) : Int := isum (fun i => bI (P i)) n
noncomputable def fstF (P : Int → Prop) : Int → Int := ifo (fun b i => sel (P i) (sel (b = -4) i b) b) (-4)
noncomputable def lstF (P : Int → Prop) : Int → Int := ifo (fun b i => sel (P i) i b) (-4)
noncomputable def pick3 (what a b c : Int) : Int := sel (what = 0) a (sel (what = 1) b c)
theorem fstF_r {P : Int → Prop} {n : Int} (h : 0 ≤ n) : -4 ≤ fstF P n ∧ fstF P n < n ∨ fstF P n = -4 := by
  refine int_ind (P := fun m => -4 ≤ fstF P m ∧ fstF P m < m ∨ fstF P m = -4) h (Or.inr rfl) (fun m h1 h2 ih => ?_)
  have e : fstF P (m + 1) = sel (P m) (sel (fstF P m = -4) m (fstF P m)) (fstF P m) := ifo_s h1
  rw [e]
  by_cases q : P m
  · rw [sel_t q]
    by_cases q2 : fstF P m = -4
    · rw [sel_t q2]; omega
    · rw [sel_f q2]; omega
  · rw [sel_f q]; omega
theorem nf_no {P : Int → Prop} {n a : Int} (h : 0 ≤ n) (e : a = isum (fun c => bI (P c)) n) (nf : ¬ P n) : a = isum (fun c => bI (P c)) (n + 1) := by rw [isum_s h, ← e, bI_f nf]; omega
theorem nf_yes {P : Int → Prop} {n a : Int} (h : 0 ≤ n) (e : a = isum (fun c => bI (P c)) n) (nf : P n) : a + 1 = isum (fun c => bI (P c)) (n + 1) := by rw [isum_s h, ← e, bI_t nf]
theorem fst_no {P : Int → Prop} {n : Int} (h : 0 ≤ n) (nf : ¬ P n) : fstc P (n + 1) = fstc P n := by rw [fstc_s h]; exact sel_f (fun z => nf z.2)
theorem fst_0 {P : Int → Prop} {n : Int} (h : 0 ≤ n) : isum (fun c => bI (P c)) n = 0 ↔ fstc P n = -1 := by
  constructor
  · intro e
    rcases fstc_r (P := P) h with q | ⟨a, b, c, -⟩
    · exact q.1
    · have := isum_zero (f := fun c => bI (P c)) (fun j _ _ => (bI_01 _).1) e (fstc P n) a b
      exact absurd c (bI_0.mp this)
  · intro e
    rcases fstc_r (P := P) h with q | ⟨a, b, c, -⟩
    · rw [isum_congr (g := fun _ => 0) (fun j h1 h2 => bI_f (q.2 j h1 h2))]
      have : ∀ m : Nat, nsum (fun _ => (0 : Int)) m = 0 := by
        intro m
        induction m with
        | zero => rfl
        | succ m ih => show nsum _ m + 0 = 0; rw [ih]; rfl
      exact this _
    · omega
theorem ex_no {P Q : Int → Prop} {n : Int} (nf : ¬ P n) : (∃ z, 0 ≤ z ∧ z < n ∧ P z ∧ Q z) ↔ ∃ z, 0 ≤ z ∧ z < n + 1 ∧ P z ∧ Q z := by
  constructor
  · rintro ⟨z, a, b, c⟩; exact ⟨z, a, by omega, c⟩
  · rintro ⟨z, a, b, c⟩
    by_cases e : z = n
    · rw [e] at c; exact absurd c.1 nf
    · exact ⟨z, a, by omega, c⟩
theorem ex_yes {P Q : Int → Prop} {n : Int} (h : 0 ≤ n) (nf : P n) : ((∃ z, 0 ≤ z ∧ z < n ∧ P z ∧ Q z) ∨ Q n) ↔ ∃ z, 0 ≤ z ∧ z < n + 1 ∧ P z ∧ Q z := by
  constructor
  · rintro (⟨z, a, b, c⟩ | q)
    · exact ⟨z, a, by omega, c⟩
    · exact ⟨n, h, by omega, nf, q⟩
  · rintro ⟨z, a, b, c⟩
    by_cases e : z = n
    · rw [e] at c; exact Or.inr c.2
    · exact Or.inl ⟨z, a, by omega, c⟩
theorem fitc_v {it to m23 : Int → Int} {am c : Int} (h : ∀ k : Int, 0 ≤ k → k < 4 → m23 k = vc c k) : fitc it to am c ↔ (Unl m23 ∧ Adds m23 it to am) := by
  unfold fitc
  rw [Unl_congr (fun m a b => (h m a b).symm), Adds_congr (fun m a b => (h m a b).symm)]
theorem bl_out {a Q : Prop} {P : Int → Prop} {n : Int} (h : 0 ≤ n) (e : a ↔ ((∀ k : Int, 0 ≤ k → k < n → P k) ∧ Q)) (hq : Q ↔ P n) : a ↔ ∀ k : Int, 0 ≤ k → k < n + 1 → P k := by rw [bl_s h, e, hq]
/-- the signs at a place on -/
noncomputable def pl (sg m6 : Int → Int) (t i : Int) : Int → Int := fun x => sa sg (m6 (24 * t + (i + x)))
theorem ffi_yes {P : Int → Prop} {n f24 : Int} {m m' m23 : Int → Int} (h : 0 ≤ n) (hf : f24 = isum (fun c => bI (P c)) n) (hp : P n) (h4 : ∀ k : Int, 0 ≤ k → k < 4 → m' k = sel (f24 = 0) (m23 k) (m k)) (hfi : 0 < f24 → ∀ k : Int, 0 ≤ k → k < 4 → m k = vc (fstc P n) k) (hv : ∀ k : Int, 0 ≤ k → k < 4 → m23 k = vc n k) : ∀ k : Int, 0 ≤ k → k < 4 → m' k = vc (fstc P (n + 1)) k := by
  intro k a b
  have z := fst_0 (P := P) h
  rw [← hf] at z
  have nn := isum_bI (P := P) h
  rw [← hf] at nn
  rw [h4 k a b, fstc_s h]
  by_cases e : f24 = 0
  · rw [sel_t e, sel_t ⟨z.1 e, hp⟩]; exact hv k a b
  · rw [sel_f e, sel_f (fun q => e (z.2 q.1))]; exact hfi (by omega) k a b
theorem had_yes {P : Int → Prop} {n : Int} {m m' m23 : Int → Int} (h : 0 ≤ n) (hp : P n) (hd : ∀ a b : Int, 0 ≤ a → a < 4 → 0 ≤ b → b < 8 → (m' (8 * a + b) = 1 ↔ (m (8 * a + b) = 1 ∨ (a < 4 ∧ m23 a = b)))) (hha : ∀ a b : Int, 0 ≤ a → a < 4 → 0 ≤ b → b < 8 → (m (8 * a + b) = 1 ↔ ∃ z, 0 ≤ z ∧ z < n ∧ P z ∧ vc z a = b)) (hv : ∀ k : Int, 0 ≤ k → k < 4 → m23 k = vc n k) : ∀ a b : Int, 0 ≤ a → a < 4 → 0 ≤ b → b < 8 → (m' (8 * a + b) = 1 ↔ ∃ z, 0 ≤ z ∧ z < n + 1 ∧ P z ∧ vc z a = b) := by
  intro a b h1 h2 h3 h4
  rw [hd a b h1 h2 h3 h4, hha a b h1 h2 h3 h4, ← ex_yes (Q := fun z => vc z a = b) h hp, hv a h1 h2]
  exact ⟨fun q => q.elim Or.inl (fun z => Or.inr z.2), fun q => q.elim Or.inl (fun z => Or.inr ⟨h2, z⟩)⟩
theorem valS_0 {it to : Int → Int} {am w : Int} (h : w = 0) : valS it to am w = nfit it to am := sel_t h
theorem valS_n {it to : Int → Int} {am w : Int} (h : ¬ w = 0) (hn : nfit it to am = 0) : valS it to am w = -4 := by
  unfold valS
  rw [sel_f h, sel_t ((fst_0 (P := fitc it to am) (n := 4096) (by omega)).1 hn)]
theorem valS_s {it to : Int → Int} {am w : Int} (h : ¬ w = 0) (hn : ¬ nfit it to am = 0) : valS it to am w = lst (vc (fstc (fitc it to am) 4096) (w - 1)) := by
  unfold valS
  rw [sel_f h, sel_f (fun q => hn ((fst_0 (P := fitc it to am) (n := 4096) (by omega)).2 q))]
theorem fstF_s {P : Int → Prop} {n : Int} (h : 0 ≤ n) : fstF P (n + 1) = sel (P n) (sel (fstF P n = -4) n (fstF P n)) (fstF P n) := ifo_s h
theorem lstF_s {P : Int → Prop} {n : Int} (h : 0 ≤ n) : lstF P (n + 1) = sel (P n) n (lstF P n) := ifo_s h
theorem isum_all0 {f : Int → Int} {n : Int} (h : ∀ j : Int, 0 ≤ j → j < n → f j = 0) : isum f n = 0 := by
  rw [isum_congr (g := fun _ => 0) h]
  have : ∀ m : Nat, nsum (fun _ => (0 : Int)) m = 0 := by
    intro m
    induction m with
    | zero => rfl
    | succ m ih => show nsum _ m + 0 = 0; rw [ih]; rfl
  exact this _
theorem p2_12 {k : Int} (h : 0 ≤ k ∧ k ≤ 12) : 1 ≤ (1 : Int) * 2 ^ k.toNat ∧ (1 : Int) * 2 ^ k.toNat ≤ 4096 := by
  obtain ⟨n, rfl⟩ : ∃ n : Nat, k = n := ⟨k.toNat, by omega⟩
  rw [Int.toNat_natCast]
  have hn : n ≤ 12 := by omega
  have e : ((2 ^ n : Nat) : Int) = 2 ^ n := by rw [Int.natCast_pow]; rfl
  have h1 : 2 ^ n ≤ 2 ^ 12 := Nat.pow_le_pow_right (by omega) hn
  have h2 : 0 < 2 ^ n := Nat.pow_pos (by omega)
  rw [← e]
  omega
