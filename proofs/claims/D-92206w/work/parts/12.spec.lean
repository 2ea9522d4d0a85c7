set_option maxRecDepth 100000
/-! THE PLAIN LAW: sums over whole numbers, signs, cells -/
def nsum (f : Int → Int) : Nat → Int
  | 0 => 0
  | n + 1 => nsum f n + f n
def isum (f : Int → Int) (n : Int) : Int := nsum f n.toNat
theorem isum_0 (f : Int → Int) : isum f 0 = 0 := rfl
theorem isum_neg {f : Int → Int} {n : Int} (h : n ≤ 0) : isum f n = 0 := by
  unfold isum
  rw [show n.toNat = 0 by omega]
  rfl
theorem isum_s {f : Int → Int} {n : Int} (h : 0 ≤ n) : isum f (n + 1) = isum f n + f n := by
  unfold isum
  rw [show (n + 1).toNat = n.toNat + 1 by omega]
  show nsum f n.toNat + f (n.toNat : Int) = _
  rw [Int.toNat_of_nonneg h]
theorem isum_st {f : Int → Int} {n a x : Int} (h : 0 ≤ n) (e : a = isum f n) (hx : x = f n) : a + x = isum f (n + 1) := by rw [isum_s h, e, hx]
theorem isum_st2 {f : Int → Int} {n a b x : Int} (h : 0 ≤ n) (e : a = b + isum f n) (hx : x = f n) : a + x = b + isum f (n + 1) := by rw [isum_s h, e, hx, Int.add_assoc]
theorem isum_out {g f : Int → Int} {t n N a : Int} (h : 0 ≤ t) (e : a = isum g t + isum f n) (hn : n = N) (hg : g t = isum f N) : a = isum g (t + 1) := by rw [isum_s h, e, hg, hn]
theorem nsum_congr {f g : Int → Int} : ∀ (n : Nat), (∀ j : Int, 0 ≤ j → j < n → f j = g j) → nsum f n = nsum g n
  | 0, _ => rfl
  | n + 1, h => by
    show nsum f n + f n = nsum g n + g n
    rw [nsum_congr n (fun j h1 h2 => h j h1 (by omega)), h n (by omega) (by omega)]
theorem isum_congr {f g : Int → Int} {n : Int} (h : ∀ j : Int, 0 ≤ j → j < n → f j = g j) : isum f n = isum g n := nsum_congr _ (fun j h1 h2 => h j h1 (by omega))
theorem nsum_le {f : Int → Int} {b : Int} : ∀ (n : Nat), (∀ j : Int, 0 ≤ j → j < n → 0 ≤ f j ∧ f j ≤ b) → 0 ≤ nsum f n ∧ nsum f n ≤ b * n
  | 0, _ => ⟨Int.le_refl _, by show (0 : Int) ≤ b * ((0 : Nat) : Int); rw [Int.natCast_zero, Int.mul_zero]; exact Int.le_refl _⟩
  | n + 1, h => by
    have h1 := nsum_le n (fun j q1 q2 => h j q1 (by omega))
    have h2 := h n (by omega) (by omega)
    have h3 : b * ((n + 1 : Nat) : Int) = b * n + b := by rw [Int.natCast_add, Int.mul_add]; simp
    show 0 ≤ nsum f n + f n ∧ nsum f n + f n ≤ _
    rw [h3]
    omega
theorem isum_le {f : Int → Int} {b n : Int} (hn : 0 ≤ n) (h : ∀ j : Int, 0 ≤ j → j < n → 0 ≤ f j ∧ f j ≤ b) : 0 ≤ isum f n ∧ isum f n ≤ b * n := by
  have := nsum_le n.toNat (fun j h1 h2 => h j h1 (by omega))
  rw [Int.toNat_of_nonneg hn] at this
  exact this
theorem isum_bI {P : Int → Prop} {n : Int} (hn : 0 ≤ n) : 0 ≤ isum (fun j => bI (P j)) n ∧ isum (fun j => bI (P j)) n ≤ n := by
  have := isum_le (f := fun j => bI (P j)) (b := 1) hn (fun j _ _ => bI_01 _)
  omega
theorem bI_of {a : Int} (h : a = 0 ∨ a = 1) : bI (a = 1) = a := by
  rcases h with h | h
  · rw [h]; exact bI_f (by omega)
  · rw [h]; exact bI_t rfl
theorem sel_rg {c : Prop} {a b lo hi : Int} (h1 : c → lo ≤ a ∧ a ≤ hi) (h2 : ¬ c → lo ≤ b ∧ b ≤ hi) : lo ≤ sel c a b ∧ sel c a b ≤ hi := by
  by_cases h : c
  · rw [sel_t h]; exact h1 h
  · rw [sel_f h]; exact h2 h
/-- the bits of a number below 2^24 -/
def bits (v : Int) : Int := isum (fun k => v / 2 ^ k.toNat % 2) 24
def xr (x y : Int) : Int := ((x.toNat ^^^ y.toNat : Nat) : Int)
theorem xr_comm (x y : Int) : xr x y = xr y x := by unfold xr; rw [Nat.xor_comm]
theorem xr_r {x y : Int} (hx : 0 ≤ x ∧ x ≤ 4095) (hy : 0 ≤ y ∧ y ≤ 4095) : 0 ≤ xr x y ∧ xr x y ≤ 4095 := by
  have h : x.toNat ^^^ y.toNat < 2 ^ 12 := Nat.xor_lt_two_pow (by omega) (by omega)
  unfold xr
  omega
theorem bits_r (v : Int) : 0 ≤ bits v ∧ bits v ≤ 24 := by
  have := isum_le (f := fun k => v / 2 ^ k.toNat % 2) (b := 1) (n := 24) (by omega) (fun j _ _ => by
    have h := Int.emod_nonneg (v / 2 ^ j.toNat) (b := 2) (by omega)
    have h2 := Int.emod_lt_of_pos (v / 2 ^ j.toNat) (b := 2) (by omega)
    omega)
  unfold bits
  omega
theorem fup_st {P : Int → Int → Prop} {m : Int → Int} {k v : Int} (h : ∀ j : Int, 0 ≤ j → j < k → P j (m j)) (hk : P k v) : ∀ j : Int, 0 ≤ j → j < k + 1 → P j (fup m k v j) := by
  intro j h1 h2
  by_cases q : j = k
  · rw [q, fup_s]; exact hk
  · rw [fup_n _ _ q]; exact h j h1 (by omega)
def nd (x y : Int) : Int := ((x.toNat &&& y.toNat : Nat) : Int)
def oo (x y : Int) : Int := ((x.toNat ||| y.toNat : Nat) : Int)
/-! SIGNS: forms grouped -/
def Near (ft : Int → Int) (w a b : Int) : Prop := bits (xr (ft a) (ft b)) ≤ w
theorem Near.symm {ft : Int → Int} {w a b : Int} (h : Near ft w a b) : Near ft w b a := by unfold Near at *; rw [xr_comm]; exact h
/-- in one group: no set that is closed under nearness parts them -/
def Conn (n : Int) (ft : Int → Int) (w a b : Int) : Prop := ∀ P : Int → Prop, (∀ x y : Int, 0 ≤ x → x < n → 0 ≤ y → y < n → Near ft w x y → (P x ↔ P y)) → (P a ↔ P b)
theorem Conn.rf {n : Int} {ft : Int → Int} {w a : Int} : Conn n ft w a a := fun _ _ => Iff.rfl
theorem Conn.sy {n : Int} {ft : Int → Int} {w a b : Int} (h : Conn n ft w a b) : Conn n ft w b a := fun P hP => (h P hP).symm
theorem Conn.tr {n : Int} {ft : Int → Int} {w a b c : Int} (h : Conn n ft w a b) (g : Conn n ft w b c) : Conn n ft w a c := fun P hP => (h P hP).trans (g P hP)
theorem Conn.one {n : Int} {ft : Int → Int} {w a b : Int} (h1 : 0 ≤ a ∧ a < n) (h2 : 0 ≤ b ∧ b < n) (h : Near ft w a b) : Conn n ft w a b := fun _ hP => hP a b h1.1 h1.2 h2.1 h2.2 h
/-- the least form of each group -/
def SgOK (n : Int) (ft : Int → Int) (w : Int) (s : Int → Int) : Prop := (∀ f : Int, 0 ≤ f → f < n → 0 ≤ s f ∧ s f ≤ f ∧ Conn n ft w f (s f)) ∧ ∀ a b : Int, 0 ≤ a → a < n → 0 ≤ b → b < n → Near ft w a b → s a = s b
theorem SgOK.conn {n : Int} {ft : Int → Int} {w : Int} {s : Int → Int} (h : SgOK n ft w s) {a b : Int} (ha : 0 ≤ a ∧ a < n) (hc : Conn n ft w a b) : s a = s b := by
  refine (hc (fun x => s a = s x) (fun x y h1 h2 h3 h4 hn => ?_)).mp rfl
  rw [h.2 x y h1 h2 h3 h4 hn]
theorem SgOK.uniq {n : Int} {ft : Int → Int} {w : Int} {s s' : Int → Int} (h : SgOK n ft w s) (h' : SgOK n ft w s') {f : Int} (h0 : 0 ≤ f) (hf : f < n) : s f = s' f := by
  obtain ⟨a1, a2, a3⟩ := h.1 f h0 hf
  obtain ⟨b1, b2, b3⟩ := h'.1 f h0 hf
  have e1 : s f = s (s' f) := h.conn ⟨h0, hf⟩ b3
  have e2 : s' f = s' (s f) := h'.conn ⟨h0, hf⟩ a3
  have l1 := (h.1 (s' f) b1 (by omega)).2.1
  have l2 := (h'.1 (s f) a1 (by omega)).2.1
  omega
theorem SgOK.idem {n : Int} {ft : Int → Int} {w : Int} {s : Int → Int} (h : SgOK n ft w s) {f : Int} (h0 : 0 ≤ f) (hf : f < n) : s (s f) = s f := (h.conn ⟨h0, hf⟩ (h.1 f h0 hf).2.2).symm
/-- the pairs up to (a, b) are grouped -/
def SgTo (n : Int) (ft : Int → Int) (w : Int) (s : Int → Int) (a b : Int) : Prop := (∀ f : Int, 0 ≤ f → f < n → 0 ≤ s f ∧ s f ≤ f ∧ Conn n ft w f (s f)) ∧ ∀ x y : Int, 0 ≤ y → y < x → x < n → (x < a ∨ x = a ∧ y < b) → Near ft w x y → s x = s y
theorem SgTo.ok {n : Int} {ft : Int → Int} {w : Int} {s : Int → Int} {a b : Int} (h : SgTo n ft w s a b) (ha : n ≤ a) : SgOK n ft w s := by
  refine ⟨h.1, fun x y h1 h2 h3 h4 hn => ?_⟩
  rcases Int.lt_trichotomy x y with q | q | q
  · exact (h.2 y x h1 q h4 (Or.inl (by omega)) hn.symm).symm
  · rw [q]
  · exact h.2 x y h3 q h2 (Or.inl (by omega)) hn
theorem SgTo.row {n : Int} {ft : Int → Int} {w : Int} {s : Int → Int} {a b : Int} (h : SgTo n ft w s a b) (hb : a ≤ b) : SgTo n ft w s (a + 1) 0 := ⟨h.1, fun x y h1 h2 h3 h4 hn => h.2 x y h1 h2 h3 (by omega) hn⟩
theorem SgTo.skip {n : Int} {ft : Int → Int} {w : Int} {s : Int → Int} {a b : Int} (h : SgTo n ft w s a b) (hs : Near ft w a b → s a = s b) : SgTo n ft w s a (b + 1) := by
  refine ⟨h.1, fun x y h1 h2 h3 h4 hn => ?_⟩
  by_cases q : x = a ∧ y = b
  · obtain ⟨rfl, rfl⟩ := q; exact hs hn
  · exact h.2 x y h1 h2 h3 (by omega) hn
/-- two groups become one: every high becomes low -/
noncomputable def sgj (s : Int → Int) (lo hi : Int) (k : Int) : Int → Int := fun f => sel (f < k ∧ s f = hi) lo (s f)
theorem sgj_s {s m : Int → Int} {lo hi k n : Int} (h0 : 0 ≤ k) (h : ∀ f, 0 ≤ f → f < n → m f = sgj s lo hi k f) (hk : k < n) : ∀ f, 0 ≤ f → f < n → fup m k (sel (m k = hi) lo (m k)) f = sgj s lo hi (k + 1) f := by
  intro f h1 h2
  have hmk : m k = s k := by rw [h k h0 hk]; exact sel_f (by omega)
  by_cases q : f = k
  · subst q
    rw [fup_s, hmk]
    unfold sgj
    by_cases e : s f = hi
    · rw [sel_t e, sel_t ⟨by omega, e⟩]
    · rw [sel_f e, sel_f (fun z => e z.2)]
  · rw [fup_n _ _ q, h f h1 h2]
    unfold sgj
    exact sel_c ⟨fun z => ⟨by omega, z.2⟩, fun z => ⟨by omega, z.2⟩⟩
theorem SgTo.join {n : Int} {ft : Int → Int} {w : Int} {s m : Int → Int} {a b lo hi k : Int} (h : SgTo n ft w s a b) (ha : 0 ≤ b ∧ b < a ∧ a < n) (hn : Near ft w a b) (hlo : lo = sel (s a < s b) (s a) (s b)) (hhi : hi = s a + s b - lo) (hne : ¬ s a = s b) (hm : ∀ f, 0 ≤ f → f < n → m f = sgj s lo hi k f) (hk : n ≤ k) : SgTo n ft w m a (b + 1) := by
  have A := h.1 a (by omega) ha.2.2
  have B := h.1 b ha.1 (by omega)
  have key : (lo = s a ∧ hi = s b ∧ s a < s b) ∨ (lo = s b ∧ hi = s a ∧ s b < s a) := by
    by_cases q : s a < s b
    · rw [sel_t q] at hlo; left; omega
    · rw [sel_f q] at hlo; right; omega
  have con : Conn n ft w hi lo := by
    have c1 : Conn n ft w (s a) (s b) := A.2.2.sy.tr ((Conn.one ⟨by omega, ha.2.2⟩ ⟨ha.1, by omega⟩ hn).tr B.2.2)
    rcases key with ⟨e1, e2, -⟩ | ⟨e1, e2, -⟩
    · rw [e1, e2]; exact c1.sy
    · rw [e1, e2]; exact c1
  have val : ∀ f, 0 ≤ f → f < n → (s f = hi ∧ m f = lo) ∨ (¬ s f = hi ∧ m f = s f) := by
    intro f h1 h2
    rw [hm f h1 h2]
    unfold sgj
    by_cases q : s f = hi
    · left; exact ⟨q, sel_t ⟨by omega, q⟩⟩
    · right; exact ⟨q, sel_f (fun z => q z.2)⟩
  have fun' : ∀ x y, 0 ≤ x → x < n → 0 ≤ y → y < n → s x = s y → m x = m y := by
    intro x y h1 h2 h3 h4 e
    rcases val x h1 h2 with ⟨q1, q2⟩ | ⟨q1, q2⟩ <;> rcases val y h3 h4 with ⟨q3, q4⟩ | ⟨q3, q4⟩
    · rw [q2, q4]
    · exact absurd (e ▸ q1) q3
    · exact absurd (e.symm ▸ q3) q1
    · rw [q2, q4, e]
  refine ⟨fun f h1 h2 => ?_, fun x y h1 h2 h3 h4 hxy => ?_⟩
  · have S := h.1 f h1 h2
    rcases val f h1 h2 with ⟨q1, q2⟩ | ⟨q1, q2⟩
    · rw [q2]
      refine ⟨by rcases key with ⟨e1, -, -⟩ | ⟨e1, -, -⟩ <;> omega, by rcases key with ⟨e1, e2, e3⟩ | ⟨e1, e2, e3⟩ <;> omega, ?_⟩
      have := S.2.2
      rw [q1] at this
      exact this.tr con
    · rw [q2]; exact S
  · by_cases q : x = a ∧ y = b
    · obtain ⟨rfl, rfl⟩ := q
      rcases val x (by omega) h3 with ⟨q1, q2⟩ | ⟨q1, q2⟩ <;> rcases val y h1 (by omega) with ⟨q3, q4⟩ | ⟨q3, q4⟩ <;> rcases key with ⟨e1, e2, e3⟩ | ⟨e1, e2, e3⟩ <;> omega
    · exact fun' x y (by omega) h3 h1 (by omega) (h.2 x y h1 h2 h3 (by omega) hxy)
/-- a cell's sign: gaps and ends stay -/
noncomputable def sa (sg : Int → Int) (c : Int) : Int := sel (c < 0) c (sg c)
/-- how many signs -/
noncomputable def sgn_many (n : Int) (s : Int → Int) : Int := isum (fun f => bI (s f = f)) n
noncomputable def sz_of (n : Int) (s : Int → Int) (k : Int) : Int := isum (fun f => bI (s f = k)) n
def mtc (m6 : Int → Int) : Int → Int → Int := fun t i => m6 (24 * t + i)
/-- the canonical signs -/
noncomputable def sgc (n : Int) (ft : Int → Int) (w : Int) : Int → Int := Classical.epsilon (fun s => SgOK n ft w s)
theorem sgc_ok {n : Int} {ft : Int → Int} {w : Int} {s : Int → Int} (h : SgOK n ft w s) : SgOK n ft w (sgc n ft w) := Classical.epsilon_spec (p := fun s => SgOK n ft w s) ⟨s, h⟩
theorem sgc_e {n : Int} {ft : Int → Int} {w : Int} {s : Int → Int} (h : SgOK n ft w s) {f : Int} (h0 : 0 ≤ f) (hf : f < n) : s f = sgc n ft w f := h.uniq (sgc_ok h) h0 hf
def isS (n : Int) (ft : Int → Int) (w k : Int) : Prop := (0 ≤ k ∧ k < n) ∧ sgc n ft w k = k
theorem isS_i {n : Int} {ft : Int → Int} {w : Int} {s : Int → Int} (h : SgOK n ft w s) {k : Int} : ((0 ≤ k ∧ k < n) ∧ s k = k) ↔ isS n ft w k := by
  unfold isS
  constructor
  · intro q; exact ⟨q.1, by rw [← sgc_e h q.1.1 q.1.2]; exact q.2⟩
  · intro q; exact ⟨q.1, by rw [sgc_e h q.1.1 q.1.2]; exact q.2⟩
theorem sa_r {sg : Int → Int} {c : Int} (hc : -2 ≤ c) (hc2 : c ≤ 23) (h : 0 ≤ sg c ∧ sg c ≤ 23) : -2 ≤ sa sg c ∧ sa sg c ≤ 23 := by
  unfold sa
  exact sel_rg (fun _ => by omega) (fun _ => by omega)
/-! COUNTS over texts -/
noncomputable def cnt (sg : Int → Int) (tc : Int → Int → Int) (tl : Int → Int) (tm s : Int) : Int := isum (fun t => isum (fun i => bI (sa sg (tc t i) = s)) (tl t)) tm
noncomputable def alls (sg : Int → Int) (tc : Int → Int → Int) (tl : Int → Int) (tm : Int) : Int := isum (fun t => isum (fun i => bI (¬ sa sg (tc t i) < 0)) (tl t)) tm
/-- a sum over the places behind the first -/
def isum1 (f : Int → Int) (n : Int) : Int := isum (fun k => f (k + 1)) (n - 1)
theorem isum1_1 (f : Int → Int) : isum1 f 1 = 0 := rfl
theorem isum1_s {f : Int → Int} {n : Int} (h : 1 ≤ n) : isum1 f (n + 1) = isum1 f n + f n := by
  unfold isum1
  rw [show n + 1 - 1 = (n - 1) + 1 by omega, isum_s (by omega)]
  rw [show n - 1 + 1 = n by omega]
theorem isum1_st2 {f : Int → Int} {n a b x : Int} (h : 1 ≤ n) (e : a = b + isum1 f n) (hx : x = f n) : a + x = b + isum1 f (n + 1) := by rw [isum1_s h, e, hx, Int.add_assoc]
theorem isum1_out {g f : Int → Int} {t n N a : Int} (h : 0 ≤ t) (e : a = isum g t + isum1 f n) (hn : n = N ∨ N ≤ 1 ∧ n = 1) (hg : g t = isum1 f N) : a = isum g (t + 1) := by
  rw [isum_s h, e, hg]
  rcases hn with q | ⟨q, q2⟩
  · rw [q]
  · rw [q2]
    have z : isum1 f N = 0 := by unfold isum1; exact isum_neg (by omega)
    rw [z]; rfl
theorem isum1_le {f : Int → Int} {n : Int} (hn : 0 ≤ n) (h : ∀ j : Int, 1 ≤ j → j < n → 0 ≤ f j ∧ f j ≤ 1) : 0 ≤ isum1 f n ∧ isum1 f n ≤ n := by
  unfold isum1
  by_cases q : n = 0
  · subst q; exact ⟨Int.le_of_eq (isum_neg (by omega)).symm, Int.le_of_eq (isum_neg (by omega))⟩
  · have := isum_le (f := fun k => f (k + 1)) (b := 1) (n := n - 1) (by omega) (fun j h1 h2 => h (j + 1) (by omega) (by omega))
    omega
theorem isum1_congr {f g : Int → Int} {n : Int} (h : ∀ j : Int, 1 ≤ j → j < n → f j = g j) : isum1 f n = isum1 g n := isum_congr (fun j h1 h2 => h (j + 1) (by omega) (by omega))
noncomputable def bes (sg : Int → Int) (tc : Int → Int → Int) (tl : Int → Int) (tm a b : Int) : Int := isum (fun t => isum1 (fun i => bI ((¬ sa sg (tc t (i - 1)) < 0) ∧ (¬ sa sg (tc t i) < 0) ∧ (a < 0 ∨ (sa sg (tc t (i - 1)) = a ∧ sa sg (tc t i) = b)))) (tl t)) tm
theorem two_r {g : Int → Int} {tl : Int → Int} {tm : Int} (htm : 0 ≤ tm ∧ tm ≤ 8) (h : ∀ t, 0 ≤ g t ∧ g t ≤ tl t) (htl : ∀ t, 0 ≤ tl t ∧ tl t ≤ 24) : 0 ≤ isum g tm ∧ isum g tm ≤ 192 := by
  have := isum_le (f := g) (b := 24) (n := tm) htm.1 (fun t _ _ => by have := h t; have := htl t; omega)
  omega
theorem cnt_r {sg : Int → Int} {tc : Int → Int → Int} {tl : Int → Int} {tm s : Int} (htm : 0 ≤ tm ∧ tm ≤ 8) (htl : ∀ t, 0 ≤ tl t ∧ tl t ≤ 24) : 0 ≤ cnt sg tc tl tm s ∧ cnt sg tc tl tm s ≤ 192 := two_r htm (fun t => isum_bI (htl t).1) htl
theorem alls_r {sg : Int → Int} {tc : Int → Int → Int} {tl : Int → Int} {tm : Int} (htm : 0 ≤ tm ∧ tm ≤ 8) (htl : ∀ t, 0 ≤ tl t ∧ tl t ≤ 24) : 0 ≤ alls sg tc tl tm ∧ alls sg tc tl tm ≤ 192 := two_r htm (fun t => isum_bI (htl t).1) htl
theorem bes_r {sg : Int → Int} {tc : Int → Int → Int} {tl : Int → Int} {tm a b : Int} (htm : 0 ≤ tm ∧ tm ≤ 8) (htl : ∀ t, 0 ≤ tl t ∧ tl t ≤ 24) : 0 ≤ bes sg tc tl tm a b ∧ bes sg tc tl tm a b ≤ 192 := two_r htm (fun t => isum1_le (htl t).1 (fun j _ _ => bI_01 _)) htl
theorem cnt_congr {sg sg' : Int → Int} {tc tc' : Int → Int → Int} {tl tl' : Int → Int} {tm s : Int} (hl : ∀ t, 0 ≤ t → t < tm → tl t = tl' t) (h : ∀ t i, 0 ≤ t → t < tm → 0 ≤ i → i < tl t → sa sg (tc t i) = sa sg' (tc' t i)) : cnt sg tc tl tm s = cnt sg' tc' tl' tm s := isum_congr (fun t h1 h2 => by rw [← hl t h1 h2]; exact isum_congr (fun i h3 h4 => by rw [h t i h1 h2 h3 h4]))
theorem alls_congr {sg sg' : Int → Int} {tc tc' : Int → Int → Int} {tl tl' : Int → Int} {tm : Int} (hl : ∀ t, 0 ≤ t → t < tm → tl t = tl' t) (h : ∀ t i, 0 ≤ t → t < tm → 0 ≤ i → i < tl t → sa sg (tc t i) = sa sg' (tc' t i)) : alls sg tc tl tm = alls sg' tc' tl' tm := isum_congr (fun t h1 h2 => by rw [← hl t h1 h2]; exact isum_congr (fun i h3 h4 => by rw [h t i h1 h2 h3 h4]))
theorem bes_congr {sg sg' : Int → Int} {tc tc' : Int → Int → Int} {tl tl' : Int → Int} {tm a b : Int} (hl : ∀ t, 0 ≤ t → t < tm → tl t = tl' t) (h : ∀ t i, 0 ≤ t → t < tm → 0 ≤ i → i < tl t → sa sg (tc t i) = sa sg' (tc' t i)) : bes sg tc tl tm a b = bes sg' tc' tl' tm a b := isum_congr (fun t h1 h2 => by rw [← hl t h1 h2]; exact isum1_congr (fun i h3 h4 => by rw [h t i h1 h2 (by omega) h4, h t (i - 1) h1 h2 (by omega) (by omega)]))
/-! the most frequent of signs; the least likeness that makes one of all -/
def ifold {α : Type} (g : α → Int → α) (a : α) : Nat → α
  | 0 => a
  | n + 1 => g (ifold g a n) n
def ifo {α : Type} (g : α → Int → α) (a : α) (n : Int) : α := ifold g a n.toNat
theorem ifo_0 {α : Type} (g : α → Int → α) (a : α) : ifo g a 0 = a := rfl
theorem ifo_s {α : Type} {g : α → Int → α} {a : α} {n : Int} (h : 0 ≤ n) : ifo g a (n + 1) = g (ifo g a n) n := by
  unfold ifo
  rw [show (n + 1).toNat = n.toNat + 1 by omega]
  show g (ifold g a n.toNat) (n.toNat : Int) = _
  rw [Int.toNat_of_nonneg h]
noncomputable def bst (n : Int) (s : Int → Int) : Int → Int := ifo (fun b k => sel (s k = k ∧ (b = -4 ∨ sz_of n s b < sz_of n s k)) k b) (-4)
def Uni (n : Int) (ft : Int → Int) (w : Int) : Prop := ∃ s, SgOK n ft w s ∧ sgn_many n s ≤ 1
theorem nsum_zero {f : Int → Int} : ∀ (n : Nat), (∀ j : Int, 0 ≤ j → j < n → 0 ≤ f j) → nsum f n = 0 → ∀ j : Int, 0 ≤ j → j < n → f j = 0
  | 0, _, _ => fun j h1 h2 => absurd h1 (by omega)
  | n + 1, h, e => by
    have h1 : 0 ≤ nsum f n := by
      clear e
      have aux : ∀ m : Nat, m ≤ n → 0 ≤ nsum f m := by
        intro m
        induction m with
        | zero => intro _; exact Int.le_refl _
        | succ k ih => intro hk; have := ih (by omega); have := h k (by omega) (by omega); show 0 ≤ nsum f k + f k; omega
      exact aux n (Nat.le_refl _)
    have h2 := h n (by omega) (by omega)
    have e' : nsum f n + f n = 0 := e
    intro j q1 q2
    by_cases q : j = n
    · rw [q]; omega
    · exact nsum_zero n (fun j a b => h j a (by omega)) (by omega) j q1 (by omega)
theorem isum_zero {f : Int → Int} {n : Int} (h : ∀ j : Int, 0 ≤ j → j < n → 0 ≤ f j) (e : isum f n = 0) : ∀ j : Int, 0 ≤ j → j < n → f j = 0 := fun j h1 h2 => nsum_zero n.toNat (fun j a b => h j a (by omega)) e j h1 (by omega)
theorem isum_one {f : Int → Int} {n k : Int} (h : ∀ j : Int, 0 ≤ j → j < n → 0 ≤ f j) (h0 : 0 ≤ k) (hk : k < n) : f k ≤ isum f n := by
  rcases Int.lt_or_le (isum f n) (f k) with q | q
  · exfalso
    -- the sum without k
    have : ∀ m : Nat, (m : Int) ≤ n → (0 ≤ isum f m ∧ ((k : Int) < m → f k ≤ isum f m)) := by
      intro m
      induction m with
      | zero => intro _; exact ⟨Int.le_refl _, fun z => by omega⟩
      | succ m ih =>
        intro hm
        have h1 := ih (by omega)
        have h2 := h m (by omega) (by omega)
        have e : isum f ((m + 1 : Nat) : Int) = isum f m + f m := by rw [Int.natCast_add]; exact isum_s (by omega)
        rw [e]
        refine ⟨by omega, fun z => ?_⟩
        by_cases e2 : k = m
        · subst e2; omega
        · have := h1.2 (by omega); omega
    have z := (this n.toNat (by omega)).2 (by omega)
    rw [Int.toNat_of_nonneg (by omega)] at z
    omega
  · exact q
theorem sz_pos {n : Int} {s : Int → Int} {k : Int} (h0 : 0 ≤ k) (hk : k < n) (h : s k = k) : 1 ≤ sz_of n s k := by
  have := isum_one (f := fun f => bI (s f = k)) (n := n) (k := k) (fun j _ _ => (bI_01 _).1) h0 hk
  have e : bI (s k = k) = 1 := bI_t h
  unfold sz_of
  omega
theorem sz_no {n : Int} {ft : Int → Int} {w : Int} {s : Int → Int} (h : SgOK n ft w s) {k : Int} (hk : ¬ s k = k) : sz_of n s k = 0 := by
  unfold sz_of
  rw [isum_congr (g := fun _ => 0) (fun j h1 h2 => bI_f (fun e => hk (by rw [← e]; exact h.idem h1 h2)))]
  have : ∀ m : Nat, nsum (fun _ => (0 : Int)) m = 0 := by
    intro m
    induction m with
    | zero => rfl
    | succ m ih => show nsum _ m + 0 = 0; rw [ih]; rfl
  exact this _
theorem sz_r {n : Int} {s : Int → Int} {k : Int} (h : 0 ≤ n) : 0 ≤ sz_of n s k ∧ sz_of n s k ≤ n := isum_bI h
theorem many_r {n : Int} {s : Int → Int} (h : 0 ≤ n) : 0 ≤ sgn_many n s ∧ sgn_many n s ≤ n := isum_bI h
theorem many_uq {n : Int} {ft : Int → Int} {w : Int} {s s' : Int → Int} (h : SgOK n ft w s) (h' : SgOK n ft w s') : sgn_many n s = sgn_many n s' := isum_congr (fun f h1 h2 => by rw [h.uniq h' h1 h2])
theorem sz_uq {n : Int} {ft : Int → Int} {w : Int} {s s' : Int → Int} (h : SgOK n ft w s) (h' : SgOK n ft w s') {k : Int} : sz_of n s k = sz_of n s' k := isum_congr (fun f h1 h2 => by rw [h.uniq h' h1 h2])
theorem Uni_no {n : Int} {ft : Int → Int} {w : Int} {s : Int → Int} (h : SgOK n ft w s) (hm : 1 < sgn_many n s) : ¬ Uni n ft w := fun ⟨s', h1, h2⟩ => by rw [many_uq h h1] at hm; omega
/-- with a likeness of all features, all are one -/
theorem bits12 {v : Int} (h : 0 ≤ v ∧ v ≤ 4095) : bits v ≤ 12 := by
  have e : ∀ k : Int, 12 ≤ k → k < 24 → v / 2 ^ k.toNat % 2 = 0 := by
    intro k h1 h2
    have hp : (2 : Int) ^ k.toNat = 2 ^ 12 * 2 ^ (k.toNat - 12) := by rw [← Int.pow_add]; congr 1; omega
    have hq : (1 : Int) ≤ 2 ^ (k.toNat - 12) := by have := Int.pow_pos (n := 2) (m := k.toNat - 12) (by omega); omega
    have : v / 2 ^ k.toNat = 0 := Int.ediv_eq_zero_of_lt h.1 (by
      rw [hp]
      have : (2 : Int) ^ 12 * 1 ≤ 2 ^ 12 * 2 ^ (k.toNat - 12) := Int.mul_le_mul_of_nonneg_left hq (by omega)
      omega)
    rw [this]; rfl
  have s : ∀ m : Nat, m ≤ 12 → isum (fun k => v / 2 ^ k.toNat % 2) (12 + m) ≤ 12 := by
    intro m
    induction m with
    | zero =>
      intro _
      have := isum_le (f := fun k => v / 2 ^ k.toNat % 2) (b := 1) (n := 12) (by omega) (fun j _ _ => by
        have h := Int.emod_nonneg (v / 2 ^ j.toNat) (b := 2) (by omega)
        have h2 := Int.emod_lt_of_pos (v / 2 ^ j.toNat) (b := 2) (by omega)
        omega)
      simpa using this.2
    | succ m ih =>
      intro hm
      rw [show (12 + ((m + 1 : Nat) : Int)) = (12 + (m : Int)) + 1 by omega, isum_s (by omega), e _ (by omega) (by omega)]
      have := ih (by omega)
      omega
  exact s 12 (Nat.le_refl _)
theorem Uni12 {n : Int} {ft : Int → Int} {w : Int} {s : Int → Int} (hn : n ≤ 24) (hf : ∀ j, 0 ≤ ft j ∧ ft j ≤ 4095) (hw : 12 ≤ w) (h : SgOK n ft w s) : sgn_many n s ≤ 1 := by
  have z : ∀ j, 0 ≤ j → j < n → s j = s 0 := fun j h1 h2 => h.2 j 0 h1 h2 (by omega) (by omega) (by
    unfold Near
    have := bits12 (v := xr (ft j) (ft 0)) (xr_r (hf j) (hf 0))
    omega)
  unfold sgn_many
  have : ∀ m : Nat, (m : Int) ≤ n → isum (fun f => bI (s f = f)) m ≤ 1 ∧ ((m : Int) ≤ s 0 → isum (fun f => bI (s f = f)) m = 0) := by
    intro m
    induction m with
    | zero => intro _; exact ⟨by show (0 : Int) ≤ 1; omega, fun _ => rfl⟩
    | succ m ih =>
      intro hm
      have h1 := ih (by omega)
      have e : isum (fun f => bI (s f = f)) ((m + 1 : Nat) : Int) = isum (fun f => bI (s f = f)) m + bI (s m = m) := by rw [Int.natCast_add]; exact isum_s (f := fun f => bI (s f = f)) (by omega)
      rw [e]
      have zz := z m (by omega) (by omega)
      by_cases q : s (m : Int) = m
      · rw [bI_t q]
        have := h1.2 (by omega)
        refine ⟨by omega, fun w => by omega⟩
      · rw [bI_f q]
        exact ⟨by omega, fun w => by have := h1.2 (by omega); omega⟩
  rcases Int.lt_or_le n 0 with q | q
  · rw [isum_neg (by omega)]; omega
  · have := (this n.toNat (by omega)).1
    rw [Int.toNat_of_nonneg q] at this
    exact this
/-! chance -/
def gc (x y : Int) : Int := (Nat.gcd x.toNat y.toNat : Nat)
theorem gc_step {x y : Int} (hx : 0 ≤ x) (hy : 0 < y) : gc y (x % y) = gc x y := by
  unfold gc
  have e : (x % y).toNat = x.toNat % y.toNat := by
    rw [Int.toNat_emod hx (by omega)]
  rw [e, Nat.gcd_comm x.toNat y.toNat, Nat.gcd_rec y.toNat x.toNat, Nat.gcd_comm]
theorem gc_0 {x : Int} (hx : 0 ≤ x) : gc x 0 = x := by
  unfold gc
  rw [show (0 : Int).toNat = 0 from rfl, Nat.gcd_zero_right, Int.toNat_of_nonneg hx]
def chn (up dn what : Int) : Int := if what = 0 then up / gc up dn else dn / gc up dn
