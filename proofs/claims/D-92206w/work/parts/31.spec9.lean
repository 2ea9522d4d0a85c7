set_option maxRecDepth 100000
/-! THE PLAIN LAW: claims read one by one -/
theorem ifo_cg {α : Type} {g g' : α → Int → α} {a : α} {n : Int} (h : 0 ≤ n) (e : ∀ (x : α) (j : Int), 0 ≤ j → j < n → g x j = g' x j) : ifo g a n = ifo g' a n := by
  refine int_ind (P := fun m => m ≤ n → ifo g a m = ifo g' a m) h (fun _ => rfl) (fun m h1 h2 ih _ => ?_) (Int.le_refl _)
  rw [ifo_s h1, ifo_s h1, ih (by omega), e _ m h1 h2]
def dupF (kd nu gn : Int → Int) (a b k : Int) : Prop := (¬ kd k = a ∨ ¬ nu k = b) ∨ ¬ gn k = -4
noncomputable def rEnd (t : Int → Int) (n : Int) : POut → POut
  | .inl x => .inl x
  | .inr x => sel (¬ tk t n x.1 = 3) (pBad 2 (tf t n x.1)) (sel (¬ te t n (tp t n x.1) = 0) (pBad 1 (tf t n (tp t n x.1))) (pOk (tp t n x.1) x.2))
theorem rEnd_bad {t : Int → Int} {n a b : Int} : rEnd t n (pBad a b) = pBad a b := rfl
theorem rEnd_ok {t : Int → Int} {n q on : Int} : rEnd t n (pOk q on) = sel (¬ tk t n q = 3) (pBad 2 (tf t n q)) (sel (¬ te t n (tp t n q) = 0) (pBad 1 (tf t n (tp t n q))) (pOk (tp t n q) on)) := rfl
noncomputable def rHang (t : Int → Int) (n : Int) (gn : Int → Int) (many p : Int) : POut := sel (tk t n p = 1 ∧ tv t n p = 5) (hang t n gn many 200 (tp t n p) 0) (pOk p 0)
noncomputable def rclaim (t : Int → Int) (n : Int) (kd nu gn : Int → Int) (many p : Int) : POut :=
  sel (¬ (tk t n p = 1 ∧ tv t n p < 5)) (pBad 2 (tf t n p)) (sel (¬ many < 20) (pBad 5 (tf t n p)) (sel (¬ te t n (tp t n p) = 0) (pBad 1 (tf t n (tp t n p))) (sel (¬ tk t n (tp t n p) = 2) (pBad 2 (tf t n (tp t n p)))
    (sel (¬ ∀ k : Int, 0 ≤ k → k < many → dupF kd nu gn (tv t n p) (tv t n (tp t n p)) k) (pBad 4 (tf t n (tp t n p))) (sel (¬ te t n (tp t n (tp t n p)) = 0) (pBad 1 (tf t n (tp t n (tp t n p)))) (rEnd t n (rHang t n gn many (tp t n (tp t n p)))))))))
/-- the state of all claims: how many, kinds, numbers, came, gone, on -/
abbrev Cls : Type := Int × (Int → Int) × (Int → Int) × (Int → Int) × (Int → Int) × (Int → Int)
def clPush (c : Cls) (kind number came on : Int) : Cls := (c.1 + 1, fup c.2.1 c.1 kind, fup c.2.2.1 c.1 number, fup c.2.2.2.1 c.1 came, fup c.2.2.2.2.1 c.1 (-4), fup c.2.2.2.2.2 c.1 on)
abbrev ROut := (Int × Int) ⊕ Cls
def rBad (code place : Int) : ROut := .inl (code, place)
def rOk (c : Cls) : ROut := .inr c
noncomputable def rThen (f : Int → Int → ROut) : POut → ROut
  | .inl x => .inl x
  | .inr x => f x.1 x.2
theorem rThen_bad {f : Int → Int → ROut} {a b : Int} : rThen f (pBad a b) = rBad a b := rfl
theorem rThen_ok {f : Int → Int → ROut} {a b : Int} : rThen f (pOk a b) = f a b := rfl
noncomputable def rall (t : Int → Int) (n td : Int) : Nat → Int → Cls → ROut
  | 0, _, _ => rBad 0 0
  | k + 1, p, c => sel (tk t n p = 0) (rOk c) (rThen (fun q on => rall t n td k q (clPush c (tv t n p) (tv t n (tp t n p)) td on)) (rclaim t n c.2.1 c.2.2.1 c.2.2.2.2.1 c.1 p))
theorem rall_s {t : Int → Int} {n td : Int} {k : Nat} {p : Int} {c : Cls} : rall t n td (k + 1) p c = sel (tk t n p = 0) (rOk c) (rThen (fun q on => rall t n td k q (clPush c (tv t n p) (tv t n (tp t n p)) td on)) (rclaim t n c.2.1 c.2.2.1 c.2.2.2.2.1 c.1 p)) := rfl
noncomputable def rtext (t : Int → Int) (n td : Int) (c : Cls) : ROut := sel (¬ te t n 0 = 0) (rBad 1 (tf t n 0)) (rall t n td 200 0 c)
/-- going on, when all of some are asked -/
theorem PG.all {HH C : POut} {k place f47 f50 f51 b50 b51 v many : Int} {g : Prop} {D : Int → Prop} (h : PG HH (sel (¬ ∀ x : Int, v ≤ x → x < many → D x) (pBad k place) C) f50 f51) (hk : 0 < k) (hv : v < many) (hw50 : b50 = sel (¬ g ∧ f50 = 0) k f50) (hw51 : b51 = sel (¬ g ∧ f50 = 0) f47 f51) (hg : f50 = 0 → (g ↔ D v)) (hp : f50 = 0 → f47 = place) : PG HH (sel (¬ ∀ x : Int, v + 1 ≤ x → x < many → D x) (pBad k place) C) b50 b51 ∧ (b50 = 0 → f50 = 0) := by
  rcases h with ⟨a, b⟩ | ⟨a, b⟩
  · by_cases z : g
    · have z' := (hg a).1 z
      have e : (¬ ∀ x : Int, v ≤ x → x < many → D x) ↔ ¬ ∀ x : Int, v + 1 ≤ x → x < many → D x := not_congr ⟨fun q x h1 h2 => q x (by omega) h2, fun q x h1 h2 => by
        by_cases y : x = v
        · rw [y]; exact z'
        · exact q x (by omega) h2⟩
      rw [sel_c e] at b
      rw [sel_f (fun y => y.1 z)] at hw50 hw51
      exact ⟨Or.inl ⟨by omega, b⟩, fun _ => a⟩
    · have z' : ¬ ∀ x : Int, v ≤ x → x < many → D x := fun q => z ((hg a).2 (q v (Int.le_refl _) hv))
      rw [sel_t z'] at b
      rw [sel_t ⟨z, a⟩] at hw50 hw51
      refine ⟨Or.inr ⟨by omega, ?_⟩, fun y => by omega⟩
      rw [hw50, hw51, hp a]; exact b
  · have n : ¬ (¬ g ∧ f50 = 0) := fun y => by have := y.2; omega
    rw [sel_f n] at hw50 hw51
    rw [hw50, hw51]
    exact ⟨Or.inr ⟨a, b⟩, fun y => by omega⟩
theorem PG.none {HH C : POut} {k place f50 f51 v many : Int} {D : Int → Prop} (h : PG HH (sel (¬ ∀ x : Int, v ≤ x → x < many → D x) (pBad k place) C) f50 f51) (hv : many ≤ v ∨ ¬ f50 = 0) : PG HH C f50 f51 := by
  rcases h with ⟨a, b⟩ | h
  · rw [sel_f (fun q => q (fun x h1 h2 => absurd h1 (by have := hv.resolve_right (fun z => z a); omega)))] at b
    exact Or.inl ⟨a, b⟩
  · exact Or.inr h
theorem PG.bad {HH C C' : POut} {f50 f51 : Int} (h : PG HH C f50 f51) (hf : ¬ f50 = 0) : PG HH C' f50 f51 := h.elim (fun q => absurd q.1 hf) Or.inr
/-! what hangs on a claim -/
def HS (on : Int → Int) (G : Int → Prop) (k : Int) : Nat → Int → Prop
  | 0, i => i = k
  | n + 1, i => HS on G k n i ∨ ((i = k + 1 + n ∧ G i) ∧ ∃ b : Int, 0 ≤ b ∧ Bt (on i) b ∧ HS on G k n b)
theorem HS_rg {on : Int → Int} {G : Int → Prop} {k : Int} : ∀ {n : Nat} {i : Int}, HS on G k n i → i = k ∨ (k < i ∧ i ≤ k + n)
  | 0, i, h => Or.inl h
  | n + 1, i, h => by
    rcases h with q | q
    · rcases HS_rg q with z | z
      · exact Or.inl z
      · exact Or.inr ⟨z.1, by omega⟩
    · exact Or.inr ⟨by omega, by omega⟩
def HSm (on : Int → Int) (k m i : Int) : Prop := HS on (fun _ => True) k (m - k - 1).toNat i
def HSx (on gn : Int → Int) (k m i : Int) : Prop := HS on (fun i => gn i = -4) k (m - k - 1).toNat i
theorem HS_st {on : Int → Int} {G : Int → Prop} {k i v x : Int} {n : Nat} (hv : 0 ≤ v) (hk : 0 ≤ k) (h : ∀ b : Int, 0 ≤ b → (Bt v b ↔ HS on G k n b)) (hi : i = k + 1 + n) (hon : 0 ≤ on i) (hx : x = sel (G i ∧ ¬ nd (on i) v = 0) (1 * 2 ^ i.toNat) 0) : ∀ b : Int, 0 ≤ b → (Bt (oo v x) b ↔ HS on G k (n + 1) b) := by
  intro b hb
  have hx0 : 0 ≤ x := by
    rw [hx]
    by_cases q : G i ∧ ¬ nd (on i) v = 0
    · rw [sel_t q, Int.one_mul, ← p2_nat]; exact Int.natCast_nonneg _
    · rw [sel_f q]; omega
  rw [Bt_oo hv hx0, h b hb]
  show _ ↔ (HS on G k n b ∨ ((b = k + 1 + n ∧ G b) ∧ ∃ c : Int, 0 ≤ c ∧ Bt (on b) c ∧ HS on G k n c))
  refine or_congr Iff.rfl ?_
  rw [hx]
  by_cases q : G i ∧ ¬ nd (on i) v = 0
  · rw [sel_t q, Bt_one (by omega) hb]
    constructor
    · intro e
      obtain ⟨c, c0, c1, c2⟩ := (nd_z hon hv).1 q.2
      exact ⟨⟨by omega, by rw [e]; exact q.1⟩, c, c0, by rw [e]; exact c1, (h c c0).1 c2⟩
    · intro e; omega
  · rw [sel_f q]
    refine ⟨fun z => absurd z (Bt_z b), fun z => absurd ?_ q⟩
    obtain ⟨⟨e, g⟩, c, c0, c1, c2⟩ := z
    have e2 : b = i := by omega
    rw [e2] at g c1
    exact ⟨g, (nd_z hon hv).2 ⟨c, c0, c1, (h c c0).2 c2⟩⟩
noncomputable def c5m (on gn : Int → Int) (k m : Int) : Int := isum (fun j => bI (HSm on k m (k + 1 + j) ∧ gn (k + 1 + j) = -4)) (m - k - 1)
noncomputable def wdr (on gn : Int → Int) (k m : Int) : Int := isum (fun i => bI (HSm on k m i ∧ gn i = -4)) m
/-! how deep a claim hangs -/
noncomputable def dpS (on d : Int → Int) (k : Int) : Int → Int := ifo (fun m c => sel (Bt (on k) c ∧ m < d c + 1) (d c + 1) m) 0
noncomputable def dpF (on : Int → Int) : Nat → Int → Int
  | 0, _ => 0
  | f + 1, k => dpS on (dpF on f) k k
theorem dpS_s {on d : Int → Int} {k c : Int} (h : 0 ≤ c) : dpS on d k (c + 1) = sel (Bt (on k) c ∧ dpS on d k c < d c + 1) (d c + 1) (dpS on d k c) := ifo_s h
theorem dpS_cg {on d d' : Int → Int} {k n : Int} (h : 0 ≤ n) (e : ∀ c : Int, 0 ≤ c → c < n → d c = d' c) : dpS on d k n = dpS on d' k n := ifo_cg h (fun x j h1 h2 => by rw [e j h1 h2])
theorem dpF_st {on : Int → Int} : ∀ (f g : Nat) (k : Int), 0 ≤ k → k < f → k < g → dpF on f k = dpF on g k
  | 0, g, k, h0, hf, hg => absurd hf (by omega)
  | f + 1, 0, k, h0, hf, hg => absurd hg (by omega)
  | f + 1, g + 1, k, h0, hf, hg => dpS_cg h0 (fun c h1 h2 => dpF_st f g c h1 (by omega) (by omega))
noncomputable def dp (on : Int → Int) (k : Int) : Int := dpF on (k.toNat + 1) k
theorem dp_e {on : Int → Int} {k : Int} (h : 0 ≤ k) : dp on k = dpS on (dp on) k k := dpS_cg h (fun c h1 h2 => dpF_st _ _ c h1 (by omega) (by omega))
theorem dpS_r {on d : Int → Int} {k n B : Int} (h : 0 ≤ n) (hB : 0 ≤ B) (e : ∀ c : Int, 0 ≤ c → c < n → 0 ≤ d c ∧ d c + 1 ≤ B) : 0 ≤ dpS on d k n ∧ dpS on d k n ≤ B := by
  refine int_ind (P := fun m => m ≤ n → 0 ≤ dpS on d k m ∧ dpS on d k m ≤ B) h (fun _ => ⟨Int.le_refl _, hB⟩) (fun m h1 h2 ih _ => ?_) (Int.le_refl _)
  rw [dpS_s h1]
  have a := e m h1 h2
  exact sel_rg (fun _ => by omega) (fun _ => ih (by omega))
theorem dpF_r {on : Int → Int} : ∀ (f : Nat) (k : Int), 0 ≤ k → 0 ≤ dpF on f k ∧ dpF on f k ≤ k
  | 0, k, h0 => ⟨Int.le_refl _, h0⟩
  | f + 1, k, h0 => dpS_r h0 h0 (fun c h1 h2 => by have := dpF_r (on := on) f c h1; omega)
theorem dp_r {on : Int → Int} {k : Int} (h : 0 ≤ k) : 0 ≤ dp on k ∧ dp on k ≤ k := dpF_r _ k h
/-! known on a day -/
def kwn (cm gn : Int → Int) (d k : Int) : Prop := ¬ d < cm k ∧ (gn k = -4 ∨ d < gn k)
noncomputable def kFi (P : Int → Prop) : Int → Int := ifo (fun f k => sel (P k) (sel (f = -4) k f) f) (-4)
noncomputable def kLa (P : Int → Prop) : Int → Int := ifo (fun f k => sel (P k) k f) (-4)
theorem kFi_s {P : Int → Prop} {k : Int} (h : 0 ≤ k) : kFi P (k + 1) = sel (P k) (sel (kFi P k = -4) k (kFi P k)) (kFi P k) := ifo_s h
theorem kLa_s {P : Int → Prop} {k : Int} (h : 0 ≤ k) : kLa P (k + 1) = sel (P k) k (kLa P k) := ifo_s h
/-! a text from a sheet: the first cell that is none -/
noncomputable def tsc (sz fm f : Int) (C : Int → Int) : Int → Int := ifo (fun v i => sel (v = 0) (sel (f + i < 0 ∨ sz ≤ f + i) (-12) (sel (¬ (-2 ≤ C (f + i) ∧ C (f + i) ≤ fm - 1)) (-20 - i) 0)) v) 0
theorem tsc_s {sz fm f : Int} {C : Int → Int} {i : Int} (h : 0 ≤ i) : tsc sz fm f C (i + 1) = sel (tsc sz fm f C i = 0) (sel (f + i < 0 ∨ sz ≤ f + i) (-12) (sel (¬ (-2 ≤ C (f + i) ∧ C (f + i) ≤ fm - 1)) (-20 - i) 0)) (tsc sz fm f C i) := ifo_s h
theorem tsc_stay {sz fm f : Int} {C : Int → Int} {i n : Int} (h : 0 ≤ i) (hn : i ≤ n) (e : ¬ tsc sz fm f C i = 0) : tsc sz fm f C n = tsc sz fm f C i := by
  obtain ⟨k, rfl⟩ : ∃ k : Int, n = i + k := ⟨n - i, by omega⟩
  refine int_ind (P := fun k => tsc sz fm f C (i + k) = tsc sz fm f C i) (show 0 ≤ k by omega) (by rw [Int.add_zero]) (fun m h1 _ ih => ?_)
  rw [← Int.add_assoc, tsc_s (by omega), ih, sel_f e]
theorem tsc_go {sz fm f : Int} {C : Int → Int} {i : Int} (h : 0 ≤ i) (e : tsc sz fm f C i = 0) (h1 : ¬ (f + i < 0 ∨ sz ≤ f + i)) (h2 : -2 ≤ C (f + i) ∧ C (f + i) ≤ fm - 1) : tsc sz fm f C (i + 1) = 0 := by
  rw [tsc_s h, sel_t e, sel_f h1, sel_f (fun q => q h2)]
theorem tsc_ix {sz fm f : Int} {C : Int → Int} {i n : Int} (h : 0 ≤ i) (hn : i < n) (e : tsc sz fm f C i = 0) (h1 : f + i < 0 ∨ sz ≤ f + i) : tsc sz fm f C n = -12 := by
  have z : tsc sz fm f C (i + 1) = -12 := by rw [tsc_s h, sel_t e, sel_t h1]
  rw [tsc_stay (i := i + 1) (by omega) (by omega) (by omega), z]
theorem tsc_no {sz fm f : Int} {C : Int → Int} {i n : Int} (h : 0 ≤ i) (hn : i < n) (e : tsc sz fm f C i = 0) (h1 : ¬ (f + i < 0 ∨ sz ≤ f + i)) (h2 : ¬ (-2 ≤ C (f + i) ∧ C (f + i) ≤ fm - 1)) : tsc sz fm f C n = -20 - i := by
  have z : tsc sz fm f C (i + 1) = -20 - i := by rw [tsc_s h, sel_t e, sel_f h1, sel_t h2]
  rw [tsc_stay (i := i + 1) (by omega) (by omega) (by omega), z]
theorem tsc_ok {sz fm f : Int} {C : Int → Int} {i n : Int} (h : 0 ≤ i) (hn : i < n) (e : tsc sz fm f C n = 0) : ¬ (f + i < 0 ∨ sz ≤ f + i) ∧ (-2 ≤ C (f + i) ∧ C (f + i) ≤ fm - 1) := by
  have e1 : tsc sz fm f C i = 0 := Classical.byContradiction (fun q => q (by rw [← tsc_stay (n := n) h (by omega) q]; exact e))
  have a : ¬ (f + i < 0 ∨ sz ≤ f + i) := fun q => by have := tsc_ix h hn e1 q; omega
  exact ⟨a, Classical.byContradiction (fun q => by have := tsc_no h hn e1 a q; omega)⟩
noncomputable def nrw (lane v : Int) : Int := sel (lane = 0) (sb v) (sel (lane = 1) (ss v) v)
theorem p2_19 {k : Int} (h : 0 ≤ k ∧ k ≤ 19) : (1 : Int) ≤ 2 ^ k.toNat ∧ (2 : Int) ^ k.toNat ≤ 524288 := by
  have e : ((2 ^ k.toNat : Nat) : Int) = 2 ^ k.toNat := by rw [Int.natCast_pow]; rfl
  have h1 : 2 ^ k.toNat ≤ 2 ^ 19 := Nat.pow_le_pow_right (by omega) (by omega)
  have h2 : 0 < 2 ^ k.toNat := Nat.two_pow_pos _
  rw [← e]
  omega
theorem HS_stm {on : Int → Int} {k i v x : Int} (hv : 0 ≤ v) (hk : 0 ≤ k) (hi : k + 1 ≤ i) (h : ∀ b : Int, 0 ≤ b → (Bt v b ↔ HS on (fun _ => True) k (i - k - 1).toNat b)) (hon : 0 ≤ on i) (hx : x = sel (nd (on i) v = 0) 0 (1 * 2 ^ i.toNat)) : ∀ b : Int, 0 ≤ b → (Bt (oo v x) b ↔ HS on (fun _ => True) k (i + 1 - k - 1).toNat b) := by
  rw [show (i + 1 - k - 1).toNat = (i - k - 1).toNat + 1 by omega]
  refine HS_st hv hk h (by omega) hon ?_
  rw [hx]
  by_cases q : nd (on i) v = 0
  · rw [sel_t q, sel_f (fun z => z.2 q)]
  · rw [sel_f q, sel_t ⟨trivial, q⟩]
theorem gone_yes {m g : Int → Int} {P : Int → Prop} {v d : Int} (hg : ∀ j : Int, 0 ≤ j → m j = sel (j < v ∧ P j) d (g j)) (hp : P v) : ∀ j : Int, 0 ≤ j → fup m v d j = sel (j < v + 1 ∧ P j) d (g j) := by
  intro j h
  by_cases e : j = v
  · rw [e, fup_s, sel_t ⟨by omega, hp⟩]
  · rw [fup_n _ _ e, hg j h]
    exact sel_c ⟨fun q => ⟨by omega, q.2⟩, fun q => ⟨by omega, q.2⟩⟩
theorem gone_no {m g : Int → Int} {P : Int → Prop} {v d : Int} (hg : ∀ j : Int, 0 ≤ j → m j = sel (j < v ∧ P j) d (g j)) (hp : ¬ P v) : ∀ j : Int, 0 ≤ j → m j = sel (j < v + 1 ∧ P j) d (g j) := by
  intro j h
  rw [hg j h]
  refine sel_c ⟨fun q => ⟨by omega, q.2⟩, fun q => ⟨?_, q.2⟩⟩
  rcases Int.lt_or_le j v with z | z
  · exact z
  · exact absurd ((show j = v by omega) ▸ q.2) hp
/-! a claim's end, step by step -/
theorem PG.noOn {C0 : POut} {t gn : Int → Int} {n many q k46 k47 k48 k49 k50 k51 : Int} (h : PG C0 (rEnd t n (rHang t n gn many q)) k50 k51) (hc : k50 = 0 → Cur t n q k46 k47 k48 k49 k50) (h0 : k50 = 0) (h1 : ¬ (k48 = 1 ∧ k49 = 5)) : C0 = rEnd t n (pOk q 0) := by
  have c := hc h0
  rcases h with ⟨_, b⟩ | ⟨a, _⟩
  · unfold rHang at b
    rw [sel_f (fun z => h1 ⟨by rw [c.1.2.2.2.1]; exact z.1, by rw [c.2 (Or.inl z.1)]; exact z.2⟩)] at b
    exact b
  · exact absurd a (by omega)
theorem PG.yesOn {C0 : POut} {t gn : Int → Int} {n many q k46 k47 k48 k49 k50 k51 : Int} (h : PG C0 (rEnd t n (rHang t n gn many q)) k50 k51) (hc : k50 = 0 → Cur t n q k46 k47 k48 k49 k50) (h0 : k50 = 0) (h1 : k48 = 1) (h2 : k49 = 5) : C0 = rEnd t n (hang t n gn many 200 k46 0) := by
  have c := hc h0
  have e1 : tk t n q = 1 := by rw [← c.1.2.2.2.1]; exact h1
  rcases h with ⟨_, b⟩ | ⟨a, _⟩
  · unfold rHang at b
    rw [sel_t ⟨e1, by rw [← c.2 (Or.inl e1)]; exact h2⟩, ← c.1.2.2.2.2] at b
    exact b
  · exact absurd a (by omega)
/-- behind what it hangs on -/
def PJ (C0 : POut) (t : Int → Int) (n : Int) (E : Prop) (on z46 z47 z48 z49 z50 z51 : Int) : Prop := (0 < z50 ∧ C0 = pBad z50 z51) ∨ (z50 = 0 ∧ E ∧ ∃ x : Int, C0 = rEnd t n (pOk x on) ∧ (0 ≤ x ∧ x ≤ n) ∧ Cur t n x z46 z47 z48 z49 z50)
theorem PJ.no {C0 : POut} {t gn : Int → Int} {n many q k46 k47 k48 k49 k50 k51 : Int} {E : Prop} (h : PG C0 (rEnd t n (rHang t n gn many q)) k50 k51) (hc : k50 = 0 → E ∧ (0 ≤ q ∧ q ≤ n) ∧ Cur t n q k46 k47 k48 k49 k50) (h1 : ¬ (k50 = 0 ∧ k48 = 1 ∧ k49 = 5)) : PJ C0 t n E 0 k46 k47 k48 k49 k50 k51 := by
  by_cases h0 : k50 = 0
  · exact Or.inr ⟨h0, (hc h0).1, q, PG.noOn h (fun z => (hc z).2.2) h0 (fun z => h1 ⟨h0, z⟩), (hc h0).2.1, (hc h0).2.2⟩
  · rcases h with q | q
    · exact absurd q.1 h0
    · exact Or.inl q
theorem PJ.yes {C0 : POut} {t gn : Int → Int} {n many q k46 k47 k48 k49 k50 k51 on n46 n47 n48 n49 n50 n51 : Int} {E : Prop} (h : PG C0 (rEnd t n (rHang t n gn many q)) k50 k51) (hc : k50 = 0 → E ∧ (0 ≤ q ∧ q ≤ n) ∧ Cur t n q k46 k47 k48 k49 k50) (h0 : k50 = 0) (h1 : k48 = 1) (h2 : k49 = 5) (hr : (0 < n50 ∧ hang t n gn many 200 k46 0 = pBad n50 n51) ∨ (n50 = 0 ∧ ∃ x : Int, hang t n gn many 200 k46 0 = pOk x on ∧ (0 ≤ x ∧ x ≤ n) ∧ Cur t n x n46 n47 n48 n49 n50)) : PJ C0 t n E on n46 n47 n48 n49 n50 n51 := by
  have e := PG.yesOn h (fun z => (hc z).2.2) h0 h1 h2
  rcases hr with ⟨a, b⟩ | ⟨a, x, b, c, d⟩
  · rw [b] at e; exact Or.inl ⟨a, e⟩
  · rw [b] at e; exact Or.inr ⟨a, (hc h0).1, x, e, c, d⟩
def PK (C0 : POut) (t : Int → Int) (n : Int) (E : Prop) (on z46 z47 z48 z49 z50 z51 : Int) : Prop := (0 < z50 ∧ C0 = pBad z50 z51) ∨ (z50 = 0 ∧ E ∧ ∃ x : Int, C0 = sel (¬ te t n (tp t n x) = 0) (pBad 1 (tf t n (tp t n x))) (pOk (tp t n x) on) ∧ (0 ≤ x ∧ x ≤ n) ∧ Cur t n x z46 z47 z48 z49 z50)
theorem PK.stop {C0 : POut} {t : Int → Int} {n on z46 z47 z48 z49 z50 z51 y50 y51 : Int} {E g : Prop} (h : PJ C0 t n E on z46 z47 z48 z49 z50 z51) (h0 : z50 = 0) (hg : g ↔ z48 = 3) (hw50 : y50 = sel (¬ g ∧ z50 = 0) 2 z50) (hw51 : y51 = sel (¬ g ∧ z50 = 0) z47 z51) : PK C0 t n E on z46 z47 z48 z49 y50 y51 := by
  rcases h with ⟨a, b⟩ | ⟨a, e, x, b, c, d⟩
  · exact absurd a (by omega)
  · rw [rEnd_ok] at b
    by_cases q : z48 = 3
    · rw [sel_f (fun z => z.1 (hg.2 q))] at hw50 hw51
      rw [sel_f (fun z => z (by rw [← d.1.2.2.2.1]; exact q))] at b
      exact Or.inr ⟨by omega, e, x, b, c, by rw [hw50]; exact d⟩
    · rw [sel_t ⟨fun z => q (hg.1 z), h0⟩] at hw50 hw51
      rw [sel_t (fun z => q (by rw [d.1.2.2.2.1]; exact z))] at b
      exact Or.inl ⟨by omega, by rw [hw50, hw51, d.1.2.2.1]; exact b⟩
theorem PK.skip {C0 : POut} {t : Int → Int} {n on z46 z47 z48 z49 z50 z51 : Int} {E : Prop} (h : PJ C0 t n E on z46 z47 z48 z49 z50 z51) (h0 : ¬ z50 = 0) : PK C0 t n E on z46 z47 z48 z49 z50 z51 := by
  rcases h with q | q
  · exact Or.inl q
  · exact absurd q.1 h0
def PL (C0 : POut) (t : Int → Int) (n : Int) (E : Prop) (on z46 z47 z48 z49 z50 z51 : Int) : Prop := (0 < z50 ∧ C0 = pBad z50 z51) ∨ (z50 = 0 ∧ E ∧ ∃ x : Int, C0 = pOk x on ∧ (0 ≤ x ∧ x ≤ n) ∧ Cur t n x z46 z47 z48 z49 z50)
theorem PL.fin {C0 : POut} {t : Int → Int} {n on z46 z47 z48 z49 z50 z51 a46 a47 a48 a49 a50 a51 : Int} {E : Prop} (ht : ∀ j, 0 ≤ t j ∧ t j ≤ 255) (h : PK C0 t n E on z46 z47 z48 z49 z50 z51) (hno : 0 < z50 → a46 = z46 ∧ a47 = z47 ∧ a48 = z48 ∧ a49 = z49 ∧ a50 = z50 ∧ a51 = z51) (hyes : z50 = 0 → Nxt t n z46 a46 a47 a48 a49 a50 a51) : PL C0 t n E on a46 a47 a48 a49 a50 a51 := by
  rcases h with ⟨a, b⟩ | ⟨a, e, x, b, c, d⟩
  · have z := hno a
    exact Or.inl ⟨by omega, by rw [z.2.2.2.2.1, z.2.2.2.2.2]; exact b⟩
  · have hp : PG C0 (sel (¬ te t n (tp t n x) = 0) (pBad 1 (tf t n (tp t n x))) (pOk (tp t n x) on)) z50 z51 := Or.inl ⟨a, b⟩
    have r := hp.next hno hyes (fun _ => d.1.2.2.2.2)
    have tr := tok_r ht c
    rcases r.1 with ⟨r1, r2⟩ | r1
    · exact Or.inr ⟨r1, e, tp t n x, r2, ⟨by omega, by omega⟩, (r.2 r1).2⟩
    · exact Or.inl r1
/-! all claims -/
theorem rall_bad {RA : ROut} {t : Int → Int} {n td : Int} {k : Nat} {x a b : Int} {c : Cls} (h : RA = rall t n td k x c) (hk : 0 < k) (h0 : ¬ tk t n x = 0) (e : rclaim t n c.2.1 c.2.2.1 c.2.2.2.2.1 c.1 x = pBad a b) : RA = rBad a b := by
  obtain ⟨k, rfl⟩ : ∃ j, k = j + 1 := ⟨k - 1, by omega⟩
  rw [h, rall_s, sel_f h0, e, rThen_bad]
theorem rall_ok {RA : ROut} {t : Int → Int} {n td : Int} {k : Nat} {x q on : Int} {c : Cls} (h : RA = rall t n td (k + 1) x c) (h0 : ¬ tk t n x = 0) (e : rclaim t n c.2.1 c.2.2.1 c.2.2.2.2.1 c.1 x = pOk q on) : RA = rall t n td k q (clPush c (tv t n x) (tv t n (tp t n x)) td on) := by
  rw [h, rall_s, sel_f h0, e, rThen_ok]
theorem rall_end {RA : ROut} {t : Int → Int} {n td : Int} {k : Nat} {x : Int} {c : Cls} (h : RA = rall t n td k x c) (hk : 0 < k) (h0 : tk t n x = 0) : RA = rOk c := by
  obtain ⟨k, rfl⟩ : ∃ j, k = j + 1 := ⟨k - 1, by omega⟩
  rw [h, rall_s, sel_t h0]
