set_option maxRecDepth 100000
/-! THE PLAIN LAW for the component: bits counted, signs laid -/
theorem br_0 {b : Prop} {P : Int → Prop} {lo : Int} : b ↔ (b ∧ ∀ k : Int, lo ≤ k → k < lo → P k) := ⟨fun h => ⟨h, fun k a c => absurd a (by omega)⟩, fun h => h.1⟩
theorem br_st {c b : Prop} {P : Int → Prop} {lo n : Int} (h : lo ≤ n) (e : c ↔ (b ∧ ∀ k : Int, lo ≤ k → k < n → P k)) : (c ∧ P n) ↔ (b ∧ ∀ k : Int, lo ≤ k → k < n + 1 → P k) := by
  rw [e, and_assoc]
  refine and_congr Iff.rfl ⟨fun q k a d => ?_, fun q => ⟨fun k a d => q k a (by omega), q n h (by omega)⟩⟩
  by_cases z : k = n
  · rw [z]; exact q.2
  · exact q.1 k a (by omega)
theorem and_256 {a b m k : Nat} (ha : a < 256) (hm : m < 256) : (a + 256 * b) &&& (m + 256 * k) = (a &&& m) + 256 * (b &&& k) := by
  apply Nat.eq_of_testBit_eq
  intro j
  have e : ∀ x y : Nat, x < 256 → (x + 256 * y).testBit j = if j < 8 then x.testBit j else y.testBit (j - 8) := fun x y hx => by
    rw [Nat.add_comm]; exact Nat.testBit_two_pow_mul_add (i := 8) y hx j
  have hl : a &&& m < 256 := Nat.lt_of_le_of_lt Nat.and_le_left ha
  rw [Nat.testBit_and, e a b ha, e m k hm, e _ _ hl]
  by_cases q : j < 8
  · rw [if_pos q, if_pos q, if_pos q, Nat.testBit_and]
  · rw [if_neg q, if_neg q, if_neg q, Nat.testBit_and]
theorem bc_d1 : ∀ c, c < 256 → ∀ r, r < 2 → (c / 2 + 128 * r) &&& 85 = (c / 2) &&& 85 := by decide +kernel
theorem bc_d2 : ∀ c, c < 256 → ∀ r, r < 4 → (c / 4 + 64 * r) &&& 51 = (c / 4) &&& 51 := by decide +kernel
theorem bc_d3 : ∀ c, c < 69 → ∀ r, r < 5 → (c + (c / 16 + 16 * r)) &&& 15 = (c + c / 16) &&& 15 := by decide +kernel
def bc1 (c : Nat) : Nat := c - ((c / 2) &&& 85)
def bc2 (c : Nat) : Nat := (c &&& 51) + ((c / 4) &&& 51)
def pop8 (c : Nat) : Nat := c % 2 + c / 2 % 2 + c / 4 % 2 + c / 8 % 2 + c / 16 % 2 + c / 32 % 2 + c / 64 % 2 + c / 128 % 2
theorem bc_d4 : ∀ c, c < 256 → ((c / 2) &&& 85 ≤ c ∧ bc1 c < 256 ∧ bc2 (bc1 c) < 69 ∧ bc2 (bc1 c) % 16 < 5 ∧ (bc2 (bc1 c) + bc2 (bc1 c) / 16) &&& 15 = pop8 c ∧ pop8 c ≤ 8) := by decide +kernel
theorem bc_1 {c0 c1 c2 : Nat} (h0 : c0 < 256) (h1 : c1 < 256) (h2 : c2 < 256) : (c0 + 256 * (c1 + 256 * c2)) - (((c0 + 256 * (c1 + 256 * c2)) / 2) &&& 1431655765) = bc1 c0 + 256 * (bc1 c1 + 256 * bc1 c2) := by
  have e : (c0 + 256 * (c1 + 256 * c2)) / 2 = (c0 / 2 + 128 * (c1 % 2)) + 256 * ((c1 / 2 + 128 * (c2 % 2)) + 256 * (c2 / 2 + 256 * 0)) := by omega
  have q : 1431655765 = 85 + 256 * (85 + 256 * (85 + 256 * 85)) := by decide
  rw [e, q, and_256 (by omega) (by omega), and_256 (by omega) (by omega), and_256 (by omega) (by omega), bc_d1 c0 h0 _ (by omega), bc_d1 c1 h1 _ (by omega), Nat.zero_and]
  have a0 := (bc_d4 c0 h0).1
  have a1 := (bc_d4 c1 h1).1
  have a2 := (bc_d4 c2 h2).1
  unfold bc1
  omega
theorem bc_2 {c0 c1 c2 : Nat} (h0 : c0 < 256) (h1 : c1 < 256) (h2 : c2 < 256) : ((c0 + 256 * (c1 + 256 * c2)) &&& 858993459) + (((c0 + 256 * (c1 + 256 * c2)) / 4) &&& 858993459) = bc2 c0 + 256 * (bc2 c1 + 256 * bc2 c2) := by
  have e : (c0 + 256 * (c1 + 256 * c2)) / 4 = (c0 / 4 + 64 * (c1 % 4)) + 256 * ((c1 / 4 + 64 * (c2 % 4)) + 256 * (c2 / 4 + 256 * 0)) := by omega
  have e2 : c0 + 256 * (c1 + 256 * c2) = c0 + 256 * (c1 + 256 * (c2 + 256 * 0)) := by omega
  have q : 858993459 = 51 + 256 * (51 + 256 * (51 + 256 * 51)) := by decide
  rw [e, e2, q, and_256 (a := c0) (by omega) (by omega), and_256 (a := c1) (by omega) (by omega), and_256 (a := c2) (by omega) (by omega), and_256 (a := c0 / 4 + 64 * (c1 % 4)) (by omega) (by omega), and_256 (a := c1 / 4 + 64 * (c2 % 4)) (by omega) (by omega), and_256 (a := c2 / 4) (by omega) (by omega), bc_d2 c0 h0 _ (by omega), bc_d2 c1 h1 _ (by omega), Nat.zero_and]
  unfold bc2
  omega
theorem bc_3 {c0 c1 c2 : Nat} (h0 : c0 < 69 ∧ c0 % 16 < 5) (h1 : c1 < 69 ∧ c1 % 16 < 5) (h2 : c2 < 69 ∧ c2 % 16 < 5) : ((c0 + 256 * (c1 + 256 * c2)) + (c0 + 256 * (c1 + 256 * c2)) / 16) &&& 252645135 = ((c0 + c0 / 16) &&& 15) + 256 * (((c1 + c1 / 16) &&& 15) + 256 * ((c2 + c2 / 16) &&& 15)) := by
  have e : (c0 + 256 * (c1 + 256 * c2)) + (c0 + 256 * (c1 + 256 * c2)) / 16 = (c0 + (c0 / 16 + 16 * (c1 % 16))) + 256 * ((c1 + (c1 / 16 + 16 * (c2 % 16))) + 256 * ((c2 + c2 / 16) + 256 * 0)) := by omega
  have q : 252645135 = 15 + 256 * (15 + 256 * (15 + 256 * 15)) := by decide
  rw [e, q, and_256 (by omega) (by omega), and_256 (by omega) (by omega), and_256 (by omega) (by omega), bc_d3 c0 h0.1 _ (by omega), bc_d3 c1 h1.1 _ (by omega), Nat.zero_and]
  omega
def b8 (v : Int) : Int := v % 2 + v / 2 % 2 + v / 4 % 2 + v / 8 % 2 + v / 16 % 2 + v / 32 % 2 + v / 64 % 2 + v / 128 % 2
theorem b8_n (c : Nat) : b8 (c : Int) = (pop8 c : Nat) := by
  unfold b8 pop8
  simp only [Int.natCast_add, Int.natCast_emod, Int.natCast_ediv]
  rfl
theorem b8_lo {c x : Int} (hc : 0 ≤ c ∧ c < 256) : b8 (c + 256 * x) = b8 c := by
  have e0 : (c + 256 * x) % 2 = c % 2 := by omega
  have e1 : (c + 256 * x) / 2 % 2 = c / 2 % 2 := by omega
  have e2 : (c + 256 * x) / 4 % 2 = c / 4 % 2 := by omega
  have e3 : (c + 256 * x) / 8 % 2 = c / 8 % 2 := by omega
  have e4 : (c + 256 * x) / 16 % 2 = c / 16 % 2 := by omega
  have e5 : (c + 256 * x) / 32 % 2 = c / 32 % 2 := by omega
  have e6 : (c + 256 * x) / 64 % 2 = c / 64 % 2 := by omega
  have e7 : (c + 256 * x) / 128 % 2 = c / 128 % 2 := by omega
  unfold b8
  rw [e0, e1, e2, e3, e4, e5, e6, e7]
theorem isum_n (f : Int → Int) (n : Nat) : isum f ((n + 1 : Nat) : Int) = isum f (n : Int) + f (n : Int) := by
  rw [Int.natCast_add]; exact isum_s (by omega)
theorem bits_b8 (v : Int) : bits v = b8 v + b8 (v / 256) + b8 (v / 65536) := by
  have d : ∀ a b c : Nat, (a * b = c) → v / (a : Int) / (b : Int) = v / (c : Int) := fun a b c h => by
    rw [Int.ediv_ediv_of_nonneg (Int.natCast_nonneg a), ← Int.natCast_mul, h]
  have f : ∀ k : Nat, v / 2 ^ ((k : Int)).toNat % 2 = v / ((2 ^ k : Nat) : Int) % 2 := fun k => by rw [Int.toNat_natCast, p2_nat]
  have g : bits v = v / ((2 ^ 0 : Nat) : Int) % 2 + v / ((2 ^ 1 : Nat) : Int) % 2 + v / ((2 ^ 2 : Nat) : Int) % 2 + v / ((2 ^ 3 : Nat) : Int) % 2 + v / ((2 ^ 4 : Nat) : Int) % 2 + v / ((2 ^ 5 : Nat) : Int) % 2 + v / ((2 ^ 6 : Nat) : Int) % 2 + v / ((2 ^ 7 : Nat) : Int) % 2 + v / ((2 ^ 8 : Nat) : Int) % 2 + v / ((2 ^ 9 : Nat) : Int) % 2 + v / ((2 ^ 10 : Nat) : Int) % 2 + v / ((2 ^ 11 : Nat) : Int) % 2 + v / ((2 ^ 12 : Nat) : Int) % 2 + v / ((2 ^ 13 : Nat) : Int) % 2 + v / ((2 ^ 14 : Nat) : Int) % 2 + v / ((2 ^ 15 : Nat) : Int) % 2 + v / ((2 ^ 16 : Nat) : Int) % 2 + v / ((2 ^ 17 : Nat) : Int) % 2 + v / ((2 ^ 18 : Nat) : Int) % 2 + v / ((2 ^ 19 : Nat) : Int) % 2 + v / ((2 ^ 20 : Nat) : Int) % 2 + v / ((2 ^ 21 : Nat) : Int) % 2 + v / ((2 ^ 22 : Nat) : Int) % 2 + v / ((2 ^ 23 : Nat) : Int) % 2 := by
    unfold bits
    rw [show (24 : Int) = ((24 : Nat) : Int) from rfl]
    rw [isum_n, isum_n, isum_n, isum_n, isum_n, isum_n, isum_n, isum_n, isum_n, isum_n, isum_n, isum_n, isum_n, isum_n, isum_n, isum_n, isum_n, isum_n, isum_n, isum_n, isum_n, isum_n, isum_n, isum_n]
    rw [show isum (fun k => v / 2 ^ k.toNat % 2) ((0 : Nat) : Int) = 0 from rfl, Int.zero_add]
    simp only [f]
  rw [g]
  unfold b8
  rw [show (256 : Int) = ((256 : Nat) : Int) from rfl, show (65536 : Int) = ((65536 : Nat) : Int) from rfl]
  have c2 : (2 : Int) = ((2 : Nat) : Int) := rfl
  have q1 := d 256 2 512 rfl
  have q2 := d 256 4 1024 rfl
  have q3 := d 256 8 2048 rfl
  have q4 := d 256 16 4096 rfl
  have q5 := d 256 32 8192 rfl
  have q6 := d 256 64 16384 rfl
  have q7 := d 256 128 32768 rfl
  have r1 := d 65536 2 131072 rfl
  have r2 := d 65536 4 262144 rfl
  have r3 := d 65536 8 524288 rfl
  have r4 := d 65536 16 1048576 rfl
  have r5 := d 65536 32 2097152 rfl
  have r6 := d 65536 64 4194304 rfl
  have r7 := d 65536 128 8388608 rfl
  have z : v / ((2 ^ 0 : Nat) : Int) = v := Int.ediv_one v
  rw [z]
  show _ = _ + (_ + v / ((256 : Nat) : Int) / ((2 : Nat) : Int) % 2 + v / ((256 : Nat) : Int) / ((4 : Nat) : Int) % 2 + v / ((256 : Nat) : Int) / ((8 : Nat) : Int) % 2 + v / ((256 : Nat) : Int) / ((16 : Nat) : Int) % 2 + v / ((256 : Nat) : Int) / ((32 : Nat) : Int) % 2 + v / ((256 : Nat) : Int) / ((64 : Nat) : Int) % 2 + v / ((256 : Nat) : Int) / ((128 : Nat) : Int) % 2) + (_ + v / ((65536 : Nat) : Int) / ((2 : Nat) : Int) % 2 + v / ((65536 : Nat) : Int) / ((4 : Nat) : Int) % 2 + v / ((65536 : Nat) : Int) / ((8 : Nat) : Int) % 2 + v / ((65536 : Nat) : Int) / ((16 : Nat) : Int) % 2 + v / ((65536 : Nat) : Int) / ((32 : Nat) : Int) % 2 + v / ((65536 : Nat) : Int) / ((64 : Nat) : Int) % 2 + v / ((65536 : Nat) : Int) / ((128 : Nat) : Int) % 2)
  rw [q1, q2, q3, q4, q5, q6, q7, r1, r2, r3, r4, r5, r6, r7]
  simp only [Int.add_assoc]
  rfl
theorem bc_4 {c d e p0 p1 p2 : Int} (h0 : 0 ≤ p0 ∧ p0 ≤ 8) (h1 : 0 ≤ p1 ∧ p1 ≤ 8) (h2 : 0 ≤ p2 ∧ p2 ≤ 8) (hc : c = p0 + 256 * (p1 + 256 * p2)) (hd : d = c + c / 256) (he : e = d + d / 65536) : (0 ≤ c ∧ c < 16777216) ∧ (0 ≤ d ∧ d < 33554432) ∧ (0 ≤ e ∧ e < 67108864) ∧ e % 64 = p0 + p1 + p2 := by
  have q1 : c / 256 = p1 + 256 * p2 := by omega
  have q2 : d = (p0 + p1) + 256 * (p1 + p2) + 65536 * p2 := by omega
  have q3 : d / 65536 = p2 := by omega
  have q4 : e = (p0 + p1 + p2) + 256 * (p1 + p2) + 65536 * p2 := by omega
  clear hd he hc
  omega
/-- the JDK's way to count bits -/
theorem bc_all {v a b c d e : Int} (hv : 0 ≤ v ∧ v < 16777216) (ha : a = v - nd (v / 2) 1431655765) (hb : b = nd a 858993459 + nd (a / 4) 858993459) (hc : c = nd (b + b / 16) 252645135) (hd : d = c + c / 256) (he : e = d + d / 65536) : (0 ≤ a ∧ a < 16777216) ∧ (0 ≤ b ∧ b < 16777216) ∧ (0 ≤ c ∧ c < 16777216) ∧ (0 ≤ d ∧ d < 33554432) ∧ (0 ≤ e ∧ e < 67108864) ∧ e % 64 = bits v := by
  obtain ⟨n, rfl⟩ := Int.eq_ofNat_of_zero_le hv.1
  obtain ⟨c0, c1, c2, hn, h0, h1, h2⟩ : ∃ c0 c1 c2 : Nat, n = c0 + 256 * (c1 + 256 * c2) ∧ c0 < 256 ∧ c1 < 256 ∧ c2 < 256 := ⟨n % 256, n / 256 % 256, n / 65536, by omega, by omega, by omega, by omega⟩
  have k0 := bc_d4 c0 h0
  have k1 := bc_d4 c1 h1
  have k2 := bc_d4 c2 h2
  have ea : a = ((bc1 c0 + 256 * (bc1 c1 + 256 * bc1 c2) : Nat) : Int) := by
    rw [← bc_1 h0 h1 h2, ← hn, ha]
    unfold nd
    rw [show ((n : Int) / 2).toNat = n / 2 by omega, show (1431655765 : Int).toNat = 1431655765 from rfl]
    have : (n / 2) &&& 1431655765 ≤ n / 2 := Nat.and_le_left
    omega
  have eb : b = ((bc2 (bc1 c0) + 256 * (bc2 (bc1 c1) + 256 * bc2 (bc1 c2)) : Nat) : Int) := by
    rw [← bc_2 k0.2.1 k1.2.1 k2.2.1, hb, ea]
    generalize bc1 c0 + 256 * (bc1 c1 + 256 * bc1 c2) = z
    unfold nd
    rw [show ((z : Int) / 4).toNat = z / 4 by omega, show (858993459 : Int).toNat = 858993459 from rfl, Int.toNat_natCast, Int.natCast_add]
  have ec := bc_3 ⟨k0.2.2.1, k0.2.2.2.1⟩ ⟨k1.2.2.1, k1.2.2.2.1⟩ ⟨k2.2.2.1, k2.2.2.2.1⟩
  rw [k0.2.2.2.2.1, k1.2.2.2.2.1, k2.2.2.2.2.1] at ec
  have ec2 : c = (((bc2 (bc1 c0) + 256 * (bc2 (bc1 c1) + 256 * bc2 (bc1 c2))) + (bc2 (bc1 c0) + 256 * (bc2 (bc1 c1) + 256 * bc2 (bc1 c2))) / 16) &&& 252645135 : Nat) := by
    rw [hc, eb]
    generalize bc2 (bc1 c0) + 256 * (bc2 (bc1 c1) + 256 * bc2 (bc1 c2)) = z
    unfold nd
    rw [show ((z : Int) + (z : Int) / 16).toNat = z + z / 16 by omega, show (252645135 : Int).toNat = 252645135 from rfl]
  rw [ec] at ec2
  have la := k0.2.1
  have lb := k1.2.1
  have lc := k2.2.1
  have ma := k0.2.2.1
  have mb := k1.2.2.1
  have mc := k2.2.2.1
  have p0 := k0.2.2.2.2.2
  have p1 := k1.2.2.2.2.2
  have p2 := k2.2.2.2.2.2
  have ebits : bits (n : Int) = ((pop8 c0 : Nat) : Int) + ((pop8 c1 : Nat) : Int) + ((pop8 c2 : Nat) : Int) := by
    rw [bits_b8, ← b8_n, ← b8_n, ← b8_n, show (n : Int) / 256 = (c1 : Int) + 256 * (c2 : Int) by omega, show (n : Int) / 65536 = (c2 : Int) by omega, b8_lo (by omega), show (n : Int) = (c0 : Int) + 256 * ((c1 : Int) + 256 * (c2 : Int)) by omega, b8_lo (by omega)]
  clear k0 k1 k2 ha hb hc ec
  generalize pop8 c0 = x0 at *
  generalize pop8 c1 = x1 at *
  generalize pop8 c2 = x2 at *
  generalize bc1 c0 = y0 at *
  generalize bc1 c1 = y1 at *
  generalize bc1 c2 = y2 at *
  generalize bc2 y0 = z0 at *
  generalize bc2 y1 = z1 at *
  generalize bc2 y2 = z2 at *
  have r := bc_4 (p0 := (x0 : Int)) (p1 := (x1 : Int)) (p2 := (x2 : Int)) (by omega) (by omega) (by omega) (show c = _ by rw [ec2]; omega) hd he
  exact ⟨⟨by omega, by omega⟩, ⟨by omega, by omega⟩, r.1, r.2.1, r.2.2.1, r.2.2.2.trans ebits.symm⟩
theorem isum_fup {f : Int → Int} {a v n : Int} (h0 : 0 ≤ a) (hn : a < n) : isum (fup f a v) n = isum f n - f a + v := by
  refine int_ind (P := fun m => m ≤ n → isum (fup f a v) m = (if a < m then isum f m - f a + v else isum f m)) (show 0 ≤ n by omega) (fun _ => by rw [if_neg (by omega)]; rfl) (fun m h1 h2 ih _ => ?_) (Int.le_refl _) |>.trans (if_pos hn)
  rw [isum_s h1, isum_s h1, ih (by omega)]
  by_cases q : m = a
  · rw [q, fup_s, if_neg (by omega), if_pos (by omega)]; omega
  · rw [fup_n _ _ q]
    by_cases z : a < m
    · rw [if_pos z, if_pos (by omega)]; omega
    · rw [if_neg z, if_neg (by omega)]
/-! signs laid until none changes -/
def LSo (n : Int) (ft : Int → Int) (w : Int) (s : Int → Int) : Prop := ∀ f : Int, 0 ≤ f → f < n → 0 ≤ s f ∧ s f ≤ f ∧ Conn n ft w f (s f)
def LSq (ft : Int → Int) (w : Int) (s : Int → Int) (n a b : Int) : Prop := ∀ x y : Int, 0 ≤ x → 0 ≤ y → y < n → (x < a ∨ x = a ∧ y < b) → ¬ (s y < s x ∧ Near ft w x y)
theorem LSo.id {n : Int} {ft : Int → Int} {w : Int} {s : Int → Int} (h : ∀ j : Int, 0 ≤ j → j < n → s j = j) : LSo n ft w s := fun f a b => by rw [h f a b]; exact ⟨a, Int.le_refl _, Conn.rf⟩
theorem LSo.st {n : Int} {ft : Int → Int} {w : Int} {s : Int → Int} {a b : Int} (h : LSo n ft w s) (ha : 0 ≤ a ∧ a < n) (hb : 0 ≤ b ∧ b < n) (hl : s b < s a) (hn : Near ft w a b) : LSo n ft w (fup s a (s b)) := by
  intro f h1 h2
  by_cases q : f = a
  · rw [q, fup_s]
    have x := h b hb.1 hb.2
    have y := h a ha.1 ha.2
    exact ⟨x.1, by omega, (Conn.one ha hb hn).tr x.2.2⟩
  · rw [fup_n _ _ q]; exact h f h1 h2
theorem LSo.ok {n : Int} {ft : Int → Int} {w : Int} {s : Int → Int} (h : LSo n ft w s) (hq : LSq ft w s n n 0) : SgOK n ft w s := by
  refine ⟨h, fun a b h1 h2 h3 h4 hn => ?_⟩
  have x := hq a b h1 h3 h4 (Or.inl h2)
  have y := hq b a h3 h1 h2 (Or.inl h4)
  rcases Int.lt_trichotomy (s a) (s b) with z | z | z
  · exact absurd ⟨z, hn.symm⟩ y
  · exact z
  · exact absurd ⟨z, hn⟩ x
theorem LSq.zero {ft : Int → Int} {w : Int} {s : Int → Int} {n : Int} : LSq ft w s n 0 0 := fun x y h1 h2 _ h4 => absurd h4 (by omega)
theorem LSq.go {ft : Int → Int} {w : Int} {s : Int → Int} {n a b : Int} (h : LSq ft w s n a b) (hp : ¬ (s b < s a ∧ Near ft w a b)) : LSq ft w s n a (b + 1) := by
  intro x y h1 h2 h3 h4
  by_cases q : x = a ∧ y = b
  · rw [q.1, q.2]; exact hp
  · exact h x y h1 h2 h3 (by omega)
theorem LSq.row {ft : Int → Int} {w : Int} {s : Int → Int} {n a b : Int} (h : LSq ft w s n a b) (hb : n ≤ b) : LSq ft w s n (a + 1) 0 := fun x y h1 h2 h3 h4 => h x y h1 h2 h3 (by omega)
theorem LSo.sum {n : Int} {ft : Int → Int} {w : Int} {s : Int → Int} (h : LSo n ft w s) (hn : 0 ≤ n) : 0 ≤ isum s n := by
  refine int_ind (P := fun m => m ≤ n → 0 ≤ isum s m) hn (fun _ => Int.le_refl _) (fun m h1 h2 ih _ => ?_) (Int.le_refl _)
  rw [isum_s h1]
  have := ih (by omega)
  have := (h m h1 h2).1
  omega
theorem bst_x {n : Int} {s : Int → Int} {k b : Int} {P : Prop} (hP : P ↔ s k = k) : sel P (sel (b = -4) k (sel (sz_of n s b < sz_of n s k) k b)) b = sel (s k = k ∧ (b = -4 ∨ sz_of n s b < sz_of n s k)) k b := by
  by_cases p : P
  · rw [sel_t p]
    by_cases q : b = -4
    · rw [sel_t q, sel_t ⟨hP.1 p, Or.inl q⟩]
    · rw [sel_f q]
      by_cases z : sz_of n s b < sz_of n s k
      · rw [sel_t z, sel_t ⟨hP.1 p, Or.inr z⟩]
      · rw [sel_f z, sel_f (fun y => y.2.elim q z)]
  · rw [sel_f p, sel_f (fun y => p (hP.2 y.1))]
theorem bst_r {n : Int} {s : Int → Int} {k : Int} (h : 0 ≤ k) : bst n s k = -4 ∨ (0 ≤ bst n s k ∧ bst n s k < k) := by
  refine int_ind (P := fun m => bst n s m = -4 ∨ (0 ≤ bst n s m ∧ bst n s m < m)) h (Or.inl rfl) (fun m h1 _ ih => ?_)
  rw [bst_s h1]
  by_cases q : s m = m ∧ (bst n s m = -4 ∨ sz_of n s (bst n s m) < sz_of n s m)
  · rw [sel_t q]; omega
  · rw [sel_f q]; omega
theorem Uni0 {n : Int} {ft : Int → Int} {w : Int} (h : n ≤ 0) : Uni n ft w := ⟨fun f => f, ⟨fun f a b => absurd a (by omega), fun a b h1 h2 => absurd h1 (by omega)⟩, by unfold sgn_many; rw [isum_neg h]; omega⟩
theorem whole_i {tc : Int → Int → Int} {tl : Int → Int} {t i : Int} (hr : ∀ j, -2 ≤ tc t j) (hi : i < tl t) : (i < sel (wb tc t i) (we tc tl t i) i ∧ ∀ j : Int, i ≤ j → j < sel (wb tc t i) (we tc tl t i) i → ¬ tc t j < 0) ↔ wh tc tl t i := by
  by_cases q : wb tc t i
  · rw [sel_t q]
    constructor
    · intro h; exact ⟨q, fun j a b => by have := h.2 j a b; omega⟩
    · intro h
      refine ⟨wb_lt q hi, fun j a b => ?_⟩
      have x := h.2 j a b
      have y := (we_E (tc := tc) (tl := tl) (t := t) (i := i) (by omega)).2.2.1 j a b
      have z := hr j
      omega
  · rw [sel_f q]; exact ⟨fun h => absurd h.1 (by omega), fun h => absurd h.1 q⟩
theorem word_i {tc : Int → Int → Int} {tl : Int → Int} {t i : Int} (hi : i < tl t) : i < sel (wb tc t i) (we tc tl t i) i ↔ wb tc t i := by
  by_cases q : wb tc t i
  · rw [sel_t q]; exact ⟨fun _ => q, fun _ => wb_lt q hi⟩
  · rw [sel_f q]; exact ⟨fun h => absurd h (by omega), fun h => absurd h q⟩
theorem IsMx.yes {S S' : Int → Prop} {m x : Int} (h : IsMx S m) (hS : ∀ v, S' v ↔ (S v ∨ v = x)) (hx : 0 ≤ x) : IsMx S' (sel (m < x) x m) := by
  have := h.st (S' := S') (c := True) (x := x) (fun v => by rw [hS v]; exact or_congr Iff.rfl ⟨fun q => ⟨trivial, q⟩, fun q => q.2⟩) (fun _ => hx)
  rwa [sel_c (show (True ∧ m < x) ↔ m < x from ⟨fun q => q.2, fun q => ⟨trivial, q⟩⟩)] at this
/-- a part of a row is one number all over -/
def ffill (m : Int → Int) (lo n v : Int) : Int → Int := fun x => if lo ≤ x ∧ x < lo + n then v else m x
theorem ffill_0 (m : Int → Int) (lo v : Int) : ffill m lo 0 v = m := funext fun x => if_neg (by omega)
theorem ffill_s (m : Int → Int) (lo v : Int) {j : Int} (h : 0 ≤ j) : fup (ffill m lo j v) (lo + j) v = ffill m lo (j + 1) v := by
  funext x
  unfold ffill
  by_cases q : x = lo + j
  · rw [q, fup_s, if_pos (by omega)]
  · rw [fup_n _ _ q]
    by_cases z : lo ≤ x ∧ x < lo + j
    · rw [if_pos z, if_pos (by omega)]
    · rw [if_neg z, if_neg (by omega)]
theorem ffill_in {m : Int → Int} {lo n v x : Int} (h : lo ≤ x ∧ x < lo + n) : ffill m lo n v x = v := if_pos h
theorem ffill_out {m : Int → Int} {lo n v x : Int} (h : ¬ (lo ≤ x ∧ x < lo + n)) : ffill m lo n v x = m x := if_neg h
theorem gc_01 : gc 0 1 = 1 := by decide
theorem chn_x {al up dn u d w x : Int} (hu : u = sel (al < 2) 0 up) (hd : d = sel (al < 2) 1 dn) (hw : 0 ≤ w ∧ w ≤ 1) (hx : (w = 0 ∧ x = u / gc u d) ∨ (¬ w = 0 ∧ x = d / gc u d)) : x = sel (al < 2) w (chn up dn w) := by
  by_cases q : al < 2
  · rw [sel_t q] at hu hd ⊢
    rw [hu, hd, gc_01] at hx
    rcases hx with ⟨a, b⟩ | ⟨a, b⟩
    · rw [b, a]; decide
    · rw [b, show w = 1 by omega]; decide
  · rw [sel_f q] at hu hd ⊢
    rw [hu, hd] at hx
    unfold chn
    rcases hx with ⟨a, b⟩ | ⟨a, b⟩
    · rw [if_pos a]; exact b
    · rw [if_neg a]; exact b
section EDG
variable {sg : Int → Int} {tc : Int → Int → Int} {tl : Int → Int} {last : Prop} {m : Int → Int} {t i s : Int}
def EdgA (sg : Int → Int) (tc : Int → Int → Int) (tl : Int → Int) (last : Prop) (m : Int → Int) (t i : Int) : Prop := ∀ k : Int, 0 ≤ k → k < 24 → m k = PS (wb tc) (fun a b => bI (wh tc tl a b ∧ sa sg (tc a (ec tc tl last a b)) = k)) tl t i
theorem EdgA.zero (h : ∀ k : Int, 0 ≤ k → k < 24 → m k = 0) : EdgA sg tc tl last m 0 0 := fun k a b => by rw [h k a b]; rfl
theorem EdgA.yes (h : EdgA sg tc tl last m t i) (hi : 0 ≤ i) (hw : wh tc tl t i) (hs : s = sa sg (tc t (ec tc tl last t i))) (hr : 0 ≤ s ∧ s < 24) : EdgA sg tc tl last (fup m s (m s + 1)) t (i + 1) := by
  intro k a b
  rw [PS_s hi, sel_t hw.1]
  by_cases e : k = s
  · rw [e, fup_s, h s hr.1 hr.2, bI_t ⟨hw, hs.symm⟩]
  · rw [fup_n _ _ e, h k a b, bI_f (fun z => e (by rw [hs]; exact z.2.symm)), Int.add_zero]
theorem EdgA.no (h : EdgA sg tc tl last m t i) (hi : 0 ≤ i) (hw : ¬ wh tc tl t i) : EdgA sg tc tl last m t (i + 1) := by
  intro k a b
  rw [PS_s hi, h k a b]
  have z : sel (wb tc t i) (bI (wh tc tl t i ∧ sa sg (tc t (ec tc tl last t i)) = k)) 0 = 0 := sel_by (fun _ => bI_f (fun y => hw y.1)) (fun _ => rfl)
  rw [z, Int.add_zero]
theorem EdgA.row (h : EdgA sg tc tl last m t i) (ht : 0 ≤ t) (hi : i = tl t) : EdgA sg tc tl last m (t + 1) 0 := by
  intro k a b
  rw [PS_t ht, ← hi]
  exact h k a b
theorem EdgA.fin (h : EdgA sg tc tl last m t 0) : ∀ k : Int, 0 ≤ k → k < 24 → m k = edgeS sg tc tl t last k := h
theorem ec_F : ec tc tl False t i = i := by unfold ec; rw [sel_f id, Int.add_zero]
theorem ec_T : ec tc tl True t i = we tc tl t i - 1 := by unfold ec; rw [sel_t trivial]; omega
end EDG
theorem cmp_x {b e : Int} : (if e < b then (-1 : Int) else if e = b then 0 else 1) = (if b < e then 1 else if e < b then -1 else 0) := by
  by_cases q : e < b
  · rw [if_pos q, if_neg (by omega), if_pos q]
  · rw [if_neg q]
    by_cases z : e = b
    · rw [if_pos z, if_neg (by omega), if_neg q]
    · rw [if_neg z, if_pos (by omega)]
theorem mx_r {x y : Int} : (x ≤ sel (x < y) y x ∧ y ≤ sel (x < y) y x) ∧ (sel (x < y) y x = x ∨ sel (x < y) y x = y) := by
  by_cases q : x < y
  · rw [sel_t q]; omega
  · rw [sel_f q]; omega
