set_option maxRecDepth 100000
/-! ROWS: longs shifted and masked, ints cut to bytes and shorts; bits of numbers -/
theorem zl_sh6 : ∀ n, n < 64 → (((nI n).toInt64 &&& 63).toBitVec.smod 64).toNat = n := by decide +kernel
theorem zl_shr {a k : Int} (hk : 0 ≤ k ∧ k < 64) (ha : -9223372036854775808 ≤ a ∧ a < 9223372036854775808) : zl a >>> ((zi k).toInt64 &&& 63) = zl (a / 2 ^ k.toNat) := by
  rw [← zl_of (zl a >>> ((zi k).toInt64 &&& 63)), zi_nn hk.1]
  congr 1
  show ((zl a).toBitVec.sshiftRight (((nI k.toNat).toInt64 &&& 63).toBitVec.smod 64).toNat).toInt = _
  rw [zl_sh6 _ (by omega), BitVec.toInt_sshiftRight]
  show (zl a).toInt >>> k.toNat = _
  rw [zl_t ha, Int.shiftRight_eq_div_pow]
  congr 1
theorem zl_and255 (a : Int) : zl a &&& zl 255 = zl (a % 256) := by
  apply Int64.toBitVec_inj.1
  apply BitVec.eq_of_toNat_eq
  rw [Int64.toBitVec_and, BitVec.toNat_and]
  show (BitVec.ofInt 64 a).toNat &&& (2 ^ 8 - 1) = (BitVec.ofInt 64 (a % 256)).toNat
  rw [Nat.and_two_pow_sub_one_eq_mod, BitVec.toNat_ofInt, BitVec.toNat_ofInt]
  omega
def sb (v : Int) : Int := (v + 128) % 256 - 128
def ss (v : Int) : Int := (v + 32768) % 65536 - 32768
theorem sb_r (v : Int) : -128 ≤ sb v ∧ sb v ≤ 127 := by unfold sb; omega
theorem ss_r (v : Int) : -32768 ≤ ss v ∧ ss v ≤ 32767 := by unfold ss; omega
theorem zi_b (v : Int) : (zi v).toInt8.toInt32 = zi (sb v) := by
  apply Int32.toInt_inj.1
  rw [zi_t (by have := sb_r v; omega), Int8.toInt_toInt32, Int32.toInt_toInt8]
  have h : (zi v).toInt = Int.bmod v (2 ^ 32) := Int32.toInt_ofInt
  rw [h]
  unfold sb
  simp only [Int.bmod_def]
  omega
theorem zi_s (v : Int) : (zi v).toInt16.toInt32 = zi (ss v) := by
  apply Int32.toInt_inj.1
  rw [zi_t (by have := ss_r v; omega), Int16.toInt_toInt32, Int32.toInt_toInt16]
  have h : (zi v).toInt = Int.bmod v (2 ^ 32) := Int32.toInt_ofInt
  rw [h]
  unfold ss
  simp only [Int.bmod_def]
  omega
theorem zi_us5 : ∀ n, n < 32 → (((nI n).toUInt32 &&& Int32.toUInt32 31).toBitVec % 32).toNat = n := by decide +kernel
theorem p2_nat (n : Nat) : ((2 ^ n : Nat) : Int) = 2 ^ n := by rw [Int.natCast_pow]; rfl
section ROWS2
variable {p : Program} {l : Launch} {e : Env} {R : Room} {s : State} {m : MethodId} {args : Array Value} {below : List Frame} {meth : Method} {c : Code} {H : Heap} {locs : List Loc} {cells slots : Nat} {Q : State → Prop}
variable {A : Nat → Prop} {own : String} {cc : ByteArray} {nL : Nat} {rt : Option FieldType} {E : us_E} {pc : Nat} {ls : Array Slot} {rest : List Value}
theorem r_lshr (C : Cx p s m args meth c A own cc nL rt E) {a k v : Int} (hk : 0 ≤ k ∧ k < 64) (ha : -9223372036854775808 ≤ a ∧ a < 9223372036854775808) (hv : a / 2 ^ k.toNat = v) (hdg : decode cc pc = .ok (.lshr, 1)) (kk : W p l e R s m args below meth c H locs cells slots Q (F0 m (pc + 1) ls (.long (zl v) :: rest))) : W p l e R s m args below meth c H locs cells slots Q (F0 m pc ls (.int (zi k) :: .long (zl a) :: rest)) :=
  lv_lshr C.x C.b hdg (by rw [zl_shr hk ha, hv]) kk
theorem r_land (C : Cx p s m args meth c A own cc nL rt E) {a b v : Int} (hv : zl a &&& zl b = zl v) (hdg : decode cc pc = .ok (.land, 1)) (kk : W p l e R s m args below meth c H locs cells slots Q (F0 m (pc + 1) ls (.long (zl v) :: rest))) : W p l e R s m args below meth c H locs cells slots Q (F0 m pc ls (.long (zl b) :: .long (zl a) :: rest)) :=
  lv_land C.x C.b hdg (by rw [hv]; exact kk)
theorem r_i2b (C : Cx p s m args meth c A own cc nL rt E) {a : Int} (hdg : decode cc pc = .ok (.i2b, 1)) (kk : W p l e R s m args below meth c H locs cells slots Q (F0 m (pc + 1) ls (.int (zi (sb a)) :: rest))) : W p l e R s m args below meth c H locs cells slots Q (F0 m pc ls (.int (zi a) :: rest)) :=
  lv_i2b C.x C.b hdg (zi_b a) kk
theorem r_i2s (C : Cx p s m args meth c A own cc nL rt E) {a : Int} (hdg : decode cc pc = .ok (.i2s, 1)) (kk : W p l e R s m args below meth c H locs cells slots Q (F0 m (pc + 1) ls (.int (zi (ss a)) :: rest))) : W p l e R s m args below meth c H locs cells slots Q (F0 m pc ls (.int (zi a) :: rest)) :=
  lv_i2s C.x C.b hdg (zi_s a) kk
theorem r_iushr (C : Cx p s m args meth c A own cc nL rt E) {a v : Int} {k : Nat} (hk : k < 32) (ha : 0 ≤ a ∧ a < 2147483648) (hv : a / 2 ^ k = v) (hdg : decode cc pc = .ok (.iushr, 1)) (kk : W p l e R s m args below meth c H locs cells slots Q (F0 m (pc + 1) ls (.int (zi v) :: rest))) : W p l e R s m args below meth c H locs cells slots Q (F0 m pc ls (.int (zi (k : Int)) :: .int (zi a) :: rest)) :=
  lv_iushr C.x C.b hdg (by rw [zi_n, zi_nn ha.1, pk_ushrN (by omega) _ k (zi_us5 _ hk), ← zi_n, ← hv, Int.natCast_ediv, Int.toNat_of_nonneg ha.1, p2_nat]) kk
end ROWS2
/-! bits -/
def Bt (v b : Int) : Prop := v / 2 ^ b.toNat % 2 = 1
theorem Bt_i {v b : Int} (hv : 0 ≤ v) : Bt v b ↔ v.toNat.testBit b.toNat = true := by
  obtain ⟨v, rfl⟩ := Int.eq_ofNat_of_zero_le hv
  unfold Bt
  rw [Int.toNat_natCast, Nat.testBit_eq_decide_div_mod_eq, decide_eq_true_iff, ← p2_nat]
  constructor
  · intro h
    have : ((v / 2 ^ b.toNat % 2 : Nat) : Int) = 1 := by rw [Int.natCast_emod, Int.natCast_ediv]; exact h
    omega
  · intro h
    have : ((v / 2 ^ b.toNat % 2 : Nat) : Int) = 1 := by rw [h]; rfl
    rw [Int.natCast_emod, Int.natCast_ediv] at this
    exact this
theorem Bt_01 (v b : Int) : v / 2 ^ b.toNat % 2 = 0 ↔ ¬ Bt v b := by unfold Bt; omega
theorem oo_nn (v w : Int) : 0 ≤ oo v w := by unfold oo; omega
theorem Bt_oo {v w b : Int} (hv : 0 ≤ v) (hw : 0 ≤ w) : Bt (oo v w) b ↔ (Bt v b ∨ Bt w b) := by
  rw [Bt_i (oo_nn v w), Bt_i hv, Bt_i hw]
  unfold oo
  rw [Int.toNat_natCast, Nat.testBit_or, Bool.or_eq_true]
theorem Bt_one {i b : Int} (hi : 0 ≤ i) (hb : 0 ≤ b) : Bt (1 * 2 ^ i.toNat) b ↔ b = i := by
  have e : (1 : Int) * 2 ^ i.toNat = ((2 ^ i.toNat : Nat) : Int) := by rw [p2_nat, Int.one_mul]
  rw [e, Bt_i (by first | exact Int.natCast_nonneg _ | exact Int.ofNat_nonneg _), Int.toNat_natCast, Nat.testBit_two_pow, decide_eq_true_iff]
  omega
theorem Bt_z (b : Int) : ¬ Bt 0 b := by unfold Bt; rw [Int.zero_ediv]; omega
theorem nd_z {v w : Int} (hv : 0 ≤ v) (hw : 0 ≤ w) : ¬ nd v w = 0 ↔ ∃ b : Int, 0 ≤ b ∧ Bt v b ∧ Bt w b := by
  unfold nd
  constructor
  · intro h
    obtain ⟨i, hi⟩ := Nat.exists_testBit_of_ne_zero (x := v.toNat &&& w.toNat) (by omega)
    rw [Nat.testBit_and, Bool.and_eq_true] at hi
    refine ⟨(i : Int), by omega, ?_, ?_⟩
    · rw [Bt_i hv, Int.toNat_natCast]; exact hi.1
    · rw [Bt_i hw, Int.toNat_natCast]; exact hi.2
  · rintro ⟨b, hb, h1, h2⟩ h
    rw [Bt_i hv] at h1
    rw [Bt_i hw] at h2
    have z : (v.toNat &&& w.toNat).testBit b.toNat = true := by rw [Nat.testBit_and, h1, h2]; rfl
    rw [show v.toNat &&& w.toNat = 0 by omega, Nat.zero_testBit] at z
    cases z
theorem oo_20 {v w : Int} (hv : 0 ≤ v ∧ v < 1048576) (hw : 0 ≤ w ∧ w < 1048576) : 0 ≤ oo v w ∧ oo v w < 1048576 := by
  have := Nat.or_lt_two_pow (x := v.toNat) (y := w.toNat) (n := 20) (by omega) (by omega)
  unfold oo
  omega
/-- no bits at or above those of a small number -/
theorem Bt_lt {v b n : Int} (hv : 0 ≤ v) (h : v < 2 ^ n.toNat) (hb : n ≤ b) : ¬ Bt v b := by
  unfold Bt
  have e : (2 : Int) ^ n.toNat ≤ 2 ^ b.toNat := by
    rw [← p2_nat, ← p2_nat]
    have := Nat.pow_le_pow_right (n := 2) (by omega) (show n.toNat ≤ b.toNat by omega)
    omega
  rw [Int.ediv_eq_zero_of_lt hv (by omega)]
  omega
theorem Bt_20 {v b : Int} (hv : 0 ≤ v ∧ v < 1048576) (hb : 20 ≤ b) : ¬ Bt v b := Bt_lt (n := 20) hv.1 hv.2 hb
