set_option maxRecDepth 100000

theorem nar_b {v : Int} (h : -128 ≤ v ∧ v ≤ 127) : narrow .byte (.int (zi v)) = .int (zi v) := by
  have key : ∀ n : Fin 256, narrow .byte (.int (zi ((n.val : Int) - 128))) = .int (zi ((n.val : Int) - 128)) := by decide +kernel
  have := key ⟨(v + 128).toNat, by omega⟩
  have e : (((v + 128).toNat : Nat) : Int) - 128 = v := by omega
  rw [show ((⟨(v + 128).toNat, by omega⟩ : Fin 256).val : Int) - 128 = v from e] at this
  exact this

theorem hd_X0_drop : yX0_drop.cls = RX0 ∧ yX0_drop.cls ≠ "java/lang/invoke/MethodHandle" ∧ yX0_drop.cls ≠ "java/lang/invoke/VarHandle" ∧ (parseMethodDescriptor yX0_drop.desc).map (fun d => d.parameters.length) = some 0 := by decide +kernel
abbrev rm_X0_drop : Room := { frames := 0, cells := 0, slots := 0, locals := 0 }
set_option maxHeartbeats 8000000 in
theorem met_X0_drop (l : Launch) (E : us_E) (A : Nat → Prop) (B : Nat → Int → Nat) (F : Nat → Int) (M : Nat → Int → Int) (G : Nat → Int → Option Nat) (T : x_T) : cMet l yX0_drop cX0_drop 1 (some .int) rm_X0_drop A E [.ref (B 49 0)] (fun H => XH E A B F M G T H) (qi A (fun r H => ∃ f6 : Int, (f6 = sel (F 6 = 0) (F 6) (F 6 - 1)) ∧ (r = sel (F 6 = 0) (-4) (F 6 - 1)) ∧ XH E A B (va_up F 6 f6) M G T H)) := by
  refine cMet.of (by decide) (Nat.le_of_ble_eq_true rfl) (fun p e s m args below meth c C hnm hX hS ls hl => ?_)
  have C : Cx p s m args meth c A RX0 cX0_drop 1 (some .int) E := C
  have hX : XH E A B F M G T s.heap := hX
  have hl : lv_has ls 1 [(0, .ref (B 49 0))] := hl
  generalize hH : s.heap = H at hX
  have hS : va_S A s.heap H [] := by rw [← hH]; exact hS
  generalize hlocs : ([] : List Loc) = locs at hS ⊢
  obtain ⟨QQ, hQQ⟩ : ∃ zQQ, MQ below (qi A (fun r H => ∃ f6 : Int, (f6 = sel (F 6 = 0) (F 6) (F 6 - 1)) ∧ (r = sel (F 6 = 0) (-4) (F 6 - 1)) ∧ XH E A B (va_up F 6 f6) M G T H)) args s (rm_X0_drop).cells (rm_X0_drop).slots A = zQQ := ⟨_, rfl⟩
  rw [hQQ]
  have rF6 : 0 ≤ F 6 ∧ F 6 ≤ 8 := hX.2.1 6 (0, 8) rfl
  refine lv_aload_n C.x C.b dX0_drop_0 rfl (lv_at hl 0 rfl) ?_
  refine x_gi C hX 6 (by decide) rfl q742 (fun _ h => h) (F 6) rfl (b := (0, 8)) rfl dX0_drop_1 (fun _ => ?_)
  refine r_if_ne (tgt := 10) C (by omega) dX0_drop_4 (by decide) (fun c_1 => ?_) (fun c_1 => ?_)
  · refine lv_aload_n C.x C.b dX0_drop_10 rfl (lv_at hl 0 rfl) ?_
    refine lv_dup C.x C.b dX0_drop_11 rfl ?_
    refine x_gi C hX 6 (by decide) rfl q742 (fun _ h => h) (F 6) rfl (b := (0, 8)) rfl dX0_drop_12 (fun _ => ?_)
    refine r_const C dX0_drop_15 ?_
    refine r_isub C dX0_drop_16 ?_
    refine x_pdec C hX hS 6 (by decide) rfl rfl rfl q742 (fun _ h => h) (b := (0, 8)) rfl (show 0 ≤ (F 6) - 1 ∧ (F 6) - 1 ≤ 8 from (by omega)) (show (F 6) - 1 ≤ F 6 from (by omega)) (F' := (va_up F 6 ((F 6) - 1))) rfl dX0_drop_17 (fun H locs hX hS => ?_)
    refine lv_aload_n C.x C.b dX0_drop_20 rfl (lv_at hl 0 rfl) ?_
    refine x_gi C hX 6 (by decide) rfl q742 (fun _ h => h) ((F 6) - 1) rfl (b := (0, 8)) rfl dX0_drop_21 (fun r21 => ?_)
    have r21 : 0 ≤ (F 6) - 1 ∧ (F 6) - 1 ≤ 8 := r21
    rw [← hQQ]
    exact r_iret C hS (Nat.le_of_ble_eq_true rfl) (Nat.le_of_ble_eq_true rfl) dX0_drop_24 ⟨((F 6) - 1), (by first | rfl | assumption | exact (sel_t (by omega)).symm | exact (sel_f (by omega)).symm | omega), (by first | rfl | exact (sel_t (by omega)).symm | exact (sel_f (by omega)).symm | omega), hX⟩
  · refine r_bipush C (by decide) dX0_drop_7 ?_
    rw [← hQQ]
    exact r_iret C hS (Nat.le_of_ble_eq_true rfl) (Nat.le_of_ble_eq_true rfl) dX0_drop_9 ⟨(F 6), (by first | rfl | assumption | exact (sel_t (by omega)).symm | exact (sel_f (by omega)).symm | omega), (by first | rfl | exact (sel_t (by omega)).symm | exact (sel_f (by omega)).symm | omega), (hX.to rfl ((up_id F (k := 6) (a := (F 6)) rfl).symm.trans rfl) rfl rfl rfl)⟩

theorem hd_X0_areTexts : yX0_areTexts.cls = RX0 ∧ yX0_areTexts.cls ≠ "java/lang/invoke/MethodHandle" ∧ yX0_areTexts.cls ≠ "java/lang/invoke/VarHandle" ∧ (parseMethodDescriptor yX0_areTexts.desc).map (fun d => d.parameters.length) = some 1 := by decide +kernel
abbrev rm_X0_areTexts : Room := { frames := 1, cells := 0, slots := 0, locals := 25 }
set_option maxHeartbeats 8000000 in
theorem met_X0_areTexts (l : Launch) (E : us_E) (A : Nat → Prop) (B : Nat → Int → Nat) (F : Nat → Int) (M : Nat → Int → Int) (G : Nat → Int → Option Nat) (T : x_T) (v : Int) (hv : -2147483648 ≤ v ∧ v < 2147483648) : cMet l yX0_areTexts cX0_areTexts 2 (some .boolean) rm_X0_areTexts A E [.ref (B 49 0), .int (zi v)] (fun H => XH E A B F M G T H) (qi A (fun r H => (r = bI (0 ≤ v ∧ v ≤ 1 * 2 ^ (F 6).toNat - 1)) ∧ XH E A B F M G T H)) := by
  refine cMet.of (by decide) (Nat.le_of_ble_eq_true rfl) (fun p e s m args below meth c C hnm hX hS ls hl => ?_)
  have C : Cx p s m args meth c A RX0 cX0_areTexts 2 (some .boolean) E := C
  have hX : XH E A B F M G T s.heap := hX
  have hl : lv_has ls 2 [(0, .ref (B 49 0)), (1, .int (zi v))] := hl
  generalize hH : s.heap = H at hX
  have hS : va_S A s.heap H [] := by rw [← hH]; exact hS
  generalize hlocs : ([] : List Loc) = locs at hS ⊢
  obtain ⟨QQ, hQQ⟩ : ∃ zQQ, MQ below (qi A (fun r H => (r = bI (0 ≤ v ∧ v ≤ 1 * 2 ^ (F 6).toNat - 1)) ∧ XH E A B F M G T H)) args s (rm_X0_areTexts).cells (rm_X0_areTexts).slots A = zQQ := ⟨_, rfl⟩
  rw [hQQ]
  have rF6 : 0 ≤ F 6 ∧ F 6 ≤ 8 := hX.2.1 6 (0, 8) rfl
  refine lv_iload_n C.x C.b dX0_areTexts_0 rfl (lv_at hl 1 rfl) ?_
  refine r_i2l C (by omega) dX0_areTexts_1 ?_
  refine r_lconst C 0 rfl dX0_areTexts_2 ?_
  refine r_const C dX0_areTexts_3 ?_
  refine lv_aload_n C.x C.b dX0_areTexts_4 rfl (lv_at hl 0 rfl) ?_
  refine x_gi C hX 6 (by decide) rfl q742 (fun _ h => h) (F 6) rfl (b := (0, 8)) rfl dX0_areTexts_5 (fun _ => ?_)
  have hp2 := p2_12 (k := F 6) (by omega)
  refine r_ishl C (by omega) (by omega) rfl dX0_areTexts_8 ?_
  refine r_const C dX0_areTexts_9 ?_
  refine r_isub C dX0_areTexts_10 ?_
  refine r_i2l C (by omega) dX0_areTexts_11 ?_
  refine r_callSi (As := [.long (zl v), .long (zl 0), .long (zl ((1 * 2 ^ (F 6).toNat) - 1))]) (rest := []) (cells' := 0) (slots' := 0) C (met_X0_isIn l E A H v 0 ((1 * 2 ^ (F 6).toNat) - 1) (show -9223372036854775808 ≤ v ∧ v < 9223372036854775808 from (by omega)) (show -9223372036854775808 ≤ (0 : Int) ∧ (0 : Int) < 9223372036854775808 from (by omega)) (show -9223372036854775808 ≤ ((1 * 2 ^ (F 6).toNat) - 1) ∧ ((1 * 2 ^ (F 6).toNat) - 1) < 9223372036854775808 from (by omega))) (lw_S q117 q118 q86 q119) hd_X0_isIn rfl (by decide) rfl hS hl.1 rfl (Nat.le_of_ble_eq_true rfl) dX0_areTexts_12 rfl rfl ⟨Nat.le_of_ble_eq_true rfl, Nat.le_of_ble_eq_true rfl⟩ (fun rr H locs hp hS => ?_)
  obtain ⟨hrr, hH⟩ := hp
  have hrr : rr = bI ((0 : Int) ≤ v ∧ v ≤ ((1 * 2 ^ (F 6).toNat) - 1)) := hrr
  subst hrr
  have hX : XH E A B F M G T H := by rw [hH]; exact hX
  rw [← hQQ]
  exact r_zret C (bI_e _) hS (Nat.le_of_ble_eq_true rfl) (Nat.le_of_ble_eq_true rfl) dX0_areTexts_15 ⟨(bI_c (by first | exact Iff.rfl | (constructor <;> intro _ <;> omega))), hX⟩

theorem hd_X0_areSounds : yX0_areSounds.cls ≠ "java/lang/invoke/MethodHandle" ∧ yX0_areSounds.cls ≠ "java/lang/invoke/VarHandle" ∧ (parseMethodDescriptor yX0_areSounds.desc).map (fun d => d.parameters.length) = some 3 := by decide +kernel
abbrev rm_X0_areSounds : Room := { frames := 1, cells := 0, slots := 0, locals := 25 }
set_option maxHeartbeats 8000000 in
theorem met_X0_areSounds (l : Launch) (E : us_E) (A : Nat → Prop) (H0 : Heap) (n : Int) (k : Int) (v : Int) (hn : -2147483648 ≤ n ∧ n < 2147483648) (hk : 6 ≤ k ∧ k ≤ 8) (hv : -2147483648 ≤ v ∧ v < 2147483648) : cMet l yX0_areSounds cX0_areSounds 3 (some .boolean) rm_X0_areSounds A E [.int (zi n), .int (zi k), .int (zi v)] (fun H => H = H0) (qi A (fun r H => (r = bI (areS n k v)) ∧ (H = H0))) := by
  refine cMet.of (by decide) (Nat.le_of_ble_eq_true rfl) (fun p e s m args below meth c C hnm hX hS ls hl => ?_)
  have C : Cx p s m args meth c A RX0 cX0_areSounds 3 (some .boolean) E := C
  have hX : s.heap = H0 := hX
  have hl : lv_has ls 3 [(0, .int (zi n)), (1, .int (zi k)), (2, .int (zi v))] := hl
  generalize hH : s.heap = H at hX
  have hS : va_S A s.heap H [] := by rw [← hH]; exact hS
  generalize hlocs : ([] : List Loc) = locs at hS ⊢
  obtain ⟨QQ, hQQ⟩ : ∃ zQQ, MQ below (qi A (fun r H => (r = bI (areS n k v)) ∧ (H = H0))) args s (rm_X0_areSounds).cells (rm_X0_areSounds).slots A = zQQ := ⟨_, rfl⟩
  rw [hQQ]
  refine lv_iload_n C.x C.b dX0_areSounds_0 rfl (lv_at hl 0 rfl) ?_
  refine r_i2l C (by omega) dX0_areSounds_1 ?_
  refine r_lconst C 1 rfl dX0_areSounds_2 ?_
  refine lv_iload_n C.x C.b dX0_areSounds_3 rfl (lv_at hl 1 rfl) ?_
  refine r_i2l C (by omega) dX0_areSounds_4 ?_
  refine r_callSi (As := [.long (zl n), .long (zl 1), .long (zl k)]) (rest := []) (cells' := 0) (slots' := 0) C (met_X0_isIn l E A H n 1 k (show -9223372036854775808 ≤ n ∧ n < 9223372036854775808 from (by omega)) (show -9223372036854775808 ≤ (1 : Int) ∧ (1 : Int) < 9223372036854775808 from (by omega)) (show -9223372036854775808 ≤ k ∧ k < 9223372036854775808 from (by omega))) (lw_S q117 q118 q86 q119) hd_X0_isIn rfl (by decide) rfl hS hl.1 rfl (Nat.le_of_ble_eq_true rfl) dX0_areSounds_5 rfl rfl ⟨Nat.le_of_ble_eq_true rfl, Nat.le_of_ble_eq_true rfl⟩ (fun rr H locs hp hS => ?_)
  obtain ⟨hrr, hH⟩ := hp
  have hrr : rr = bI ((1 : Int) ≤ n ∧ n ≤ k) := hrr
  subst hrr
  have hX : H = H0 := by rw [hH]; exact hX
  have J33_1 : ∀ (t0 : Int) (ht0 : t0 = bI (((1 : Int) ≤ n ∧ n ≤ k) ∧ ((0 : Int) ≤ v ∧ v ≤ ((1 * 2 ^ (2 * n).toNat) - 1)))) (H : Heap) (locs : List Loc) (ls : Array Slot) (hX : H = H0) (hS : va_S A s.heap H locs) (hl : lv_has ls 3 [(0, .int (zi n)), (1, .int (zi k)), (2, .int (zi v))]), W p l e rm_X0_areSounds s m args below meth c H locs 0 0 QQ (F0 m 33 ls [.int (zi t0)]) := by
    intro t0 ht0 H locs ls hX hS hl
    subst ht0
    rw [← hQQ]
    exact r_zret C (bI_e _) hS (Nat.le_of_ble_eq_true rfl) (Nat.le_of_ble_eq_true rfl) dX0_areSounds_33 ⟨(bI_c ⟨fun q => ⟨q.1, q.2⟩, fun q => ⟨q.1, q.2⟩⟩), hX⟩
  refine r_if_eq_b (tgt := 32) C dX0_areSounds_8 (by decide) (fun c_2 => ?_) (fun c_2 => ?_)
  · refine r_const C dX0_areSounds_32 ?_
    exact J33_1 0 ((bI_f (fun q => c_2 q.1)).symm) H locs ls hX hS hl
  · have hp2 := p2_r (k := 2 * n) (by omega)
    refine lv_iload_n C.x C.b dX0_areSounds_11 rfl (lv_at hl 2 rfl) ?_
    refine r_i2l C (by omega) dX0_areSounds_12 ?_
    refine r_lconst C 0 rfl dX0_areSounds_13 ?_
    refine r_const C dX0_areSounds_14 ?_
    refine r_const C dX0_areSounds_15 ?_
    refine lv_iload_n C.x C.b dX0_areSounds_16 rfl (lv_at hl 0 rfl) ?_
    refine r_imul C dX0_areSounds_17 ?_
    refine r_ishl C (by omega) (by omega) rfl dX0_areSounds_18 ?_
    refine r_const C dX0_areSounds_19 ?_
    refine r_isub C dX0_areSounds_20 ?_
    refine r_i2l C (by omega) dX0_areSounds_21 ?_
    refine r_callSi (As := [.long (zl v), .long (zl 0), .long (zl ((1 * 2 ^ (2 * n).toNat) - 1))]) (rest := []) (cells' := 0) (slots' := 0) C (met_X0_isIn l E A H v 0 ((1 * 2 ^ (2 * n).toNat) - 1) (show -9223372036854775808 ≤ v ∧ v < 9223372036854775808 from (by omega)) (show -9223372036854775808 ≤ (0 : Int) ∧ (0 : Int) < 9223372036854775808 from (by omega)) (show -9223372036854775808 ≤ ((1 * 2 ^ (2 * n).toNat) - 1) ∧ ((1 * 2 ^ (2 * n).toNat) - 1) < 9223372036854775808 from (by omega))) (lw_S q117 q118 q86 q119) hd_X0_isIn rfl (by decide) rfl hS hl.1 rfl (Nat.le_of_ble_eq_true rfl) dX0_areSounds_22 rfl rfl ⟨Nat.le_of_ble_eq_true rfl, Nat.le_of_ble_eq_true rfl⟩ (fun rr H locs hp hS => ?_)
    obtain ⟨hrr, hH⟩ := hp
    have hrr : rr = bI ((0 : Int) ≤ v ∧ v ≤ ((1 * 2 ^ (2 * n).toNat) - 1)) := hrr
    subst hrr
    have hX : H = H0 := by rw [hH]; exact hX
    refine r_if_eq_b (tgt := 32) C dX0_areSounds_25 (by decide) (fun c_3 => ?_) (fun c_3 => ?_)
    · refine r_const C dX0_areSounds_32 ?_
      exact J33_1 0 ((bI_f (fun q => c_3 q.2)).symm) H locs ls hX hS hl
    · refine r_const C dX0_areSounds_28 ?_
      refine lv_goto (tgt := 33) C.x C.b dX0_areSounds_29 (by decide) ?_
      exact J33_1 1 ((bI_t ⟨c_2, c_3⟩).symm) H locs ls hX hS hl

theorem hd_X0_feed : yX0_feed.cls = RX0 ∧ yX0_feed.cls ≠ "java/lang/invoke/MethodHandle" ∧ yX0_feed.cls ≠ "java/lang/invoke/VarHandle" ∧ (parseMethodDescriptor yX0_feed.desc).map (fun d => d.parameters.length) = some 1 := by decide +kernel
abbrev rm_X0_feed : Room := { frames := 0, cells := 0, slots := 0, locals := 0 }
set_option maxHeartbeats 8000000 in
theorem met_X0_feed (l : Launch) (E : us_E) (A : Nat → Prop) (B : Nat → Int → Nat) (F : Nat → Int) (M : Nat → Int → Int) (G : Nat → Int → Option Nat) (T : x_T) (v : Int) (hv : -9223372036854775808 ≤ v ∧ v < 9223372036854775808) : cMet l yX0_feed cX0_feed 4 (some .int) rm_X0_feed A E [.ref (B 49 0), .long (zl v)] (fun H => XH E A B F M G T H) (qi A (fun r H => ∃ f46 : Int, ∃ m45 : Int → Int, ((¬ 160 < F 46 + 8) → f46 = F 46 + 8 ∧ (∀ j : Int, 0 ≤ j → j < 8 → m45 (F 46 + j) = sb (v / 2 ^ (56 - 8 * j).toNat)) ∧ ∀ j : Int, j < F 46 → m45 j = M 45 j) ∧ (160 < F 46 + 8 → f46 = F 46 ∧ m45 = M 45) ∧ (r = sel (¬ 160 < F 46 + 8) (F 46 + 8) (-3)) ∧ XH E A B (va_up F 46 f46) (va_up M 45 m45) G T H)) := by
  refine cMet.of (by decide) (Nat.le_of_ble_eq_true rfl) (fun p e s m args below meth c C hnm hX hS ls hl => ?_)
  have C : Cx p s m args meth c A RX0 cX0_feed 4 (some .int) E := C
  have hX : XH E A B F M G T s.heap := hX
  have hl : lv_has ls 4 [(0, .ref (B 49 0)), (1, .long (zl v))] := hl
  generalize hH : s.heap = H at hX
  have hS : va_S A s.heap H [] := by rw [← hH]; exact hS
  generalize hlocs : ([] : List Loc) = locs at hS ⊢
  obtain ⟨QQ, hQQ⟩ : ∃ zQQ, MQ below (qi A (fun r H => ∃ f46 : Int, ∃ m45 : Int → Int, ((¬ 160 < F 46 + 8) → f46 = F 46 + 8 ∧ (∀ j : Int, 0 ≤ j → j < 8 → m45 (F 46 + j) = sb (v / 2 ^ (56 - 8 * j).toNat)) ∧ ∀ j : Int, j < F 46 → m45 j = M 45 j) ∧ (160 < F 46 + 8 → f46 = F 46 ∧ m45 = M 45) ∧ (r = sel (¬ 160 < F 46 + 8) (F 46 + 8) (-3)) ∧ XH E A B (va_up F 46 f46) (va_up M 45 m45) G T H)) args s (rm_X0_feed).cells (rm_X0_feed).slots A = zQQ := ⟨_, rfl⟩
  rw [hQQ]
  have rF46 : 0 ≤ F 46 ∧ F 46 ≤ 160 := hX.2.1 46 (0, 160) rfl
  refine lv_aload_n C.x C.b dX0_feed_0 rfl (lv_at hl 0 rfl) ?_
  refine x_gi C hX 46 (by decide) rfl q785 (fun _ h => h) (F 46) rfl (b := (0, 160)) rfl dX0_feed_1 (fun _ => ?_)
  refine r_bipush C (by decide) dX0_feed_4 ?_
  refine r_iadd C dX0_feed_6 ?_
  refine r_sipush C (by decide) dX0_feed_7 ?_
  refine r_icmp_le (tgt := 16) C (by omega) (by decide) dX0_feed_10 (by decide) (fun c_1 => ?_) (fun c_1 => ?_)
  · refine r_bipush C (by decide) dX0_feed_16 ?_
    refine lv_istore_n (lv' := [(3, .int (zi 56)), (0, .ref (B 49 0)), (1, .long (zl v))]) C.x C.b dX0_feed_18 rfl hl (by decide) rfl (fun ls hl => ?_)
    have L19 : ∀ (fu : Nat) (v3 : Int) (f46 : Int) (m45 : Int → Int) (h3 : -8 ≤ v3 ∧ v3 ≤ 56 ∧ v3 = 56 - 8 * (f46 - F 46)) (hc1 : ∀ j : Int, 0 ≤ j → j < f46 - F 46 → m45 (F 46 + j) = sb (v / 2 ^ (56 - 8 * j).toNat)) (hc2 : ∀ j : Int, j < F 46 → m45 j = M 45 j) (hm : Int.toNat (v3 + 8) < fu) (H : Heap) (locs : List Loc) (ls : Array Slot) (hX : XH E A B (va_up F 46 f46) (va_up M 45 m45) G T H) (hS : va_S A s.heap H locs) (hl : lv_has ls 4 [(0, .ref (B 49 0)), (1, .long (zl v)), (3, .int (zi v3))]), W p l e rm_X0_feed s m args below meth c H locs 0 0 QQ (F0 m 19 ls []) := by
      intro fu
      induction fu with
      | zero => intro v3 f46 m45 h3 hc1 hc2 hm; exact absurd hm (Nat.not_lt_zero _)
      | succ fu ih19 =>
        intro v3 f46 m45 h3 hc1 hc2 hm H locs ls hX hS hl
        refine lv_iload_n C.x C.b dX0_feed_19 rfl (lv_at hl 2 rfl) ?_
        refine r_if_lt (tgt := 53) C (by omega) dX0_feed_20 (by decide) (fun c_2 => ?_) (fun c_2 => ?_)
        · refine lv_aload_n C.x C.b dX0_feed_53 rfl (lv_at hl 0 rfl) ?_
          refine x_gi C hX 46 (by decide) rfl q785 (fun _ h => h) f46 rfl (b := (0, 160)) rfl dX0_feed_54 (fun r54 => ?_)
          have r54 : 0 ≤ f46 ∧ f46 ≤ 160 := r54
          rw [← hQQ]
          exact r_iret C hS (Nat.le_of_ble_eq_true rfl) (Nat.le_of_ble_eq_true rfl) dX0_feed_57 ⟨f46, m45, (fun _ => ⟨by omega, fun j a b => hc1 j a (by omega), hc2⟩), (fun q => absurd q (by omega)), (by rw [sel_t (by omega)]; omega), hX⟩
        · refine lv_aload_n C.x C.b dX0_feed_23 rfl (lv_at hl 0 rfl) ?_
          refine x_ga C hX 45 (by decide) rfl q784 (fun _ h => h) dX0_feed_24 ?_
          refine lv_aload_n C.x C.b dX0_feed_27 rfl (lv_at hl 0 rfl) ?_
          refine x_gi C hX 46 (by decide) rfl q785 (fun _ h => h) f46 rfl (b := (0, 160)) rfl dX0_feed_28 (fun r28 => ?_)
          have r28 : 0 ≤ f46 ∧ f46 ≤ 160 := r28
          refine lv_lload_n C.x C.b dX0_feed_31 rfl (lv_at hl 1 rfl) ?_
          refine lv_iload_n C.x C.b dX0_feed_32 rfl (lv_at hl 2 rfl) ?_
          refine r_lshr C (by omega) (by omega) rfl dX0_feed_33 ?_
          refine r_l2i C dX0_feed_34 ?_
          refine r_i2b C dX0_feed_35 ?_
          refine x_sb1 C hX hS 45 rfl (by decide) rfl (show 0 ≤ f46 ∧ f46 < 160 from (by omega)) (by decide) (nar_b (sb_r _)) (fun b hb => by cases hb; exact (show -128 ≤ sb (v / 2 ^ v3.toNat) ∧ sb (v / 2 ^ v3.toNat) ≤ 127 from (sb_r _))) (M' := (va_up M 45 (fup m45 f46 (sb (v / 2 ^ v3.toNat))))) (up_up _ _ _ _) dX0_feed_36 (fun H locs hX hS => ?_)
          refine lv_aload_n C.x C.b dX0_feed_37 rfl (lv_at hl 0 rfl) ?_
          refine lv_dup C.x C.b dX0_feed_38 rfl ?_
          refine x_gi C hX 46 (by decide) rfl q785 (fun _ h => h) f46 rfl (b := (0, 160)) rfl dX0_feed_39 (fun _ => ?_)
          refine r_const C dX0_feed_42 ?_
          refine r_iadd C dX0_feed_43 ?_
          refine x_pi C hX hS 46 (by decide) rfl (by decide) rfl rfl q785 (fun _ h => h) (b := (0, 160)) rfl (show 0 ≤ f46 + 1 ∧ f46 + 1 ≤ 160 from (by omega)) (F' := (va_up F 46 (f46 + 1))) (up_up _ _ _ _) dX0_feed_44 (fun H locs hX hS => ?_)
          refine r_iinc (lv' := [(3, .int (zi (v3 + (-8)))), (0, .ref (B 49 0)), (1, .long (zl v))]) C dX0_feed_47 hl (k := 2) rfl (by decide) rfl (fun ls hl => ?_)
          refine lv_goto (tgt := 19) C.x C.b dX0_feed_50 (by decide) ?_
          exact ih19 (v3 + (-8)) (f46 + 1) (fup m45 f46 (sb (v / 2 ^ v3.toNat))) (by omega) (fun j a b => by by_cases e : j = f46 - F 46; exact (by rw [e, show F 46 + (f46 - F 46) = f46 by omega, fup_s, show 56 - 8 * (f46 - F 46) = v3 by omega]); rw [fup_n _ _ (by omega)]; exact hc1 j a (by omega)) (fun j a => by rw [fup_n _ _ (by omega)]; exact hc2 j a) (by omega) H locs ls hX hS (lv_sub hl [1, 2, 0] rfl)
    exact L19 _ 56 (F 46) (M 45) (by omega) (fun j a b => absurd a (by omega)) (fun _ _ => rfl) (Nat.lt_succ_self _) H locs ls (hX.to rfl ((up_id F (k := 46) (a := (F 46)) rfl).symm.trans rfl) ((up_id M (k := 45) (a := (M 45)) rfl).symm.trans rfl) rfl rfl) hS (lv_sub hl [1, 2, 0] rfl)
  · refine r_bipush C (by decide) dX0_feed_13 ?_
    rw [← hQQ]
    exact r_iret C hS (Nat.le_of_ble_eq_true rfl) (Nat.le_of_ble_eq_true rfl) dX0_feed_15 ⟨(F 46), (M 45), (fun q => absurd (by omega) q), (fun _ => ⟨rfl, rfl⟩), (Eq.symm (sel_f (fun q => q (by omega)))), (hX.to rfl ((up_id F (k := 46) (a := (F 46)) rfl).symm.trans rfl) ((up_id M (k := 45) (a := (M 45)) rfl).symm.trans rfl) rfl rfl)⟩
