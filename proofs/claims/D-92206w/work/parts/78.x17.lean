set_option maxRecDepth 100000

theorem hd_J6_coder : yJ6_coder.cls = RJ6 ∧ yJ6_coder.cls ≠ "java/lang/invoke/MethodHandle" ∧ yJ6_coder.cls ≠ "java/lang/invoke/VarHandle" ∧ (parseMethodDescriptor yJ6_coder.desc).map (fun d => d.parameters.length) = some 0 := by decide +kernel
abbrev rm_J6_coder : Room := { frames := 0, cells := 0, slots := 0, locals := 0 }
set_option maxHeartbeats 8000000 in
theorem met_J6_coder (l : Launch) (E : us_E) (A : Nat → Prop) (H0 : Heap) (i : Nat) (hi : i < 6) : cMet l yJ6_coder cJ6_coder 1 (some .byte) rm_J6_coder A E [.ref (E.2 (110 + i))] (fun H => H = H0) (qi A (fun r H => (r = 0) ∧ (H = H0))) := by
  refine cMet.of (by decide) (Nat.le_of_ble_eq_true rfl) (fun p e s m args below meth c C hnm hX hS ls hl => ?_)
  have C : Cx p s m args meth c A RJ6 cJ6_coder 1 (some .byte) E := C
  have hX : s.heap = H0 := hX
  have hl : lv_has ls 1 [(0, .ref (E.2 (110 + i)))] := hl
  generalize hH : s.heap = H at hX
  have hS : va_S A s.heap H [] := by rw [← hH]; exact hS
  generalize hlocs : ([] : List Loc) = locs at hS ⊢
  obtain ⟨QQ, hQQ⟩ : ∃ zQQ, MQ below (qi A (fun r H => (r = 0) ∧ (H = H0))) args s (rm_J6_coder).cells (rm_J6_coder).slots A = zQQ := ⟨_, rfl⟩
  rw [hQQ]
  refine xs_comp C hS q467 dJ6_coder_0 ?_
  refine r_if_eq (tgt := 13) C (by decide) dJ6_coder_3 (by decide) (fun c_1 => ?_) (fun c_1 => ?_)
  · exact absurd c_1 (by decide)
  · refine lv_aload_n C.x C.b dJ6_coder_6 rfl (lv_at hl 0 rfl) ?_
    refine xs_cod C hS hi q1559 dJ6_coder_7 ?_
    refine lv_goto (tgt := 14) C.x C.b dJ6_coder_10 (by decide) ?_
    rw [← hQQ]
    exact r_nret C rfl hS (Nat.le_of_ble_eq_true rfl) (Nat.le_of_ble_eq_true rfl) dJ6_coder_14 ⟨(by first | rfl | exact (sel_t (by omega)).symm | exact (sel_f (by omega)).symm | omega), hX⟩

theorem hd_J6_isLatin1 : yJ6_isLatin1.cls = RJ6 ∧ yJ6_isLatin1.cls ≠ "java/lang/invoke/MethodHandle" ∧ yJ6_isLatin1.cls ≠ "java/lang/invoke/VarHandle" ∧ (parseMethodDescriptor yJ6_isLatin1.desc).map (fun d => d.parameters.length) = some 0 := by decide +kernel
abbrev rm_J6_isLatin1 : Room := { frames := 0, cells := 0, slots := 0, locals := 0 }
set_option maxHeartbeats 8000000 in
theorem met_J6_isLatin1 (l : Launch) (E : us_E) (A : Nat → Prop) (H0 : Heap) (i : Nat) (hi : i < 6) : cMet l yJ6_isLatin1 cJ6_isLatin1 1 (some .boolean) rm_J6_isLatin1 A E [.ref (E.2 (110 + i))] (fun H => H = H0) (qi A (fun r H => (r = bI True) ∧ (H = H0))) := by
  refine cMet.of (by decide) (Nat.le_of_ble_eq_true rfl) (fun p e s m args below meth c C hnm hX hS ls hl => ?_)
  have C : Cx p s m args meth c A RJ6 cJ6_isLatin1 1 (some .boolean) E := C
  have hX : s.heap = H0 := hX
  have hl : lv_has ls 1 [(0, .ref (E.2 (110 + i)))] := hl
  generalize hH : s.heap = H at hX
  have hS : va_S A s.heap H [] := by rw [← hH]; exact hS
  generalize hlocs : ([] : List Loc) = locs at hS ⊢
  obtain ⟨QQ, hQQ⟩ : ∃ zQQ, MQ below (qi A (fun r H => (r = bI True) ∧ (H = H0))) args s (rm_J6_isLatin1).cells (rm_J6_isLatin1).slots A = zQQ := ⟨_, rfl⟩
  rw [hQQ]
  refine xs_comp C hS q467 dJ6_isLatin1_0 ?_
  refine r_if_eq (tgt := 17) C (by decide) dJ6_isLatin1_3 (by decide) (fun c_1 => ?_) (fun c_1 => ?_)
  · exact absurd c_1 (by decide)
  · refine lv_aload_n C.x C.b dJ6_isLatin1_6 rfl (lv_at hl 0 rfl) ?_
    refine xs_cod C hS hi q1559 dJ6_isLatin1_7 ?_
    refine r_if_ne (tgt := 17) C (by decide) dJ6_isLatin1_10 (by decide) (fun c_2 => ?_) (fun c_2 => ?_)
    · exact absurd (by decide) c_2
    · refine r_const C dJ6_isLatin1_13 ?_
      refine lv_goto (tgt := 18) C.x C.b dJ6_isLatin1_14 (by decide) ?_
      rw [← hQQ]
      exact r_zret C (by omega) hS (Nat.le_of_ble_eq_true rfl) (Nat.le_of_ble_eq_true rfl) dJ6_isLatin1_18 ⟨bI_T.symm, hX⟩

theorem hd_J6_length : yJ6_length.cls = RJ6 ∧ yJ6_length.cls ≠ "java/lang/invoke/MethodHandle" ∧ yJ6_length.cls ≠ "java/lang/invoke/VarHandle" ∧ (parseMethodDescriptor yJ6_length.desc).map (fun d => d.parameters.length) = some 0 := by decide +kernel
abbrev rm_J6_length : Room := { frames := 1, cells := 0, slots := 0, locals := 20 }
set_option maxHeartbeats 8000000 in
theorem met_J6_length (l : Launch) (E : us_E) (A : Nat → Prop) (H0 : Heap) (i : Nat) (hi : i < 6) : cMet l yJ6_length cJ6_length 1 (some .int) rm_J6_length A E [.ref (E.2 (110 + i))] (fun H => H = H0) (qi A (fun r H => (r = lenZ i) ∧ (H = H0))) := by
  refine cMet.of (by decide) (Nat.le_of_ble_eq_true rfl) (fun p e s m args below meth c C hnm hX hS ls hl => ?_)
  have C : Cx p s m args meth c A RJ6 cJ6_length 1 (some .int) E := C
  have hX : s.heap = H0 := hX
  have hl : lv_has ls 1 [(0, .ref (E.2 (110 + i)))] := hl
  generalize hH : s.heap = H at hX
  have hS : va_S A s.heap H [] := by rw [← hH]; exact hS
  generalize hlocs : ([] : List Loc) = locs at hS ⊢
  obtain ⟨QQ, hQQ⟩ : ∃ zQQ, MQ below (qi A (fun r H => (r = lenZ i) ∧ (H = H0))) args s (rm_J6_length).cells (rm_J6_length).slots A = zQQ := ⟨_, rfl⟩
  rw [hQQ]
  have hlz := lenZ_r i hi
  refine lv_aload_n C.x C.b dJ6_length_0 rfl (lv_at hl 0 rfl) ?_
  refine xs_val C hS hi q1558 dJ6_length_1 ?_
  refine xs_len C hS hi dJ6_length_4 ?_
  refine lv_aload_n C.x C.b dJ6_length_5 rfl (lv_at hl 0 rfl) ?_
  refine r_callVi (As := []) (rest := [.int (zi (lenZ i))]) (cells' := 0) (slots' := 0) C (met_J6_coder l E A H i (show i < 6 from (by omega))) (lw_V q463 q464 q465 q95 q466) hd_J6_coder rfl (by decide) (xs_recv C hS hi) rfl hS hl.1 rfl (Nat.le_of_ble_eq_true rfl) dJ6_length_6 rfl rfl ⟨Nat.le_of_ble_eq_true rfl, Nat.le_of_ble_eq_true rfl⟩ (fun rr H locs hp hS => ?_)
  obtain ⟨hrr, hH⟩ := hp
  have hrr : rr = 0 := hrr
  subst hrr
  have hX : H = H0 := by rw [hH]; exact hX
  refine r_ishr C (by omega) (by omega) rfl dJ6_length_9 ?_
  rw [← hQQ]
  exact r_iret C hS (Nat.le_of_ble_eq_true rfl) (Nat.le_of_ble_eq_true rfl) dJ6_length_10 ⟨(Int.ediv_one _), hX⟩

theorem hd_J12_checkIndex : yJ12_checkIndex.cls ≠ "java/lang/invoke/MethodHandle" ∧ yJ12_checkIndex.cls ≠ "java/lang/invoke/VarHandle" ∧ (parseMethodDescriptor yJ12_checkIndex.desc).map (fun d => d.parameters.length) = some 3 := by decide +kernel
abbrev rm_J12_checkIndex_0 : Room := { frames := 0, cells := 0, slots := 0, locals := 0 }
set_option maxHeartbeats 8000000 in
theorem met_J12_checkIndex_0 (l : Launch) (E : us_E) (A : Nat → Prop) (H0 : Heap) (j : Int) (n : Int) (hj : 0 ≤ j ∧ j < n) (hn : n < 2147483648) : cMet l yJ12_checkIndex cJ12_checkIndex 3 (some .int) rm_J12_checkIndex_0 A E [.int (zi j), .int (zi n), .null] (fun H => H = H0) (qi A (fun r H => (r = j) ∧ (H = H0))) := by
  refine cMet.of (by decide) (Nat.le_of_ble_eq_true rfl) (fun p e s m args below meth c C hnm hX hS ls hl => ?_)
  have C : Cx p s m args meth c A RJ12 cJ12_checkIndex 3 (some .int) E := C
  have hX : s.heap = H0 := hX
  have hl : lv_has ls 3 [(0, .int (zi j)), (1, .int (zi n)), (2, .null)] := hl
  generalize hH : s.heap = H at hX
  have hS : va_S A s.heap H [] := by rw [← hH]; exact hS
  generalize hlocs : ([] : List Loc) = locs at hS ⊢
  obtain ⟨QQ, hQQ⟩ : ∃ zQQ, MQ below (qi A (fun r H => (r = j) ∧ (H = H0))) args s (rm_J12_checkIndex_0).cells (rm_J12_checkIndex_0).slots A = zQQ := ⟨_, rfl⟩
  rw [hQQ]
  refine lv_iload_n C.x C.b dJ12_checkIndex_0 rfl (lv_at hl 0 rfl) ?_
  refine r_if_lt (tgt := 9) C (by omega) dJ12_checkIndex_1 (by decide) (fun c_1 => ?_) (fun c_1 => ?_)
  · exact absurd c_1 (by omega)
  · refine lv_iload_n C.x C.b dJ12_checkIndex_4 rfl (lv_at hl 0 rfl) ?_
    refine lv_iload_n C.x C.b dJ12_checkIndex_5 rfl (lv_at hl 1 rfl) ?_
    refine r_icmp_lt (tgt := 16) C (by omega) (by omega) dJ12_checkIndex_6 (by decide) (fun c_2 => ?_) (fun c_2 => ?_)
    · refine lv_iload_n C.x C.b dJ12_checkIndex_16 rfl (lv_at hl 0 rfl) ?_
      rw [← hQQ]
      exact r_iret C hS (Nat.le_of_ble_eq_true rfl) (Nat.le_of_ble_eq_true rfl) dJ12_checkIndex_17 ⟨(by first | rfl | exact (sel_t (by omega)).symm | exact (sel_f (by omega)).symm | omega), hX⟩
    · exact absurd (show j < n by omega) c_2

abbrev rm_J12_checkIndex_1 : Room := { frames := 0, cells := 0, slots := 0, locals := 0 }
set_option maxHeartbeats 8000000 in
theorem met_J12_checkIndex_1 (l : Launch) (E : us_E) (A : Nat → Prop) (H0 : Heap) (j : Int) (n : Int) (o : Nat) (hj : 0 ≤ j ∧ j < n) (hn : n < 2147483648) : cMet l yJ12_checkIndex cJ12_checkIndex 3 (some .int) rm_J12_checkIndex_1 A E [.int (zi j), .int (zi n), .ref o] (fun H => H = H0) (qi A (fun r H => (r = j) ∧ (H = H0))) := by
  refine cMet.of (by decide) (Nat.le_of_ble_eq_true rfl) (fun p e s m args below meth c C hnm hX hS ls hl => ?_)
  have C : Cx p s m args meth c A RJ12 cJ12_checkIndex 3 (some .int) E := C
  have hX : s.heap = H0 := hX
  have hl : lv_has ls 3 [(0, .int (zi j)), (1, .int (zi n)), (2, .ref o)] := hl
  generalize hH : s.heap = H at hX
  have hS : va_S A s.heap H [] := by rw [← hH]; exact hS
  generalize hlocs : ([] : List Loc) = locs at hS ⊢
  obtain ⟨QQ, hQQ⟩ : ∃ zQQ, MQ below (qi A (fun r H => (r = j) ∧ (H = H0))) args s (rm_J12_checkIndex_1).cells (rm_J12_checkIndex_1).slots A = zQQ := ⟨_, rfl⟩
  rw [hQQ]
  refine lv_iload_n C.x C.b dJ12_checkIndex_0 rfl (lv_at hl 0 rfl) ?_
  refine r_if_lt (tgt := 9) C (by omega) dJ12_checkIndex_1 (by decide) (fun c_1 => ?_) (fun c_1 => ?_)
  · exact absurd c_1 (by omega)
  · refine lv_iload_n C.x C.b dJ12_checkIndex_4 rfl (lv_at hl 0 rfl) ?_
    refine lv_iload_n C.x C.b dJ12_checkIndex_5 rfl (lv_at hl 1 rfl) ?_
    refine r_icmp_lt (tgt := 16) C (by omega) (by omega) dJ12_checkIndex_6 (by decide) (fun c_2 => ?_) (fun c_2 => ?_)
    · refine lv_iload_n C.x C.b dJ12_checkIndex_16 rfl (lv_at hl 0 rfl) ?_
      rw [← hQQ]
      exact r_iret C hS (Nat.le_of_ble_eq_true rfl) (Nat.le_of_ble_eq_true rfl) dJ12_checkIndex_17 ⟨(by first | rfl | exact (sel_t (by omega)).symm | exact (sel_f (by omega)).symm | omega), hX⟩
    · exact absurd (show j < n by omega) c_2

theorem hd_J6_checkIndex : yJ6_checkIndex.cls ≠ "java/lang/invoke/MethodHandle" ∧ yJ6_checkIndex.cls ≠ "java/lang/invoke/VarHandle" ∧ (parseMethodDescriptor yJ6_checkIndex.desc).map (fun d => d.parameters.length) = some 2 := by decide +kernel
abbrev rm_J6_checkIndex : Room := { frames := 1, cells := 0, slots := 0, locals := 22 }
set_option maxHeartbeats 8000000 in
theorem met_J6_checkIndex (l : Launch) (E : us_E) (A : Nat → Prop) (H0 : Heap) (j : Int) (n : Int) (hj : 0 ≤ j ∧ j < n) (hn : n < 2147483648) : cMet l yJ6_checkIndex cJ6_checkIndex 2 none rm_J6_checkIndex A E [.int (zi j), .int (zi n)] (fun H => H = H0) (qv A (fun H => (H = H0))) := by
  refine cMet.of (by decide) (Nat.le_of_ble_eq_true rfl) (fun p e s m args below meth c C hnm hX hS ls hl => ?_)
  have C : Cx p s m args meth c A RJ6 cJ6_checkIndex 2 none E := C
  have hX : s.heap = H0 := hX
  have hl : lv_has ls 2 [(0, .int (zi j)), (1, .int (zi n))] := hl
  generalize hH : s.heap = H at hX
  have hS : va_S A s.heap H [] := by rw [← hH]; exact hS
  generalize hlocs : ([] : List Loc) = locs at hS ⊢
  obtain ⟨QQ, hQQ⟩ : ∃ zQQ, MQ below (qv A (fun H => (H = H0))) args s (rm_J6_checkIndex).cells (rm_J6_checkIndex).slots A = zQQ := ⟨_, rfl⟩
  rw [hQQ]
  refine lv_iload_n C.x C.b dJ6_checkIndex_0 rfl (lv_at hl 0 rfl) ?_
  refine lv_iload_n C.x C.b dJ6_checkIndex_1 rfl (lv_at hl 1 rfl) ?_
  refine xs_siob C hS q483 dJ6_checkIndex_2 ?_ (fun tz => ?_)
  · refine r_callSi (As := [.int (zi j), .int (zi n), .null]) (rest := []) (cells' := 0) (slots' := 0) C (met_J12_checkIndex_0 l E A H j n (show 0 ≤ j ∧ j < n from (by omega)) (show n < 2147483648 from (by omega))) (lw_S q485 q486 q107 q487) hd_J12_checkIndex rfl (by decide) rfl hS hl.1 rfl (Nat.le_of_ble_eq_true rfl) dJ6_checkIndex_5 rfl rfl ⟨Nat.le_of_ble_eq_true rfl, Nat.le_of_ble_eq_true rfl⟩ (fun rr H locs hp hS => ?_)
    obtain ⟨hrr, hH⟩ := hp
    have hrr : rr = j := hrr
    subst hrr
    have hX : H = H0 := by rw [hH]; exact hX
    refine lv_pop C.x C.b dJ6_checkIndex_8 rfl ?_
    rw [← hQQ]
    exact r_vret C hS (Nat.le_of_ble_eq_true rfl) (Nat.le_of_ble_eq_true rfl) dJ6_checkIndex_9 hX
  · refine r_callSi (As := [.int (zi j), .int (zi n), .ref tz]) (rest := []) (cells' := 0) (slots' := 0) C (met_J12_checkIndex_1 l E A H j n tz (show 0 ≤ j ∧ j < n from (by omega)) (show n < 2147483648 from (by omega))) (lw_S q485 q486 q107 q487) hd_J12_checkIndex rfl (by decide) rfl hS hl.1 rfl (Nat.le_of_ble_eq_true rfl) dJ6_checkIndex_5 rfl rfl ⟨Nat.le_of_ble_eq_true rfl, Nat.le_of_ble_eq_true rfl⟩ (fun rr H locs hp hS => ?_)
    obtain ⟨hrr, hH⟩ := hp
    have hrr : rr = j := hrr
    subst hrr
    have hX : H = H0 := by rw [hH]; exact hX
    refine lv_pop C.x C.b dJ6_checkIndex_8 rfl ?_
    rw [← hQQ]
    exact r_vret C hS (Nat.le_of_ble_eq_true rfl) (Nat.le_of_ble_eq_true rfl) dJ6_checkIndex_9 hX

theorem hd_J11_charAt : yJ11_charAt.cls ≠ "java/lang/invoke/MethodHandle" ∧ yJ11_charAt.cls ≠ "java/lang/invoke/VarHandle" ∧ (parseMethodDescriptor yJ11_charAt.desc).map (fun d => d.parameters.length) = some 2 := by decide +kernel
abbrev rm_J11_charAt : Room := { frames := 2, cells := 0, slots := 0, locals := 43 }
set_option maxHeartbeats 8000000 in
theorem met_J11_charAt (l : Launch) (E : us_E) (A : Nat → Prop) (H0 : Heap) (i : Nat) (j : Int) (hi : i < 6) (hj : 0 ≤ j ∧ j < lenZ i) : cMet l yJ11_charAt cJ11_charAt 2 (some .char) rm_J11_charAt A E [.ref (E.2 (120 + i)), .int (zi j)] (fun H => H = H0) (qi A (fun r H => (r = byZ i j) ∧ (H = H0))) := by
  refine cMet.of (by decide) (Nat.le_of_ble_eq_true rfl) (fun p e s m args below meth c C hnm hX hS ls hl => ?_)
  have C : Cx p s m args meth c A RJ11 cJ11_charAt 2 (some .char) E := C
  have hX : s.heap = H0 := hX
  have hl : lv_has ls 2 [(0, .ref (E.2 (120 + i))), (1, .int (zi j))] := hl
  generalize hH : s.heap = H at hX
  have hS : va_S A s.heap H [] := by rw [← hH]; exact hS
  generalize hlocs : ([] : List Loc) = locs at hS ⊢
  obtain ⟨QQ, hQQ⟩ : ∃ zQQ, MQ below (qi A (fun r H => (r = byZ i j) ∧ (H = H0))) args s (rm_J11_charAt).cells (rm_J11_charAt).slots A = zQQ := ⟨_, rfl⟩
  rw [hQQ]
  have hlz := lenZ_r i hi
  have hbz := byZ_i hi hj
  refine lv_iload_n C.x C.b dJ11_charAt_0 rfl (lv_at hl 1 rfl) ?_
  refine lv_aload_n C.x C.b dJ11_charAt_1 rfl (lv_at hl 0 rfl) ?_
  refine xs_len C hS hi dJ11_charAt_2 ?_
  refine r_callSv (As := [.int (zi j), .int (zi (lenZ i))]) (rest := []) (cells' := 0) (slots' := 0) C (met_J6_checkIndex l E A H j (lenZ i) (show 0 ≤ j ∧ j < (lenZ i) from (by omega)) (show (lenZ i) < 2147483648 from (by omega))) (lw_S q480 q481 q95 q482) hd_J6_checkIndex rfl (by decide) rfl hS hl.1 rfl (Nat.le_of_ble_eq_true rfl) dJ11_charAt_3 rfl rfl ⟨Nat.le_of_ble_eq_true rfl, Nat.le_of_ble_eq_true rfl⟩ (fun H locs hp hS => ?_)
  have hH := hp
  have hX : H = H0 := by rw [hH]; exact hX
  refine lv_aload_n C.x C.b dJ11_charAt_6 rfl (lv_at hl 0 rfl) ?_
  refine lv_iload_n C.x C.b dJ11_charAt_7 rfl (lv_at hl 1 rfl) ?_
  refine xs_byt C hS hi (show 0 ≤ j ∧ j < lenZ i from (by omega)) dJ11_charAt_8 ?_
  refine r_sipush C (by decide) dJ11_charAt_9 ?_
  refine r_iand C (zi_and255 _) dJ11_charAt_12 ?_
  refine r_i2c C (by omega) dJ11_charAt_13 ?_
  rw [← hQQ]
  exact r_nret C (nar_c (by omega)) hS (Nat.le_of_ble_eq_true rfl) (Nat.le_of_ble_eq_true rfl) dJ11_charAt_14 ⟨(by omega), hX⟩

theorem hd_J6_charAt : yJ6_charAt.cls = RJ6 ∧ yJ6_charAt.cls ≠ "java/lang/invoke/MethodHandle" ∧ yJ6_charAt.cls ≠ "java/lang/invoke/VarHandle" ∧ (parseMethodDescriptor yJ6_charAt.desc).map (fun d => d.parameters.length) = some 1 := by decide +kernel
abbrev rm_J6_charAt : Room := { frames := 3, cells := 0, slots := 0, locals := 64 }
set_option maxHeartbeats 8000000 in
theorem met_J6_charAt (l : Launch) (E : us_E) (A : Nat → Prop) (H0 : Heap) (i : Nat) (j : Int) (hi : i < 6) (hj : 0 ≤ j ∧ j < lenZ i) : cMet l yJ6_charAt cJ6_charAt 2 (some .char) rm_J6_charAt A E [.ref (E.2 (110 + i)), .int (zi j)] (fun H => H = H0) (qi A (fun r H => (r = byZ i j) ∧ (H = H0))) := by
  refine cMet.of (by decide) (Nat.le_of_ble_eq_true rfl) (fun p e s m args below meth c C hnm hX hS ls hl => ?_)
  have C : Cx p s m args meth c A RJ6 cJ6_charAt 2 (some .char) E := C
  have hX : s.heap = H0 := hX
  have hl : lv_has ls 2 [(0, .ref (E.2 (110 + i))), (1, .int (zi j))] := hl
  generalize hH : s.heap = H at hX
  have hS : va_S A s.heap H [] := by rw [← hH]; exact hS
  generalize hlocs : ([] : List Loc) = locs at hS ⊢
  obtain ⟨QQ, hQQ⟩ : ∃ zQQ, MQ below (qi A (fun r H => (r = byZ i j) ∧ (H = H0))) args s (rm_J6_charAt).cells (rm_J6_charAt).slots A = zQQ := ⟨_, rfl⟩
  rw [hQQ]
  have hlz := lenZ_r i hi
  have hbz := byZ_i hi hj
  refine lv_aload_n C.x C.b dJ6_charAt_0 rfl (lv_at hl 0 rfl) ?_
  refine r_callVi (As := []) (rest := []) (cells' := 0) (slots' := 0) C (met_J6_isLatin1 l E A H i (show i < 6 from (by omega))) (lw_V q473 q474 q475 q95 q476) hd_J6_isLatin1 rfl (by decide) (xs_recv C hS hi) rfl hS hl.1 rfl (Nat.le_of_ble_eq_true rfl) dJ6_charAt_1 rfl rfl ⟨Nat.le_of_ble_eq_true rfl, Nat.le_of_ble_eq_true rfl⟩ (fun rr H locs hp hS => ?_)
  obtain ⟨hrr, hH⟩ := hp
  have hrr : rr = bI True := hrr
  subst hrr
  have hX : H = H0 := by rw [hH]; exact hX
  refine r_if_eq_b (tgt := 16) C dJ6_charAt_4 (by decide) (fun c_1 => ?_) (fun c_1 => ?_)
  · exact absurd trivial c_1
  · refine lv_aload_n C.x C.b dJ6_charAt_7 rfl (lv_at hl 0 rfl) ?_
    refine xs_val C hS hi q1558 dJ6_charAt_8 ?_
    refine lv_iload_n C.x C.b dJ6_charAt_11 rfl (lv_at hl 1 rfl) ?_
    refine r_callSi (As := [.ref (E.2 (120 + i)), .int (zi j)]) (rest := []) (cells' := 0) (slots' := 0) C (met_J11_charAt l E A H i j (show i < 6 from (by omega)) (show 0 ≤ j ∧ j < lenZ i from (by omega))) (lw_S q477 q478 q106 q479) hd_J11_charAt rfl (by decide) rfl hS hl.1 rfl (Nat.le_of_ble_eq_true rfl) dJ6_charAt_12 rfl rfl ⟨Nat.le_of_ble_eq_true rfl, Nat.le_of_ble_eq_true rfl⟩ (fun rr H locs hp hS => ?_)
    obtain ⟨hrr, hH⟩ := hp
    have hrr : rr = byZ i j := hrr
    subst hrr
    have hX : H = H0 := by rw [hH]; exact hX
    rw [← hQQ]
    exact r_nret C (nar_c (by omega)) hS (Nat.le_of_ble_eq_true rfl) (Nat.le_of_ble_eq_true rfl) dJ6_charAt_15 ⟨(by first | rfl | exact (sel_t (by omega)).symm | exact (sel_f (by omega)).symm | omega), hX⟩

theorem hd_J1_init_2 : yJ1_init_2.cls = RJ1 ∧ yJ1_init_2.cls ≠ "java/lang/invoke/MethodHandle" ∧ yJ1_init_2.cls ≠ "java/lang/invoke/VarHandle" ∧ (parseMethodDescriptor yJ1_init_2.desc).map (fun d => d.parameters.length) = some 4 := by decide +kernel
abbrev rm_J1_init_2 : Room := { frames := 1, cells := 0, slots := 0, locals := 20 }
set_option maxHeartbeats 8000000 in
theorem met_J1_init_2 (l : Launch) (E : us_E) (A : Nat → Prop) (B : Nat → Int → Nat) (F : Nat → Int) (M : Nat → Int → Int) (G : Nat → Int → Option Nat) (T : x_T) (o : Nat) (hT5 : T 5 = some (o, .inr (8, [.null, .null, .null, .null, .null, .int (zi 0), .int (zi 0), .int (zi 0)]))) : cMet l yJ1_init_2 cJ1_init_2 5 none rm_J1_init_2 A E [.ref o, .null, .null, .int (zi 0), .int (zi 0)] (fun H => XH E A B F M G T H) (qv A (fun H => XH E A B F M G (va_up T 5 (some (o, .inr (8, [.null, .null, .null, .null, .null, .int (zi 0), .int (zi 0), .int (zi 0)])))) H)) := by
  refine cMet.of (by decide) (Nat.le_of_ble_eq_true rfl) (fun p e s m args below meth c C hnm hX hS ls hl => ?_)
  have C : Cx p s m args meth c A RJ1 cJ1_init_2 5 none E := C
  have hX : XH E A B F M G T s.heap := hX
  have hl : lv_has ls 5 [(0, .ref o), (1, .null), (2, .null), (3, .int (zi 0)), (4, .int (zi 0))] := hl
  generalize hH : s.heap = H at hX
  have hS : va_S A s.heap H [] := by rw [← hH]; exact hS
  generalize hlocs : ([] : List Loc) = locs at hS ⊢
  obtain ⟨QQ, hQQ⟩ : ∃ zQQ, MQ below (qv A (fun H => XH E A B F M G (va_up T 5 (some (o, .inr (8, [.null, .null, .null, .null, .null, .int (zi 0), .int (zi 0), .int (zi 0)])))) H)) args s (rm_J1_init_2).cells (rm_J1_init_2).slots A = zQQ := ⟨_, rfl⟩
  rw [hQQ]
  have hX : XH E A B F M G (va_up T 5 (some (o, .inr (8, [.null, .null, .null, .null, .null, .int (zi 0), .int (zi 0), .int (zi 0)])))) H := hX.to rfl rfl rfl rfl ((up_id (T) hT5).symm)
  refine lv_aload_n C.x C.b dJ1_init_2_0 rfl (lv_at hl 0 rfl) ?_
  refine r_obj C hl.1 q536 (Nat.le_of_ble_eq_true rfl) (by decide) dJ1_init_2_1 ?_
  refine lv_aload_n C.x C.b dJ1_init_2_4 rfl (lv_at hl 0 rfl) ?_
  refine lv_aload_n C.x C.b dJ1_init_2_5 rfl (lv_at hl 0 rfl) ?_
  refine x_top C hX hS 5 (by decide) (fs := [.null, .null, .null, .null, .null, .int (zi 0), .int (zi 0), .int (zi 0)]) (ci := 8) rfl in_X8 rfl tyX8 tyX8_ok nmX8 0 (by decide) q585 (fun _ h => h) rfl rfl rfl (by show 0 < 8; decide) (T' := (va_up T 5 (some (o, .inr (8, [.ref o, .null, .null, .null, .null, .int (zi 0), .int (zi 0), .int (zi 0)]))))) (up_up _ _ _ _) dJ1_init_2_6 (fun H locs hX hS => ?_)
  refine lv_aload_n C.x C.b dJ1_init_2_9 rfl (lv_at hl 0 rfl) ?_
  refine x_unas C hS q537 dJ1_init_2_10 (fun sv_1 hsv_1 => ?_)
  refine x_top C hX hS 5 (by decide) (fs := [.ref o, .null, .null, .null, .null, .int (zi 0), .int (zi 0), .int (zi 0)]) (ci := 8) rfl in_X8 rfl tyX8 tyX8_ok nmX8 1 (by decide) q586 (fun _ h => h) rfl (by rcases hsv_1 with rfl | ⟨_, rfl⟩ <;> rfl) (by rcases hsv_1 with rfl | ⟨_, rfl⟩ <;> rfl) (by show 1 < 8; decide) (T' := (va_up T 5 (some (o, .inr (8, [.ref o, sv_1, .null, .null, .null, .int (zi 0), .int (zi 0), .int (zi 0)]))))) (up_up _ _ _ _) dJ1_init_2_13 (fun H locs hX hS => ?_)
  refine lv_aload_n C.x C.b dJ1_init_2_16 rfl (lv_at hl 0 rfl) ?_
  refine x_supp C hS q539 dJ1_init_2_17 (fun sv_2 hsv_2 => ?_)
  refine x_top C hX hS 5 (by decide) (fs := [.ref o, sv_1, .null, .null, .null, .int (zi 0), .int (zi 0), .int (zi 0)]) (ci := 8) rfl in_X8 rfl tyX8 tyX8_ok nmX8 2 (by decide) q587 (fun _ h => h) rfl (by rcases hsv_2 with rfl | ⟨_, rfl⟩ <;> rfl) (by rcases hsv_2 with rfl | ⟨_, rfl⟩ <;> rfl) (by show 2 < 8; decide) (T' := (va_up T 5 (some (o, .inr (8, [.ref o, sv_1, sv_2, .null, .null, .int (zi 0), .int (zi 0), .int (zi 0)]))))) (up_up _ _ _ _) dJ1_init_2_20 (fun H locs hX hS => ?_)
  refine lv_iload C.x C.b dJ1_init_2_23 (lv_at hl 4 rfl) ?_
  refine r_if_eq (tgt := 36) C (by decide) dJ1_init_2_25 (by decide) (fun c_3 => ?_) (fun c_3 => ?_)
  · refine lv_aload_n C.x C.b dJ1_init_2_36 rfl (lv_at hl 0 rfl) ?_
    refine lv_null C.x C.b dJ1_init_2_37 ?_
    refine x_top C hX hS 5 (by decide) (fs := [.ref o, sv_1, sv_2, .null, .null, .int (zi 0), .int (zi 0), .int (zi 0)]) (ci := 8) rfl in_X8 rfl tyX8 tyX8_ok nmX8 1 (by decide) q586 (fun _ h => h) rfl rfl rfl (by show 1 < 8; decide) (T' := (va_up T 5 (some (o, .inr (8, [.ref o, .null, sv_2, .null, .null, .int (zi 0), .int (zi 0), .int (zi 0)]))))) (up_up _ _ _ _) dJ1_init_2_38 (fun H locs hX hS => ?_)
    refine lv_aload_n C.x C.b dJ1_init_2_41 rfl (lv_at hl 0 rfl) ?_
    refine lv_aload_nN C.x C.b dJ1_init_2_42 rfl (lv_at hl 1 rfl) ?_
    refine x_top C hX hS 5 (by decide) (fs := [.ref o, .null, sv_2, .null, .null, .int (zi 0), .int (zi 0), .int (zi 0)]) (ci := 8) rfl in_X8 rfl tyX8 tyX8_ok nmX8 3 (by decide) q584 (fun _ h => h) rfl rfl rfl (by show 3 < 8; decide) (T' := (va_up T 5 (some (o, .inr (8, [.ref o, .null, sv_2, .null, .null, .int (zi 0), .int (zi 0), .int (zi 0)]))))) (up_up _ _ _ _) dJ1_init_2_43 (fun H locs hX hS => ?_)
    refine lv_aload_n C.x C.b dJ1_init_2_46 rfl (lv_at hl 0 rfl) ?_
    refine lv_aload_nN C.x C.b dJ1_init_2_47 rfl (lv_at hl 2 rfl) ?_
    refine x_top C hX hS 5 (by decide) (fs := [.ref o, .null, sv_2, .null, .null, .int (zi 0), .int (zi 0), .int (zi 0)]) (ci := 8) rfl in_X8 rfl tyX8 tyX8_ok nmX8 0 (by decide) q585 (fun _ h => h) rfl rfl rfl (by show 0 < 8; decide) (T' := (va_up T 5 (some (o, .inr (8, [.null, .null, sv_2, .null, .null, .int (zi 0), .int (zi 0), .int (zi 0)]))))) (up_up _ _ _ _) dJ1_init_2_48 (fun H locs hX hS => ?_)
    refine lv_iload_n C.x C.b dJ1_init_2_51 rfl (lv_at hl 3 rfl) ?_
    refine r_if_ne (tgt := 60) C (by decide) dJ1_init_2_52 (by decide) (fun c_4 => ?_) (fun c_4 => ?_)
    · exact absurd (by decide) c_4
    · refine lv_aload_n C.x C.b dJ1_init_2_55 rfl (lv_at hl 0 rfl) ?_
      refine lv_null C.x C.b dJ1_init_2_56 ?_
      refine x_top C hX hS 5 (by decide) (fs := [.null, .null, sv_2, .null, .null, .int (zi 0), .int (zi 0), .int (zi 0)]) (ci := 8) rfl in_X8 rfl tyX8 tyX8_ok nmX8 2 (by decide) q587 (fun _ h => h) rfl rfl rfl (by show 2 < 8; decide) (T' := (va_up T 5 (some (o, .inr (8, [.null, .null, .null, .null, .null, .int (zi 0), .int (zi 0), .int (zi 0)]))))) (up_up _ _ _ _) dJ1_init_2_57 (fun H locs hX hS => ?_)
      rw [← hQQ]
      exact r_vret C hS (Nat.le_of_ble_eq_true rfl) (Nat.le_of_ble_eq_true rfl) dJ1_init_2_60 hX
  · exact absurd (by decide) c_3

theorem hd_J2_init : yJ2_init.cls = RJ2 ∧ yJ2_init.cls ≠ "java/lang/invoke/MethodHandle" ∧ yJ2_init.cls ≠ "java/lang/invoke/VarHandle" ∧ (parseMethodDescriptor yJ2_init.desc).map (fun d => d.parameters.length) = some 4 := by decide +kernel
abbrev rm_J2_init : Room := { frames := 2, cells := 0, slots := 0, locals := 44 }
set_option maxHeartbeats 8000000 in
theorem met_J2_init (l : Launch) (E : us_E) (A : Nat → Prop) (B : Nat → Int → Nat) (F : Nat → Int) (M : Nat → Int → Int) (G : Nat → Int → Option Nat) (T : x_T) (o : Nat) (hT5 : T 5 = some (o, .inr (8, [.null, .null, .null, .null, .null, .int (zi 0), .int (zi 0), .int (zi 0)]))) : cMet l yJ2_init cJ2_init 5 none rm_J2_init A E [.ref o, .null, .null, .int (zi 0), .int (zi 0)] (fun H => XH E A B F M G T H) (qv A (fun H => XH E A B F M G (va_up T 5 (some (o, .inr (8, [.null, .null, .null, .null, .null, .int (zi 0), .int (zi 0), .int (zi 0)])))) H)) := by
  refine cMet.of (by decide) (Nat.le_of_ble_eq_true rfl) (fun p e s m args below meth c C hnm hX hS ls hl => ?_)
  have C : Cx p s m args meth c A RJ2 cJ2_init 5 none E := C
  have hX : XH E A B F M G T s.heap := hX
  have hl : lv_has ls 5 [(0, .ref o), (1, .null), (2, .null), (3, .int (zi 0)), (4, .int (zi 0))] := hl
  generalize hH : s.heap = H at hX
  have hS : va_S A s.heap H [] := by rw [← hH]; exact hS
  generalize hlocs : ([] : List Loc) = locs at hS ⊢
  obtain ⟨QQ, hQQ⟩ : ∃ zQQ, MQ below (qv A (fun H => XH E A B F M G (va_up T 5 (some (o, .inr (8, [.null, .null, .null, .null, .null, .int (zi 0), .int (zi 0), .int (zi 0)])))) H)) args s (rm_J2_init).cells (rm_J2_init).slots A = zQQ := ⟨_, rfl⟩
  rw [hQQ]
  have hX : XH E A B F M G (va_up T 5 (some (o, .inr (8, [.null, .null, .null, .null, .null, .int (zi 0), .int (zi 0), .int (zi 0)])))) H := hX.to rfl rfl rfl rfl ((up_id (T) hT5).symm)
  refine lv_aload_n C.x C.b dJ2_init_0 rfl (lv_at hl 0 rfl) ?_
  refine lv_aload_nN C.x C.b dJ2_init_1 rfl (lv_at hl 1 rfl) ?_
  refine lv_aload_nN C.x C.b dJ2_init_2 rfl (lv_at hl 2 rfl) ?_
  refine lv_iload_n C.x C.b dJ2_init_3 rfl (lv_at hl 3 rfl) ?_
  refine lv_iload C.x C.b dJ2_init_4 (lv_at hl 4 rfl) ?_
  refine r_callIv (As := [.null, .null, .int (zi 0), .int (zi 0)]) (rest := []) (cells' := 0) (slots' := 0) C (met_J1_init_2 l E A B F M G (va_up T 5 (some (o, .inr (8, [.null, .null, .null, .null, .null, .int (zi 0), .int (zi 0), .int (zi 0)])))) o rfl) q578 q90 q576 q577 rfl hd_J1_init_2.2 rfl (by decide) hX hS hl.1 rfl (Nat.le_of_ble_eq_true rfl) dJ2_init_6 rfl rfl ⟨Nat.le_of_ble_eq_true rfl, Nat.le_of_ble_eq_true rfl⟩ (fun H locs hp hS => ?_)
  have hX := hp
  have hX : XH E A B F M G (va_up T 5 (some (o, .inr (8, [.null, .null, .null, .null, .null, .int (zi 0), .int (zi 0), .int (zi 0)])))) H := hX.to rfl rfl rfl rfl (up_up _ _ _ _)
  rw [← hQQ]
  exact r_vret C hS (Nat.le_of_ble_eq_true rfl) (Nat.le_of_ble_eq_true rfl) dJ2_init_9 hX

theorem hd_J3_init : yJ3_init.cls = RJ3 ∧ yJ3_init.cls ≠ "java/lang/invoke/MethodHandle" ∧ yJ3_init.cls ≠ "java/lang/invoke/VarHandle" ∧ (parseMethodDescriptor yJ3_init.desc).map (fun d => d.parameters.length) = some 4 := by decide +kernel
abbrev rm_J3_init : Room := { frames := 3, cells := 0, slots := 0, locals := 68 }
set_option maxHeartbeats 8000000 in
theorem met_J3_init (l : Launch) (E : us_E) (A : Nat → Prop) (B : Nat → Int → Nat) (F : Nat → Int) (M : Nat → Int → Int) (G : Nat → Int → Option Nat) (T : x_T) (o : Nat) (hT5 : T 5 = some (o, .inr (8, [.null, .null, .null, .null, .null, .int (zi 0), .int (zi 0), .int (zi 0)]))) : cMet l yJ3_init cJ3_init 5 none rm_J3_init A E [.ref o, .null, .null, .int (zi 0), .int (zi 0)] (fun H => XH E A B F M G T H) (qv A (fun H => XH E A B F M G (va_up T 5 (some (o, .inr (8, [.null, .null, .null, .null, .null, .int (zi 0), .int (zi 0), .int (zi 0)])))) H)) := by
  refine cMet.of (by decide) (Nat.le_of_ble_eq_true rfl) (fun p e s m args below meth c C hnm hX hS ls hl => ?_)
  have C : Cx p s m args meth c A RJ3 cJ3_init 5 none E := C
  have hX : XH E A B F M G T s.heap := hX
  have hl : lv_has ls 5 [(0, .ref o), (1, .null), (2, .null), (3, .int (zi 0)), (4, .int (zi 0))] := hl
  generalize hH : s.heap = H at hX
  have hS : va_S A s.heap H [] := by rw [← hH]; exact hS
  generalize hlocs : ([] : List Loc) = locs at hS ⊢
  obtain ⟨QQ, hQQ⟩ : ∃ zQQ, MQ below (qv A (fun H => XH E A B F M G (va_up T 5 (some (o, .inr (8, [.null, .null, .null, .null, .null, .int (zi 0), .int (zi 0), .int (zi 0)])))) H)) args s (rm_J3_init).cells (rm_J3_init).slots A = zQQ := ⟨_, rfl⟩
  rw [hQQ]
  have hX : XH E A B F M G (va_up T 5 (some (o, .inr (8, [.null, .null, .null, .null, .null, .int (zi 0), .int (zi 0), .int (zi 0)])))) H := hX.to rfl rfl rfl rfl ((up_id (T) hT5).symm)
  refine lv_aload_n C.x C.b dJ3_init_0 rfl (lv_at hl 0 rfl) ?_
  refine lv_aload_nN C.x C.b dJ3_init_1 rfl (lv_at hl 1 rfl) ?_
  refine lv_aload_nN C.x C.b dJ3_init_2 rfl (lv_at hl 2 rfl) ?_
  refine lv_iload_n C.x C.b dJ3_init_3 rfl (lv_at hl 3 rfl) ?_
  refine lv_iload C.x C.b dJ3_init_4 (lv_at hl 4 rfl) ?_
  refine r_callIv (As := [.null, .null, .int (zi 0), .int (zi 0)]) (rest := []) (cells' := 0) (slots' := 0) C (met_J2_init l E A B F M G (va_up T 5 (some (o, .inr (8, [.null, .null, .null, .null, .null, .int (zi 0), .int (zi 0), .int (zi 0)])))) o rfl) q575 q91 q573 q574 rfl hd_J2_init.2 rfl (by decide) hX hS hl.1 rfl (Nat.le_of_ble_eq_true rfl) dJ3_init_6 rfl rfl ⟨Nat.le_of_ble_eq_true rfl, Nat.le_of_ble_eq_true rfl⟩ (fun H locs hp hS => ?_)
  have hX := hp
  have hX : XH E A B F M G (va_up T 5 (some (o, .inr (8, [.null, .null, .null, .null, .null, .int (zi 0), .int (zi 0), .int (zi 0)])))) H := hX.to rfl rfl rfl rfl (up_up _ _ _ _)
  rw [← hQQ]
  exact r_vret C hS (Nat.le_of_ble_eq_true rfl) (Nat.le_of_ble_eq_true rfl) dJ3_init_9 hX

theorem hd_X8_init : yX8_init.cls = RX8 ∧ yX8_init.cls ≠ "java/lang/invoke/MethodHandle" ∧ yX8_init.cls ≠ "java/lang/invoke/VarHandle" ∧ (parseMethodDescriptor yX8_init.desc).map (fun d => d.parameters.length) = some 2 := by decide +kernel
abbrev rm_X8_init : Room := { frames := 4, cells := 0, slots := 0, locals := 92 }
set_option maxHeartbeats 8000000 in
theorem met_X8_init (l : Launch) (E : us_E) (A : Nat → Prop) (B : Nat → Int → Nat) (F : Nat → Int) (M : Nat → Int → Int) (G : Nat → Int → Option Nat) (T : x_T) (o : Nat) (k : Int) (v : Int) (hk : -2147483648 ≤ k ∧ k < 2147483648) (hv : -2147483648 ≤ v ∧ v < 2147483648) (hT5 : T 5 = some (o, .inr (8, [.null, .null, .null, .null, .null, .int (zi 0), .int (zi 0), .int (zi 0)]))) : cMet l yX8_init cX8_init 3 none rm_X8_init A E [.ref o, .int (zi k), .int (zi v)] (fun H => XH E A B F M G T H) (qv A (fun H => XH E A B F M G (va_up T 5 (some (o, .inr (8, [.null, .null, .null, .null, .null, .int (zi 0), .int (zi k), .int (zi v)])))) H)) := by
  refine cMet.of (by decide) (Nat.le_of_ble_eq_true rfl) (fun p e s m args below meth c C hnm hX hS ls hl => ?_)
  have C : Cx p s m args meth c A RX8 cX8_init 3 none E := C
  have hX : XH E A B F M G T s.heap := hX
  have hl : lv_has ls 3 [(0, .ref o), (1, .int (zi k)), (2, .int (zi v))] := hl
  generalize hH : s.heap = H at hX
  have hS : va_S A s.heap H [] := by rw [← hH]; exact hS
  generalize hlocs : ([] : List Loc) = locs at hS ⊢
  obtain ⟨QQ, hQQ⟩ : ∃ zQQ, MQ below (qv A (fun H => XH E A B F M G (va_up T 5 (some (o, .inr (8, [.null, .null, .null, .null, .null, .int (zi 0), .int (zi k), .int (zi v)])))) H)) args s (rm_X8_init).cells (rm_X8_init).slots A = zQQ := ⟨_, rfl⟩
  rw [hQQ]
  have hX : XH E A B F M G (va_up T 5 (some (o, .inr (8, [.null, .null, .null, .null, .null, .int (zi 0), .int (zi 0), .int (zi 0)])))) H := hX.to rfl rfl rfl rfl ((up_id (T) hT5).symm)
  refine lv_aload_n C.x C.b dX8_init_0 rfl (lv_at hl 0 rfl) ?_
  refine lv_null C.x C.b dX8_init_1 ?_
  refine lv_null C.x C.b dX8_init_2 ?_
  refine r_const C dX8_init_3 ?_
  refine r_const C dX8_init_4 ?_
  refine r_callIv (As := [.null, .null, .int (zi 0), .int (zi 0)]) (rest := []) (cells' := 0) (slots' := 0) C (met_J3_init l E A B F M G (va_up T 5 (some (o, .inr (8, [.null, .null, .null, .null, .null, .int (zi 0), .int (zi 0), .int (zi 0)])))) o rfl) q572 q92 q570 q571 rfl hd_J3_init.2 rfl (by decide) hX hS hl.1 rfl (Nat.le_of_ble_eq_true rfl) dX8_init_5 rfl rfl ⟨Nat.le_of_ble_eq_true rfl, Nat.le_of_ble_eq_true rfl⟩ (fun H locs hp hS => ?_)
  have hX := hp
  have hX : XH E A B F M G (va_up T 5 (some (o, .inr (8, [.null, .null, .null, .null, .null, .int (zi 0), .int (zi 0), .int (zi 0)])))) H := hX.to rfl rfl rfl rfl (up_up _ _ _ _)
  refine lv_aload_n C.x C.b dX8_init_8 rfl (lv_at hl 0 rfl) ?_
  refine lv_iload_n C.x C.b dX8_init_9 rfl (lv_at hl 1 rfl) ?_
  refine x_topF C hX hS 5 (by decide) (fs := [.null, .null, .null, .null, .null, .int (zi 0), .int (zi 0), .int (zi 0)]) (ci := 8) rfl in_X8 rfl tyX8 tyX8_ok nmX8 6 (by decide) q579 (fun _ h => h) rfl hnm rfl rfl rfl (by show 6 < 8; decide) (T' := (va_up T 5 (some (o, .inr (8, [.null, .null, .null, .null, .null, .int (zi 0), .int (zi k), .int (zi 0)]))))) (up_up _ _ _ _) dX8_init_10 (fun H locs hX hS => ?_)
  refine lv_aload_n C.x C.b dX8_init_13 rfl (lv_at hl 0 rfl) ?_
  refine lv_iload_n C.x C.b dX8_init_14 rfl (lv_at hl 2 rfl) ?_
  refine x_topF C hX hS 5 (by decide) (fs := [.null, .null, .null, .null, .null, .int (zi 0), .int (zi k), .int (zi 0)]) (ci := 8) rfl in_X8 rfl tyX8 tyX8_ok nmX8 7 (by decide) q581 (fun _ h => h) rfl hnm rfl rfl rfl (by show 7 < 8; decide) (T' := (va_up T 5 (some (o, .inr (8, [.null, .null, .null, .null, .null, .int (zi 0), .int (zi k), .int (zi v)]))))) (up_up _ _ _ _) dX8_init_15 (fun H locs hX hS => ?_)
  rw [← hQQ]
  exact r_vret C hS (Nat.le_of_ble_eq_true rfl) (Nat.le_of_ble_eq_true rfl) dX8_init_18 hX

theorem hd_X9_init : yX9_init.cls = RX9 ∧ yX9_init.cls ≠ "java/lang/invoke/MethodHandle" ∧ yX9_init.cls ≠ "java/lang/invoke/VarHandle" ∧ (parseMethodDescriptor yX9_init.desc).map (fun d => d.parameters.length) = some 3 := by decide +kernel
abbrev rm_X9_init : Room := { frames := 1, cells := 0, slots := 0, locals := 20 }
set_option maxHeartbeats 8000000 in
theorem met_X9_init (l : Launch) (E : us_E) (A : Nat → Prop) (B : Nat → Int → Nat) (F : Nat → Int) (M : Nat → Int → Int) (G : Nat → Int → Option Nat) (T : x_T) (o : Nat) (k : Int) (n : Int) (d : Int) (hT4 : T 4 = some (o, .inr (4, [.int (zi 0), .int (zi 0), .int (zi 0), .int (zi 0), .int (zi 0)]))) : cMet l yX9_init cX9_init 4 none rm_X9_init A E [.ref o, .int (zi k), .int (zi n), .int (zi d)] (fun H => XH E A B F M G T H) (qv A (fun H => XH E A B F M G (va_up T 4 (some (o, .inr (4, [.int (zi k), .int (zi n), .int (zi d), .int (zi 0), .int (zi (-4))])))) H)) := by
  refine cMet.of (by decide) (Nat.le_of_ble_eq_true rfl) (fun p e s m args below meth c C hnm hX hS ls hl => ?_)
  have C : Cx p s m args meth c A RX9 cX9_init 4 none E := C
  have hX : XH E A B F M G T s.heap := hX
  have hl : lv_has ls 4 [(0, .ref o), (1, .int (zi k)), (2, .int (zi n)), (3, .int (zi d))] := hl
  generalize hH : s.heap = H at hX
  have hS : va_S A s.heap H [] := by rw [← hH]; exact hS
  generalize hlocs : ([] : List Loc) = locs at hS ⊢
  obtain ⟨QQ, hQQ⟩ : ∃ zQQ, MQ below (qv A (fun H => XH E A B F M G (va_up T 4 (some (o, .inr (4, [.int (zi k), .int (zi n), .int (zi d), .int (zi 0), .int (zi (-4))])))) H)) args s (rm_X9_init).cells (rm_X9_init).slots A = zQQ := ⟨_, rfl⟩
  rw [hQQ]
  have hX : XH E A B F M G (va_up T 4 (some (o, .inr (4, [.int (zi 0), .int (zi 0), .int (zi 0), .int (zi 0), .int (zi 0)])))) H := hX.to rfl rfl rfl rfl ((up_id (T) hT4).symm)
  refine lv_aload_n C.x C.b dX9_init_0 rfl (lv_at hl 0 rfl) ?_
  refine r_obj C hl.1 q635 (Nat.le_of_ble_eq_true rfl) (by decide) dX9_init_1 ?_
  refine lv_aload_n C.x C.b dX9_init_4 rfl (lv_at hl 0 rfl) ?_
  refine r_bipush C (by decide) dX9_init_5 ?_
  refine x_top C hX hS 4 (by decide) (fs := [.int (zi 0), .int (zi 0), .int (zi 0), .int (zi 0), .int (zi 0)]) (ci := 4) rfl in_X9 rfl tyX9 tyX9_ok nmX9 4 (by decide) q646 (fun _ h => h) rfl rfl rfl (by show 4 < 5; decide) (T' := (va_up T 4 (some (o, .inr (4, [.int (zi 0), .int (zi 0), .int (zi 0), .int (zi 0), .int (zi (-4))]))))) (up_up _ _ _ _) dX9_init_7 (fun H locs hX hS => ?_)
  refine lv_aload_n C.x C.b dX9_init_10 rfl (lv_at hl 0 rfl) ?_
  refine lv_iload_n C.x C.b dX9_init_11 rfl (lv_at hl 1 rfl) ?_
  refine x_topF C hX hS 4 (by decide) (fs := [.int (zi 0), .int (zi 0), .int (zi 0), .int (zi 0), .int (zi (-4))]) (ci := 4) rfl in_X9 rfl tyX9 tyX9_ok nmX9 0 (by decide) q636 (fun _ h => h) rfl hnm rfl rfl rfl (by show 0 < 5; decide) (T' := (va_up T 4 (some (o, .inr (4, [.int (zi k), .int (zi 0), .int (zi 0), .int (zi 0), .int (zi (-4))]))))) (up_up _ _ _ _) dX9_init_12 (fun H locs hX hS => ?_)
  refine lv_aload_n C.x C.b dX9_init_15 rfl (lv_at hl 0 rfl) ?_
  refine lv_iload_n C.x C.b dX9_init_16 rfl (lv_at hl 2 rfl) ?_
  refine x_topF C hX hS 4 (by decide) (fs := [.int (zi k), .int (zi 0), .int (zi 0), .int (zi 0), .int (zi (-4))]) (ci := 4) rfl in_X9 rfl tyX9 tyX9_ok nmX9 1 (by decide) q639 (fun _ h => h) rfl hnm rfl rfl rfl (by show 1 < 5; decide) (T' := (va_up T 4 (some (o, .inr (4, [.int (zi k), .int (zi n), .int (zi 0), .int (zi 0), .int (zi (-4))]))))) (up_up _ _ _ _) dX9_init_17 (fun H locs hX hS => ?_)
  refine lv_aload_n C.x C.b dX9_init_20 rfl (lv_at hl 0 rfl) ?_
  refine lv_iload_n C.x C.b dX9_init_21 rfl (lv_at hl 3 rfl) ?_
  refine x_topF C hX hS 4 (by decide) (fs := [.int (zi k), .int (zi n), .int (zi 0), .int (zi 0), .int (zi (-4))]) (ci := 4) rfl in_X9 rfl tyX9 tyX9_ok nmX9 2 (by decide) q642 (fun _ h => h) rfl hnm rfl rfl rfl (by show 2 < 5; decide) (T' := (va_up T 4 (some (o, .inr (4, [.int (zi k), .int (zi n), .int (zi d), .int (zi 0), .int (zi (-4))]))))) (up_up _ _ _ _) dX9_init_22 (fun H locs hX hS => ?_)
  rw [← hQQ]
  exact r_vret C hS (Nat.le_of_ble_eq_true rfl) (Nat.le_of_ble_eq_true rfl) dX9_init_25 hX

theorem hd_X3_init : yX3_init.cls = RX3 ∧ yX3_init.cls ≠ "java/lang/invoke/MethodHandle" ∧ yX3_init.cls ≠ "java/lang/invoke/VarHandle" ∧ (parseMethodDescriptor yX3_init.desc).map (fun d => d.parameters.length) = some 1 := by decide +kernel
abbrev rm_X3_init : Room := { frames := 1, cells := 0, slots := 0, locals := 20 }
set_option maxHeartbeats 8000000 in
theorem met_X3_init (l : Launch) (E : us_E) (A : Nat → Prop) (B : Nat → Int → Nat) (F : Nat → Int) (M : Nat → Int → Int) (G : Nat → Int → Option Nat) (T : x_T) (o : Nat) (a : Nat) (hT1 : T 1 = some (o, .inr (1, [.null]))) : cMet l yX3_init cX3_init 2 none rm_X3_init A E [.ref o, .ref a] (fun H => XH E A B F M G T H) (qv A (fun H => XH E A B F M G (va_up T 1 (some (o, .inr (1, [.ref a])))) H)) := by
  refine cMet.of (by decide) (Nat.le_of_ble_eq_true rfl) (fun p e s m args below meth c C hnm hX hS ls hl => ?_)
  have C : Cx p s m args meth c A RX3 cX3_init 2 none E := C
  have hX : XH E A B F M G T s.heap := hX
  have hl : lv_has ls 2 [(0, .ref o), (1, .ref a)] := hl
  generalize hH : s.heap = H at hX
  have hS : va_S A s.heap H [] := by rw [← hH]; exact hS
  generalize hlocs : ([] : List Loc) = locs at hS ⊢
  obtain ⟨QQ, hQQ⟩ : ∃ zQQ, MQ below (qv A (fun H => XH E A B F M G (va_up T 1 (some (o, .inr (1, [.ref a])))) H)) args s (rm_X3_init).cells (rm_X3_init).slots A = zQQ := ⟨_, rfl⟩
  rw [hQQ]
  have hX : XH E A B F M G (va_up T 1 (some (o, .inr (1, [.null])))) H := hX.to rfl rfl rfl rfl ((up_id (T) hT1).symm)
  refine lv_aload_n C.x C.b dX3_init_0 rfl (lv_at hl 0 rfl) ?_
  refine r_obj C hl.1 q998 (Nat.le_of_ble_eq_true rfl) (by decide) dX3_init_1 ?_
  refine lv_aload_n C.x C.b dX3_init_4 rfl (lv_at hl 0 rfl) ?_
  refine lv_aload_n C.x C.b dX3_init_5 rfl (lv_at hl 1 rfl) ?_
  refine x_topF C hX hS 1 (by decide) (fs := [.null]) (ci := 1) rfl in_X3 rfl tyX3 tyX3_ok nmX3 0 (by decide) q999 (fun _ h => h) rfl hnm rfl rfl rfl (by show 0 < 1; decide) (T' := (va_up T 1 (some (o, .inr (1, [.ref a]))))) (up_up _ _ _ _) dX3_init_6 (fun H locs hX hS => ?_)
  rw [← hQQ]
  exact r_vret C hS (Nat.le_of_ble_eq_true rfl) (Nat.le_of_ble_eq_true rfl) dX3_init_9 hX
