set_option maxRecDepth 100000

theorem hd_X2_form : yX2_form.cls = RX2 ∧ yX2_form.cls ≠ "java/lang/invoke/MethodHandle" ∧ yX2_form.cls ≠ "java/lang/invoke/VarHandle" ∧ (parseMethodDescriptor yX2_form.desc).map (fun d => d.parameters.length) = some 1 := by decide +kernel
abbrev rm_X2_form : Room := { frames := 1, cells := 0, slots := 0, locals := 25 }
set_option maxHeartbeats 8000000 in
theorem met_X2_form (l : Launch) (E : us_E) (A : Nat → Prop) (ad : Nat → Nat) (F : Nat → Int) (M : Nat → Int → Int) (v : Int) (hv : -2147483648 ≤ v ∧ v < 2147483648) : cMet l yX2_form cX2_form 2 (some .int) rm_X2_form A E [.ref (ad 63), .int (zi v)] (fun H => MH E A ad F M H) (qi A (fun r H => ∃ f0 : Int, ∃ m1 : Int → Int, (f0 = sel ((0 ≤ v ∧ v ≤ 4095) ∧ ¬ F 0 = 24) (F 0 + 1) (F 0)) ∧ (m1 = sel ((0 ≤ v ∧ v ≤ 4095) ∧ ¬ F 0 = 24) (fup (M 1) (F 0) v) (M 1)) ∧ (r = sel (0 ≤ v ∧ v ≤ 4095) (sel (F 0 = 24) (-3) (F 0)) (-1)) ∧ MH E A ad (va_up F 0 f0) (va_up M 1 m1) H)) := by
  refine cMet.of (by decide) (Nat.le_of_ble_eq_true rfl) (fun p e s m args below meth c C hnm hX hS ls hl => ?_)
  have C : Cx p s m args meth c A RX2 cX2_form 2 (some .int) E := C
  have hX : MH E A ad F M s.heap := hX
  have hl : lv_has ls 2 [(0, .ref (ad 63)), (1, .int (zi v))] := hl
  generalize hH : s.heap = H at hX
  have hS : va_S A s.heap H [] := by rw [← hH]; exact hS
  generalize hlocs : ([] : List Loc) = locs at hS ⊢
  have rF0 : 0 ≤ F 0 ∧ F 0 ≤ 24 := hX.2.1 0 (0, 24) rfl
  refine lv_iload_n C.x C.b dX2_form_0 rfl (lv_at hl 1 rfl) ?_
  refine r_i2l C (by omega) dX2_form_1 ?_
  refine r_lconst C 0 rfl dX2_form_2 ?_
  refine r_ldc2 C 4095 (by decide) q1208 dX2_form_3 ?_
  refine r_callSi (As := [.long (zl v), .long (zl 0), .long (zl 4095)]) (rest := []) (cells' := 0) (slots' := 0) C (met_X2_in l E A ad H v 0 4095 (show -9223372036854775808 ≤ v ∧ v < 9223372036854775808 from (by omega)) (show -9223372036854775808 ≤ 0 ∧ 0 < 9223372036854775808 from (by omega)) (show -9223372036854775808 ≤ 4095 ∧ 4095 < 9223372036854775808 from (by omega))) (lw_S q1209 q1210 q88 q1211) hd_X2_in rfl (by decide) rfl hS hl.1 rfl (Nat.le_of_ble_eq_true rfl) dX2_form_6 rfl rfl ⟨Nat.le_of_ble_eq_true rfl, Nat.le_of_ble_eq_true rfl⟩ (fun rr H locs hp hS => ?_)
  obtain ⟨hrr, hH⟩ := hp
  have hrr : rr = bI (0 ≤ v ∧ v ≤ 4095) := hrr
  subst hrr
  have hX : MH E A ad F M H := by rw [hH]; exact hX
  refine r_if_ne_b (tgt := 14) C dX2_form_9 (by decide) (fun c_1 => ?_) (fun c_1 => ?_)
  · refine lv_aload_n C.x C.b dX2_form_14 rfl (lv_at hl 0 rfl) ?_
    refine mg_0 C hX (F 0) rfl dX2_form_15 (fun _ => ?_)
    refine r_bipush C (by decide) dX2_form_18 ?_
    refine r_icmp_ne (tgt := 26) C (by omega) (by decide) dX2_form_20 (by decide) (fun c_2 => ?_) (fun c_2 => ?_)
    · refine lv_aload_n C.x C.b dX2_form_26 rfl (lv_at hl 0 rfl) ?_
      refine mg_1 C hX dX2_form_27 ?_
      refine lv_aload_n C.x C.b dX2_form_30 rfl (lv_at hl 0 rfl) ?_
      refine mg_0 C hX (F 0) rfl dX2_form_31 (fun _ => ?_)
      refine lv_iload_n C.x C.b dX2_form_34 rfl (lv_at hl 1 rfl) ?_
      refine ms_1 C hX hS (by omega) (by omega) (M 1) rfl (M' := (va_up M 1 (fup (M 1) (F 0) v))) rfl dX2_form_35 (fun H locs hX hS => ?_)
      refine lv_aload_n C.x C.b dX2_form_36 rfl (lv_at hl 0 rfl) ?_
      refine lv_dup C.x C.b dX2_form_37 rfl ?_
      refine mg_0 C hX (F 0) rfl dX2_form_38 (fun _ => ?_)
      refine r_const C dX2_form_41 ?_
      refine r_iadd C dX2_form_42 ?_
      refine mp_0 C hX hS (by omega) (F' := (va_up F 0 ((F 0) + 1))) rfl dX2_form_43 (fun H locs hX hS => ?_)
      refine lv_aload_n C.x C.b dX2_form_46 rfl (lv_at hl 0 rfl) ?_
      refine mg_0 C hX ((F 0) + 1) rfl dX2_form_47 (fun r47 => ?_)
      refine r_const C dX2_form_50 ?_
      refine r_isub C dX2_form_51 ?_
      exact r_iret C hS (Nat.le_of_ble_eq_true rfl) (Nat.le_of_ble_eq_true rfl) dX2_form_52 ⟨((F 0) + 1), (fup (M 1) (F 0) v), (by first | rfl | assumption | exact (sel_t (by omega)).symm | exact (sel_f (by omega)).symm | omega), (by first | rfl | assumption | exact (sel_t (by omega)).symm | exact (sel_f (by omega)).symm | omega), (by first | rfl | ((repeat first | rw [sel_t (by omega)] | rw [sel_f (by omega)]) <;> first | rfl | omega)), hX⟩
    · refine r_bipush C (by decide) dX2_form_23 ?_
      exact r_iret C hS (Nat.le_of_ble_eq_true rfl) (Nat.le_of_ble_eq_true rfl) dX2_form_25 ⟨(F 0), (M 1), (by first | rfl | assumption | exact (sel_t (by omega)).symm | exact (sel_f (by omega)).symm | omega), (by first | rfl | assumption | exact (sel_t (by omega)).symm | exact (sel_f (by omega)).symm | omega), (by first | rfl | ((repeat first | rw [sel_t (by omega)] | rw [sel_f (by omega)]) <;> first | rfl | omega)), (hX.to ((up_id F (k := 0) (a := (F 0)) rfl).symm.trans rfl) ((up_id M (k := 1) (a := (M 1)) rfl).symm.trans rfl))⟩
  · refine r_const C dX2_form_12 ?_
    exact r_iret C hS (Nat.le_of_ble_eq_true rfl) (Nat.le_of_ble_eq_true rfl) dX2_form_13 ⟨(F 0), (M 1), (by first | rfl | assumption | exact (sel_t (by omega)).symm | exact (sel_f (by omega)).symm | omega), (by first | rfl | assumption | exact (sel_t (by omega)).symm | exact (sel_f (by omega)).symm | omega), (by first | rfl | ((repeat first | rw [sel_t (by omega)] | rw [sel_f (by omega)]) <;> first | rfl | omega)), (hX.to ((up_id F (k := 0) (a := (F 0)) rfl).symm.trans rfl) ((up_id M (k := 1) (a := (M 1)) rfl).symm.trans rfl))⟩

theorem hd_X2_signMany : yX2_signMany.cls = RX2 ∧ yX2_signMany.cls ≠ "java/lang/invoke/MethodHandle" ∧ yX2_signMany.cls ≠ "java/lang/invoke/VarHandle" ∧ (parseMethodDescriptor yX2_signMany.desc).map (fun d => d.parameters.length) = some 0 := by decide +kernel
abbrev rm_X2_signMany : Room := { frames := 0, cells := 0, slots := 0, locals := 0 }
set_option maxHeartbeats 8000000 in
theorem met_X2_signMany (l : Launch) (E : us_E) (A : Nat → Prop) (ad : Nat → Nat) (F : Nat → Int) (M : Nat → Int → Int) : cMet l yX2_signMany cX2_signMany 3 (some .int) rm_X2_signMany A E [.ref (ad 63)] (fun H => MH E A ad F M H) (qi A (fun r H => (0 ≤ sgn_many (F 0) (M 3) ∧ sgn_many (F 0) (M 3) ≤ F 0) ∧ (r = sgn_many (F 0) (M 3)) ∧ MH E A ad F M H)) := by
  refine cMet.of (by decide) (Nat.le_of_ble_eq_true rfl) (fun p e s m args below meth c C hnm hX hS ls hl => ?_)
  have C : Cx p s m args meth c A RX2 cX2_signMany 3 (some .int) E := C
  have hX : MH E A ad F M s.heap := hX
  have hl : lv_has ls 3 [(0, .ref (ad 63))] := hl
  generalize hH : s.heap = H at hX
  have hS : va_S A s.heap H [] := by rw [← hH]; exact hS
  generalize hlocs : ([] : List Loc) = locs at hS ⊢
  have rF0 : 0 ≤ F 0 ∧ F 0 ≤ 24 := hX.2.1 0 (0, 24) rfl
  refine r_const C dX2_signMany_0 ?_
  refine lv_istore_n (lv' := [(1, .int (zi 0)), (0, .ref (ad 63))]) C.x C.b dX2_signMany_1 rfl hl (by decide) rfl (fun ls hl => ?_)
  refine r_const C dX2_signMany_2 ?_
  refine lv_istore_n (lv' := [(2, .int (zi 0)), (1, .int (zi 0)), (0, .ref (ad 63))]) C.x C.b dX2_signMany_3 rfl hl (by decide) rfl (fun ls hl => ?_)
  have L4 : ∀ (fu : Nat) (v1 : Int) (v2 : Int) (hi : 0 ≤ v2 ∧ v2 ≤ F 0) (ha : v1 = isum (fun k => bI (M 3 k = k)) v2) (hm : Int.toNat (F 0 - v2) < fu) (H : Heap) (locs : List Loc) (ls : Array Slot) (hX : MH E A ad F M H) (hS : va_S A s.heap H locs) (hl : lv_has ls 3 [(0, .ref (ad 63)), (1, .int (zi v1)), (2, .int (zi v2))]), W p l e rm_X2_signMany s m args below meth c H locs 0 0 (MQ below (qi A (fun r H => (0 ≤ sgn_many (F 0) (M 3) ∧ sgn_many (F 0) (M 3) ≤ F 0) ∧ (r = sgn_many (F 0) (M 3)) ∧ MH E A ad F M H)) args s (rm_X2_signMany).cells (rm_X2_signMany).slots A) (F0 m 4 ls []) := by
    intro fu
    induction fu with
    | zero => intro v1 v2 hi ha hm; exact absurd hm (Nat.not_lt_zero _)
    | succ fu ih4 =>
      intro v1 v2 hi ha hm H locs ls hX hS hl
      refine lv_iload_n C.x C.b dX2_signMany_4 rfl (lv_at hl 2 rfl) ?_
      refine lv_aload_n C.x C.b dX2_signMany_5 rfl (lv_at hl 0 rfl) ?_
      refine mg_0 C hX (F 0) rfl dX2_signMany_6 (fun _ => ?_)
      refine r_icmp_ge (tgt := 36) C (by omega) (by omega) dX2_signMany_9 (by decide) (fun c_1 => ?_) (fun c_1 => ?_)
      · refine lv_iload_n C.x C.b dX2_signMany_36 rfl (lv_at hl 1 rfl) ?_
        exact r_iret C hS (Nat.le_of_ble_eq_true rfl) (Nat.le_of_ble_eq_true rfl) dX2_signMany_37 ⟨(many_r (hX.2.1 0 (0, 24) rfl).1), (by rw [ha, show v2 = F 0 by omega]; rfl), hX⟩
      · refine lv_iload_n C.x C.b dX2_signMany_12 rfl (lv_at hl 1 rfl) ?_
        refine lv_aload_n C.x C.b dX2_signMany_13 rfl (lv_at hl 0 rfl) ?_
        refine mg_3 C hX dX2_signMany_14 ?_
        refine lv_iload_n C.x C.b dX2_signMany_17 rfl (lv_at hl 2 rfl) ?_
        refine ml_3 C hX (by omega) (M 3) rfl dX2_signMany_18 (fun r18 => ?_)
        refine lv_iload_n C.x C.b dX2_signMany_19 rfl (lv_at hl 2 rfl) ?_
        have J28_2 : ∀ (t1 : Int) (ht1 : t1 = bI ((M 3 v2) = v2)) (H : Heap) (locs : List Loc) (ls : Array Slot) (hX : MH E A ad F M H) (hS : va_S A s.heap H locs) (hl : lv_has ls 3 [(0, .ref (ad 63)), (1, .int (zi v1)), (2, .int (zi v2))]), W p l e rm_X2_signMany s m args below meth c H locs 0 0 (MQ below (qi A (fun r H => (0 ≤ sgn_many (F 0) (M 3) ∧ sgn_many (F 0) (M 3) ≤ F 0) ∧ (r = sgn_many (F 0) (M 3)) ∧ MH E A ad F M H)) args s (rm_X2_signMany).cells (rm_X2_signMany).slots A) (F0 m 28 ls [.int (zi t1), .int (zi v1)]) := by
          intro t1 ht1 H locs ls hX hS hl
          subst ht1
          refine r_iadd C dX2_signMany_28 ?_
          refine lv_istore_n (lv' := [(1, .int (zi (v1 + (bI ((M 3 v2) = v2))))), (0, .ref (ad 63)), (2, .int (zi v2))]) C.x C.b dX2_signMany_29 rfl hl (by decide) rfl (fun ls hl => ?_)
          refine r_iinc (lv' := [(2, .int (zi (v2 + 1))), (1, .int (zi (v1 + (bI ((M 3 v2) = v2))))), (0, .ref (ad 63))]) C dX2_signMany_30 hl (k := 2) rfl (by decide) rfl (fun ls hl => ?_)
          refine lv_goto (tgt := 4) C.x C.b dX2_signMany_33 (by decide) ?_
          exact ih4 (v1 + (bI ((M 3 v2) = v2))) (v2 + 1) (by omega) (isum_st (by omega) ha rfl) (by omega) H locs ls hX hS (lv_sub hl [2, 1, 0] rfl)
        refine r_icmp_ne (tgt := 27) C (by omega) (by omega) dX2_signMany_20 (by decide) (fun c_3 => ?_) (fun c_3 => ?_)
        · refine r_const C dX2_signMany_27 ?_
          exact J28_2 0 ((bI_f c_3).symm) H locs ls hX hS hl
        · refine r_const C dX2_signMany_23 ?_
          refine lv_goto (tgt := 28) C.x C.b dX2_signMany_24 (by decide) ?_
          exact J28_2 1 ((bI_t c_3).symm) H locs ls hX hS hl
  exact L4 _ 0 0 (by omega) rfl (Nat.lt_succ_self _) H locs ls hX hS (lv_sub hl [2, 1, 0] rfl)

theorem hd_X2_sign : yX2_sign.cls = RX2 ∧ yX2_sign.cls ≠ "java/lang/invoke/MethodHandle" ∧ yX2_sign.cls ≠ "java/lang/invoke/VarHandle" ∧ (parseMethodDescriptor yX2_sign.desc).map (fun d => d.parameters.length) = some 1 := by decide +kernel
abbrev rm_X2_sign : Room := { frames := 2, cells := 0, slots := 0, locals := 48 }
set_option maxHeartbeats 8000000 in
theorem met_X2_sign (l : Launch) (E : us_E) (A : Nat → Prop) (ad : Nat → Nat) (F : Nat → Int) (M : Nat → Int → Int) (f : Int) (hf : -2147483648 ≤ f ∧ f < 2147483648) : cMet l yX2_sign cX2_sign 2 (some .int) rm_X2_sign A E [.ref (ad 63), .int (zi f)] (fun H => MH E A ad F M H) (qi A (fun r H => ∃ m3 : Int → Int, SgOK (F 0) (M 1) (F 2) m3 ∧ (r = sel (0 ≤ f ∧ f < F 0) (m3 f) (-1)) ∧ MH E A ad F (va_up M 3 m3) H)) := by
  refine cMet.of (by decide) (Nat.le_of_ble_eq_true rfl) (fun p e s m args below meth c C hnm hX hS ls hl => ?_)
  have C : Cx p s m args meth c A RX2 cX2_sign 2 (some .int) E := C
  have hX : MH E A ad F M s.heap := hX
  have hl : lv_has ls 2 [(0, .ref (ad 63)), (1, .int (zi f))] := hl
  generalize hH : s.heap = H at hX
  have hS : va_S A s.heap H [] := by rw [← hH]; exact hS
  generalize hlocs : ([] : List Loc) = locs at hS ⊢
  have rF0 : 0 ≤ F 0 ∧ F 0 ≤ 24 := hX.2.1 0 (0, 24) rfl
  have rF2 : 0 ≤ F 2 ∧ F 2 ≤ 12 := hX.2.1 2 (0, 12) rfl
  refine lv_aload_n C.x C.b dX2_sign_0 rfl (lv_at hl 0 rfl) ?_
  refine lv_aload_n C.x C.b dX2_sign_1 rfl (lv_at hl 0 rfl) ?_
  refine mg_2 C hX (F 2) rfl dX2_sign_2 (fun _ => ?_)
  refine r_callVv (As := [.int (zi (F 2))]) (rest := []) (cells' := 0) (slots' := 0) C (met_X2_findSigns l E A ad F M (F 2) (show 0 ≤ (F 2) ∧ (F 2) ≤ 24 from (by omega))) (lw_V q1221 q1223 qs42 q88 q1224) hd_X2_findSigns rfl (by decide) (m_recv C hX) hX hS hl.1 rfl (Nat.le_of_ble_eq_true rfl) dX2_sign_5 rfl rfl ⟨Nat.le_of_ble_eq_true rfl, Nat.le_of_ble_eq_true rfl⟩ (fun H locs hp hS => ?_)
  obtain ⟨m3_1, hsg, hX⟩ := hp
  have hsg : SgOK ((F 0)) ((M 1)) (F 2) m3_1 := hsg
  have hX : MH E A ad F (va_up M 3 m3_1) H := hX.to rfl rfl
  refine lv_aload_n C.x C.b dX2_sign_8 rfl (lv_at hl 0 rfl) ?_
  refine lv_iload_n C.x C.b dX2_sign_9 rfl (lv_at hl 1 rfl) ?_
  refine r_callVi (As := [.int (zi f)]) (rest := []) (cells' := 0) (slots' := 0) C (met_X2_isForm l E A ad F (va_up M 3 m3_1) f (show -2147483648 ≤ f ∧ f < 2147483648 from (by omega))) (lw_V q1228 q1230 qs43 q88 q1231) hd_X2_isForm rfl (by decide) (m_recv C hX) hX hS hl.1 rfl (Nat.le_of_ble_eq_true rfl) dX2_sign_10 rfl rfl ⟨Nat.le_of_ble_eq_true rfl, Nat.le_of_ble_eq_true rfl⟩ (fun rr H locs hp hS => ?_)
  obtain ⟨hrr, hX⟩ := hp
  have hrr : rr = bI (0 ≤ f ∧ f < (F 0)) := hrr
  subst hrr
  have J26_2 : ∀ (t0 : Int) (ht0 : t0 = sel (0 ≤ f ∧ f < (F 0)) (m3_1 f) (-1)) (H : Heap) (locs : List Loc) (ls : Array Slot) (hX : MH E A ad F (va_up M 3 m3_1) H) (hS : va_S A s.heap H locs) (hl : lv_has ls 2 [(0, .ref (ad 63)), (1, .int (zi f))]), W p l e rm_X2_sign s m args below meth c H locs 0 0 (MQ below (qi A (fun r H => ∃ m3 : Int → Int, SgOK (F 0) (M 1) (F 2) m3 ∧ (r = sel (0 ≤ f ∧ f < F 0) (m3 f) (-1)) ∧ MH E A ad F (va_up M 3 m3) H)) args s (rm_X2_sign).cells (rm_X2_sign).slots A) (F0 m 26 ls [.int (zi t0)]) := by
    intro t0 ht0 H locs ls hX hS hl
    subst ht0
    exact r_iret C hS (Nat.le_of_ble_eq_true rfl) (Nat.le_of_ble_eq_true rfl) dX2_sign_26 ⟨m3_1, (by first | rfl | assumption | exact (sel_t (by omega)).symm | exact (sel_f (by omega)).symm | omega), (by first | rfl | exact (sel_t (by omega)).symm | exact (sel_f (by omega)).symm | omega), hX⟩
  refine r_if_eq_b (tgt := 25) C dX2_sign_13 (by decide) (fun c_3 => ?_) (fun c_3 => ?_)
  · refine r_const C dX2_sign_25 ?_
    exact J26_2 (-1) ((sel_f c_3).symm) H locs ls hX hS hl
  · refine lv_aload_n C.x C.b dX2_sign_16 rfl (lv_at hl 0 rfl) ?_
    refine mg_3 C hX dX2_sign_17 ?_
    refine lv_iload_n C.x C.b dX2_sign_20 rfl (lv_at hl 1 rfl) ?_
    refine ml_3 C hX (by omega) m3_1 rfl dX2_sign_21 (fun r21 => ?_)
    refine lv_goto (tgt := 26) C.x C.b dX2_sign_22 (by decide) ?_
    exact J26_2 (m3_1 f) ((sel_t c_3).symm) H locs ls hX hS hl

theorem hd_X2_isSign : yX2_isSign.cls = RX2 ∧ yX2_isSign.cls ≠ "java/lang/invoke/MethodHandle" ∧ yX2_isSign.cls ≠ "java/lang/invoke/VarHandle" ∧ (parseMethodDescriptor yX2_isSign.desc).map (fun d => d.parameters.length) = some 1 := by decide +kernel
abbrev rm_X2_isSign : Room := { frames := 2, cells := 0, slots := 0, locals := 48 }
set_option maxHeartbeats 8000000 in
theorem met_X2_isSign (l : Launch) (E : us_E) (A : Nat → Prop) (ad : Nat → Nat) (F : Nat → Int) (M : Nat → Int → Int) (k : Int) (hk : -2147483648 ≤ k ∧ k < 2147483648) : cMet l yX2_isSign cX2_isSign 2 (some .boolean) rm_X2_isSign A E [.ref (ad 63), .int (zi k)] (fun H => MH E A ad F M H) (qi A (fun r H => ∃ m3 : Int → Int, SgOK (F 0) (M 1) (F 2) m3 ∧ (r = bI (isS (F 0) (M 1) (F 2) k)) ∧ MH E A ad F (va_up M 3 m3) H)) := by
  refine cMet.of (by decide) (Nat.le_of_ble_eq_true rfl) (fun p e s m args below meth c C hnm hX hS ls hl => ?_)
  have C : Cx p s m args meth c A RX2 cX2_isSign 2 (some .boolean) E := C
  have hX : MH E A ad F M s.heap := hX
  have hl : lv_has ls 2 [(0, .ref (ad 63)), (1, .int (zi k))] := hl
  generalize hH : s.heap = H at hX
  have hS : va_S A s.heap H [] := by rw [← hH]; exact hS
  generalize hlocs : ([] : List Loc) = locs at hS ⊢
  have rF0 : 0 ≤ F 0 ∧ F 0 ≤ 24 := hX.2.1 0 (0, 24) rfl
  have rF2 : 0 ≤ F 2 ∧ F 2 ≤ 12 := hX.2.1 2 (0, 12) rfl
  refine lv_aload_n C.x C.b dX2_isSign_0 rfl (lv_at hl 0 rfl) ?_
  refine lv_aload_n C.x C.b dX2_isSign_1 rfl (lv_at hl 0 rfl) ?_
  refine mg_2 C hX (F 2) rfl dX2_isSign_2 (fun _ => ?_)
  refine r_callVv (As := [.int (zi (F 2))]) (rest := []) (cells' := 0) (slots' := 0) C (met_X2_findSigns l E A ad F M (F 2) (show 0 ≤ (F 2) ∧ (F 2) ≤ 24 from (by omega))) (lw_V q1221 q1223 qs42 q88 q1224) hd_X2_findSigns rfl (by decide) (m_recv C hX) hX hS hl.1 rfl (Nat.le_of_ble_eq_true rfl) dX2_isSign_5 rfl rfl ⟨Nat.le_of_ble_eq_true rfl, Nat.le_of_ble_eq_true rfl⟩ (fun H locs hp hS => ?_)
  obtain ⟨m3_1, hsg, hX⟩ := hp
  have hsg : SgOK ((F 0)) ((M 1)) (F 2) m3_1 := hsg
  have hX : MH E A ad F (va_up M 3 m3_1) H := hX.to rfl rfl
  refine lv_aload_n C.x C.b dX2_isSign_8 rfl (lv_at hl 0 rfl) ?_
  refine lv_iload_n C.x C.b dX2_isSign_9 rfl (lv_at hl 1 rfl) ?_
  refine r_callVi (As := [.int (zi k)]) (rest := []) (cells' := 0) (slots' := 0) C (met_X2_isForm l E A ad F (va_up M 3 m3_1) k (show -2147483648 ≤ k ∧ k < 2147483648 from (by omega))) (lw_V q1228 q1230 qs43 q88 q1231) hd_X2_isForm rfl (by decide) (m_recv C hX) hX hS hl.1 rfl (Nat.le_of_ble_eq_true rfl) dX2_isSign_10 rfl rfl ⟨Nat.le_of_ble_eq_true rfl, Nat.le_of_ble_eq_true rfl⟩ (fun rr H locs hp hS => ?_)
  obtain ⟨hrr, hX⟩ := hp
  have hrr : rr = bI (0 ≤ k ∧ k < (F 0)) := hrr
  subst hrr
  have J31_2 : ∀ (t0 : Int) (ht0 : t0 = bI ((0 ≤ k ∧ k < (F 0)) ∧ ((m3_1 k) = k))) (H : Heap) (locs : List Loc) (ls : Array Slot) (hX : MH E A ad F (va_up M 3 m3_1) H) (hS : va_S A s.heap H locs) (hl : lv_has ls 2 [(0, .ref (ad 63)), (1, .int (zi k))]), W p l e rm_X2_isSign s m args below meth c H locs 0 0 (MQ below (qi A (fun r H => ∃ m3 : Int → Int, SgOK (F 0) (M 1) (F 2) m3 ∧ (r = bI (isS (F 0) (M 1) (F 2) k)) ∧ MH E A ad F (va_up M 3 m3) H)) args s (rm_X2_isSign).cells (rm_X2_isSign).slots A) (F0 m 31 ls [.int (zi t0)]) := by
    intro t0 ht0 H locs ls hX hS hl
    subst ht0
    exact r_zret C (bI_e _) hS (Nat.le_of_ble_eq_true rfl) (Nat.le_of_ble_eq_true rfl) dX2_isSign_31 ⟨m3_1, (by first | rfl | assumption | exact (sel_t (by omega)).symm | exact (sel_f (by omega)).symm | omega), (bI_c (isS_i hsg)), hX⟩
  refine r_if_eq_b (tgt := 30) C dX2_isSign_13 (by decide) (fun c_3 => ?_) (fun c_3 => ?_)
  · refine r_const C dX2_isSign_30 ?_
    exact J31_2 0 ((bI_f (fun q => c_3 q.1)).symm) H locs ls hX hS hl
  · refine lv_aload_n C.x C.b dX2_isSign_16 rfl (lv_at hl 0 rfl) ?_
    refine mg_3 C hX dX2_isSign_17 ?_
    refine lv_iload_n C.x C.b dX2_isSign_20 rfl (lv_at hl 1 rfl) ?_
    refine ml_3 C hX (by omega) m3_1 rfl dX2_isSign_21 (fun r21 => ?_)
    refine lv_iload_n C.x C.b dX2_isSign_22 rfl (lv_at hl 1 rfl) ?_
    refine r_icmp_ne (tgt := 30) C (by omega) (by omega) dX2_isSign_23 (by decide) (fun c_4 => ?_) (fun c_4 => ?_)
    · refine r_const C dX2_isSign_30 ?_
      exact J31_2 0 ((bI_f (fun q => c_4 q.2)).symm) H locs ls hX hS hl
    · refine r_const C dX2_isSign_26 ?_
      refine lv_goto (tgt := 31) C.x C.b dX2_isSign_27 (by decide) ?_
      exact J31_2 1 ((bI_t ⟨c_3, c_4⟩).symm) H locs ls hX hS hl

theorem hd_X2_isText : yX2_isText.cls = RX2 ∧ yX2_isText.cls ≠ "java/lang/invoke/MethodHandle" ∧ yX2_isText.cls ≠ "java/lang/invoke/VarHandle" ∧ (parseMethodDescriptor yX2_isText.desc).map (fun d => d.parameters.length) = some 1 := by decide +kernel
abbrev rm_X2_isText : Room := { frames := 1, cells := 0, slots := 0, locals := 25 }
set_option maxHeartbeats 8000000 in
theorem met_X2_isText (l : Launch) (E : us_E) (A : Nat → Prop) (ad : Nat → Nat) (F : Nat → Int) (M : Nat → Int → Int) (t : Int) (ht : -2147483648 ≤ t ∧ t < 2147483648) : cMet l yX2_isText cX2_isText 2 (some .boolean) rm_X2_isText A E [.ref (ad 63), .int (zi t)] (fun H => MH E A ad F M H) (qi A (fun r H => (r = bI (0 ≤ t ∧ t < F 4)) ∧ MH E A ad F M H)) := by
  refine cMet.of (by decide) (Nat.le_of_ble_eq_true rfl) (fun p e s m args below meth c C hnm hX hS ls hl => ?_)
  have C : Cx p s m args meth c A RX2 cX2_isText 2 (some .boolean) E := C
  have hX : MH E A ad F M s.heap := hX
  have hl : lv_has ls 2 [(0, .ref (ad 63)), (1, .int (zi t))] := hl
  generalize hH : s.heap = H at hX
  have hS : va_S A s.heap H [] := by rw [← hH]; exact hS
  generalize hlocs : ([] : List Loc) = locs at hS ⊢
  have rF4 : 0 ≤ F 4 ∧ F 4 ≤ 8 := hX.2.1 4 (0, 8) rfl
  refine lv_iload_n C.x C.b dX2_isText_0 rfl (lv_at hl 1 rfl) ?_
  refine r_i2l C (by omega) dX2_isText_1 ?_
  refine r_lconst C 0 rfl dX2_isText_2 ?_
  refine lv_aload_n C.x C.b dX2_isText_3 rfl (lv_at hl 0 rfl) ?_
  refine mg_4 C hX (F 4) rfl dX2_isText_4 (fun _ => ?_)
  refine r_const C dX2_isText_7 ?_
  refine r_isub C dX2_isText_8 ?_
  refine r_i2l C (by omega) dX2_isText_9 ?_
  refine r_callSi (As := [.long (zl t), .long (zl 0), .long (zl ((F 4) - 1))]) (rest := []) (cells' := 0) (slots' := 0) C (met_X2_in l E A ad H t 0 ((F 4) - 1) (show -9223372036854775808 ≤ t ∧ t < 9223372036854775808 from (by omega)) (show -9223372036854775808 ≤ 0 ∧ 0 < 9223372036854775808 from (by omega)) (show -9223372036854775808 ≤ ((F 4) - 1) ∧ ((F 4) - 1) < 9223372036854775808 from (by omega))) (lw_S q1209 q1210 q88 q1211) hd_X2_in rfl (by decide) rfl hS hl.1 rfl (Nat.le_of_ble_eq_true rfl) dX2_isText_10 rfl rfl ⟨Nat.le_of_ble_eq_true rfl, Nat.le_of_ble_eq_true rfl⟩ (fun rr H locs hp hS => ?_)
  obtain ⟨hrr, hH⟩ := hp
  have hrr : rr = bI (0 ≤ t ∧ t ≤ ((F 4) - 1)) := hrr
  subst hrr
  have hX : MH E A ad F M H := by rw [hH]; exact hX
  exact r_zret C (bI_e _) hS (Nat.le_of_ble_eq_true rfl) (Nat.le_of_ble_eq_true rfl) dX2_isText_13 ⟨(bI_c (by first | exact Iff.rfl | (constructor <;> intro _ <;> omega))), hX⟩

theorem hd_X2_at : yX2_at.cls = RX2 ∧ yX2_at.cls ≠ "java/lang/invoke/MethodHandle" ∧ yX2_at.cls ≠ "java/lang/invoke/VarHandle" ∧ (parseMethodDescriptor yX2_at.desc).map (fun d => d.parameters.length) = some 2 := by decide +kernel
abbrev rm_X2_at : Room := { frames := 0, cells := 0, slots := 0, locals := 0 }
set_option maxHeartbeats 8000000 in
theorem met_X2_at (l : Launch) (E : us_E) (A : Nat → Prop) (ad : Nat → Nat) (F : Nat → Int) (M : Nat → Int → Int) (t : Int) (i : Int) (ht : 0 ≤ t ∧ t < 8) (hi : 0 ≤ i ∧ i < 24) : cMet l yX2_at cX2_at 4 (some .int) rm_X2_at A E [.ref (ad 63), .int (zi t), .int (zi i)] (fun H => MH E A ad F M H) (qi A (fun r H => (-2 ≤ sa (M 3) (M 6 (24 * t + i)) ∧ sa (M 3) (M 6 (24 * t + i)) ≤ 23) ∧ (r = sa (M 3) (M 6 (24 * t + i))) ∧ MH E A ad F M H)) := by
  refine cMet.of (by decide) (Nat.le_of_ble_eq_true rfl) (fun p e s m args below meth c C hnm hX hS ls hl => ?_)
  have C : Cx p s m args meth c A RX2 cX2_at 4 (some .int) E := C
  have hX : MH E A ad F M s.heap := hX
  have hl : lv_has ls 4 [(0, .ref (ad 63)), (1, .int (zi t)), (2, .int (zi i))] := hl
  generalize hH : s.heap = H at hX
  have hS : va_S A s.heap H [] := by rw [← hH]; exact hS
  generalize hlocs : ([] : List Loc) = locs at hS ⊢
  have r10 : -2 ≤ M 6 (24 * t + i) ∧ M 6 (24 * t + i) ≤ 23 := hX.2.2 6 (-2, 23) rfl _
  have r25 : 0 ≤ M 3 (M 6 (24 * t + i)) ∧ M 3 (M 6 (24 * t + i)) ≤ 23 := hX.2.2 3 (0, 23) rfl _
  have hat := sa_r (sg := M 3) r10.1 r10.2 r25
  refine lv_aload_n C.x C.b dX2_at_0 rfl (lv_at hl 0 rfl) ?_
  refine mg_6 C hX dX2_at_1 ?_
  refine r_bipush C (by decide) dX2_at_4 ?_
  refine lv_iload_n C.x C.b dX2_at_6 rfl (lv_at hl 1 rfl) ?_
  refine r_imul C dX2_at_7 ?_
  refine lv_iload_n C.x C.b dX2_at_8 rfl (lv_at hl 2 rfl) ?_
  refine r_iadd C dX2_at_9 ?_
  refine ml_6 C hX (by omega) (M 6) rfl dX2_at_10 (fun r10 => ?_)
  refine lv_istore_n (lv' := [(3, .int (zi (M 6 ((24 * t) + i)))), (0, .ref (ad 63)), (1, .int (zi t)), (2, .int (zi i))]) C.x C.b dX2_at_11 rfl hl (by decide) rfl (fun ls hl => ?_)
  refine lv_iload_n C.x C.b dX2_at_12 rfl (lv_at hl 0 rfl) ?_
  have J26_1 : ∀ (t0 : Int) (ht0 : t0 = sel ((M 6 ((24 * t) + i)) < 0) (M 6 ((24 * t) + i)) (M 3 (M 6 ((24 * t) + i)))) (H : Heap) (locs : List Loc) (ls : Array Slot) (hX : MH E A ad F M H) (hS : va_S A s.heap H locs) (hl : lv_has ls 4 [(3, .int (zi (M 6 ((24 * t) + i)))), (0, .ref (ad 63)), (1, .int (zi t)), (2, .int (zi i))]), W p l e rm_X2_at s m args below meth c H locs 0 0 (MQ below (qi A (fun r H => (-2 ≤ sa (M 3) (M 6 (24 * t + i)) ∧ sa (M 3) (M 6 (24 * t + i)) ≤ 23) ∧ (r = sa (M 3) (M 6 (24 * t + i))) ∧ MH E A ad F M H)) args s (rm_X2_at).cells (rm_X2_at).slots A) (F0 m 26 ls [.int (zi t0)]) := by
    intro t0 ht0 H locs ls hX hS hl
    subst ht0
    exact r_iret C hS (Nat.le_of_ble_eq_true rfl) (Nat.le_of_ble_eq_true rfl) dX2_at_26 ⟨(by first | rfl | assumption | exact (sel_t (by omega)).symm | exact (sel_f (by omega)).symm | omega), (by first | rfl | exact ht0), hX⟩
  refine r_if_ge (tgt := 20) C (by omega) dX2_at_13 (by decide) (fun c_2 => ?_) (fun c_2 => ?_)
  · refine lv_aload_n C.x C.b dX2_at_20 rfl (lv_at hl 1 rfl) ?_
    refine mg_3 C hX dX2_at_21 ?_
    refine lv_iload_n C.x C.b dX2_at_24 rfl (lv_at hl 0 rfl) ?_
    refine ml_3 C hX (by omega) (M 3) rfl dX2_at_25 (fun r25 => ?_)
    exact J26_1 (M 3 (M 6 ((24 * t) + i))) ((sel_f c_2).symm) H locs ls hX hS hl
  · refine lv_iload_n C.x C.b dX2_at_16 rfl (lv_at hl 0 rfl) ?_
    refine lv_goto (tgt := 26) C.x C.b dX2_at_17 (by decide) ?_
    exact J26_1 (M 6 ((24 * t) + i)) ((sel_t c_2).symm) H locs ls hX hS hl

theorem hd_X2_drop : yX2_drop.cls = RX2 ∧ yX2_drop.cls ≠ "java/lang/invoke/MethodHandle" ∧ yX2_drop.cls ≠ "java/lang/invoke/VarHandle" ∧ (parseMethodDescriptor yX2_drop.desc).map (fun d => d.parameters.length) = some 0 := by decide +kernel
abbrev rm_X2_drop : Room := { frames := 0, cells := 0, slots := 0, locals := 0 }
set_option maxHeartbeats 8000000 in
theorem met_X2_drop (l : Launch) (E : us_E) (A : Nat → Prop) (ad : Nat → Nat) (F : Nat → Int) (M : Nat → Int → Int) : cMet l yX2_drop cX2_drop 1 (some .int) rm_X2_drop A E [.ref (ad 63)] (fun H => MH E A ad F M H) (qi A (fun r H => ∃ f4 : Int, (f4 = sel (F 4 = 0) (F 4) (F 4 - 1)) ∧ (r = sel (F 4 = 0) (-4) (F 4 - 1)) ∧ MH E A ad (va_up F 4 f4) M H)) := by
  refine cMet.of (by decide) (Nat.le_of_ble_eq_true rfl) (fun p e s m args below meth c C hnm hX hS ls hl => ?_)
  have C : Cx p s m args meth c A RX2 cX2_drop 1 (some .int) E := C
  have hX : MH E A ad F M s.heap := hX
  have hl : lv_has ls 1 [(0, .ref (ad 63))] := hl
  generalize hH : s.heap = H at hX
  have hS : va_S A s.heap H [] := by rw [← hH]; exact hS
  generalize hlocs : ([] : List Loc) = locs at hS ⊢
  have rF4 : 0 ≤ F 4 ∧ F 4 ≤ 8 := hX.2.1 4 (0, 8) rfl
  refine lv_aload_n C.x C.b dX2_drop_0 rfl (lv_at hl 0 rfl) ?_
  refine mg_4 C hX (F 4) rfl dX2_drop_1 (fun _ => ?_)
  refine r_if_ne (tgt := 10) C (by omega) dX2_drop_4 (by decide) (fun c_1 => ?_) (fun c_1 => ?_)
  · refine lv_aload_n C.x C.b dX2_drop_10 rfl (lv_at hl 0 rfl) ?_
    refine lv_dup C.x C.b dX2_drop_11 rfl ?_
    refine mg_4 C hX (F 4) rfl dX2_drop_12 (fun _ => ?_)
    refine r_const C dX2_drop_15 ?_
    refine r_isub C dX2_drop_16 ?_
    refine mp_4 C hX hS (by omega) (F' := (va_up F 4 ((F 4) - 1))) rfl dX2_drop_17 (fun H locs hX hS => ?_)
    refine lv_aload_n C.x C.b dX2_drop_20 rfl (lv_at hl 0 rfl) ?_
    refine mg_4 C hX ((F 4) - 1) rfl dX2_drop_21 (fun r21 => ?_)
    exact r_iret C hS (Nat.le_of_ble_eq_true rfl) (Nat.le_of_ble_eq_true rfl) dX2_drop_24 ⟨((F 4) - 1), (by first | rfl | assumption | exact (sel_t (by omega)).symm | exact (sel_f (by omega)).symm | omega), (by first | rfl | ((repeat first | rw [sel_t (by omega)] | rw [sel_f (by omega)]) <;> first | rfl | omega)), hX⟩
  · refine r_bipush C (by decide) dX2_drop_7 ?_
    exact r_iret C hS (Nat.le_of_ble_eq_true rfl) (Nat.le_of_ble_eq_true rfl) dX2_drop_9 ⟨(F 4), (by first | rfl | assumption | exact (sel_t (by omega)).symm | exact (sel_f (by omega)).symm | omega), (by first | rfl | ((repeat first | rw [sel_t (by omega)] | rw [sel_f (by omega)]) <;> first | rfl | omega)), (hX.to ((up_id F (k := 4) (a := (F 4)) rfl).symm.trans rfl) rfl)⟩

theorem hd_X2_wordAt : yX2_wordAt.cls = RX2 ∧ yX2_wordAt.cls ≠ "java/lang/invoke/MethodHandle" ∧ yX2_wordAt.cls ≠ "java/lang/invoke/VarHandle" ∧ (parseMethodDescriptor yX2_wordAt.desc).map (fun d => d.parameters.length) = some 2 := by decide +kernel
abbrev rm_X2_wordAt : Room := { frames := 1, cells := 0, slots := 0, locals := 23 }
set_option maxHeartbeats 8000000 in
theorem met_X2_wordAt (l : Launch) (E : us_E) (A : Nat → Prop) (ad : Nat → Nat) (F : Nat → Int) (M : Nat → Int → Int) (w : Int) (i : Int) (hw : 0 ≤ w ∧ w < 104) (hi : 0 ≤ M 9 w + i ∧ M 9 w + i < 24 ∧ -100 ≤ i) : cMet l yX2_wordAt cX2_wordAt 3 (some .int) rm_X2_wordAt A E [.ref (ad 63), .int (zi w), .int (zi i)] (fun H => MH E A ad F M H) (qi A (fun r H => (-2 ≤ sa (M 3) (M 6 (24 * M 8 w + (M 9 w + i))) ∧ sa (M 3) (M 6 (24 * M 8 w + (M 9 w + i))) ≤ 23) ∧ (r = sa (M 3) (M 6 (24 * M 8 w + (M 9 w + i)))) ∧ MH E A ad F M H)) := by
  refine cMet.of (by decide) (Nat.le_of_ble_eq_true rfl) (fun p e s m args below meth c C hnm hX hS ls hl => ?_)
  have C : Cx p s m args meth c A RX2 cX2_wordAt 3 (some .int) E := C
  have hX : MH E A ad F M s.heap := hX
  have hl : lv_has ls 3 [(0, .ref (ad 63)), (1, .int (zi w)), (2, .int (zi i))] := hl
  generalize hH : s.heap = H at hX
  have hS : va_S A s.heap H [] := by rw [← hH]; exact hS
  generalize hlocs : ([] : List Loc) = locs at hS ⊢
  refine lv_aload_n C.x C.b dX2_wordAt_0 rfl (lv_at hl 0 rfl) ?_
  refine lv_aload_n C.x C.b dX2_wordAt_1 rfl (lv_at hl 0 rfl) ?_
  refine mg_8 C hX dX2_wordAt_2 ?_
  refine lv_iload_n C.x C.b dX2_wordAt_5 rfl (lv_at hl 1 rfl) ?_
  refine ml_8 C hX (by omega) (M 8) rfl dX2_wordAt_6 (fun r6 => ?_)
  refine lv_aload_n C.x C.b dX2_wordAt_7 rfl (lv_at hl 0 rfl) ?_
  refine mg_9 C hX dX2_wordAt_8 ?_
  refine lv_iload_n C.x C.b dX2_wordAt_11 rfl (lv_at hl 1 rfl) ?_
  refine ml_9 C hX (by omega) (M 9) rfl dX2_wordAt_12 (fun r12 => ?_)
  refine lv_iload_n C.x C.b dX2_wordAt_13 rfl (lv_at hl 2 rfl) ?_
  refine r_iadd C dX2_wordAt_14 ?_
  refine r_callVi (As := [.int (zi (M 8 w)), .int (zi ((M 9 w) + i))]) (rest := []) (cells' := 0) (slots' := 0) C (met_X2_at l E A ad F M (M 8 w) ((M 9 w) + i) (show 0 ≤ (M 8 w) ∧ (M 8 w) < 8 from (by omega)) (show 0 ≤ ((M 9 w) + i) ∧ ((M 9 w) + i) < 24 from (by omega))) (lw_V q1259 q1261 qs47 q88 q1262) hd_X2_at rfl (by decide) (m_recv C hX) hX hS hl.1 rfl (Nat.le_of_ble_eq_true rfl) dX2_wordAt_15 rfl rfl ⟨Nat.le_of_ble_eq_true rfl, Nat.le_of_ble_eq_true rfl⟩ (fun rr H locs hp hS => ?_)
  obtain ⟨hat, hrr, hX⟩ := hp
  have hrr : rr = sa ((M 3)) ((M 6) (24 * (M 8 w) + ((M 9 w) + i))) := hrr
  subst hrr
  have hat : -2 ≤ sa ((M 3)) ((M 6) (24 * (M 8 w) + ((M 9 w) + i))) ∧ sa ((M 3)) ((M 6) (24 * (M 8 w) + ((M 9 w) + i))) ≤ 23 := hat
  exact r_iret C hS (Nat.le_of_ble_eq_true rfl) (Nat.le_of_ble_eq_true rfl) dX2_wordAt_18 ⟨(by first | rfl | assumption | exact (sel_t (by omega)).symm | exact (sel_f (by omega)).symm | omega), (by first | rfl | exact (sel_t (by omega)).symm | exact (sel_f (by omega)).symm | omega), hX⟩

theorem hd_X2_countOf : yX2_countOf.cls = RX2 ∧ yX2_countOf.cls ≠ "java/lang/invoke/MethodHandle" ∧ yX2_countOf.cls ≠ "java/lang/invoke/VarHandle" ∧ (parseMethodDescriptor yX2_countOf.desc).map (fun d => d.parameters.length) = some 1 := by decide +kernel
abbrev rm_X2_countOf : Room := { frames := 1, cells := 0, slots := 0, locals := 23 }
set_option maxHeartbeats 8000000 in
theorem met_X2_countOf (l : Launch) (E : us_E) (A : Nat → Prop) (ad : Nat → Nat) (F : Nat → Int) (M : Nat → Int → Int) (k : Int) (hk : -2147483648 ≤ k ∧ k < 2147483648) : cMet l yX2_countOf cX2_countOf 5 (some .int) rm_X2_countOf A E [.ref (ad 63), .int (zi k)] (fun H => MH E A ad F M H) (qi A (fun r H => (0 ≤ cnt (M 3) (mtc (M 6)) (M 5) (F 4) k ∧ cnt (M 3) (mtc (M 6)) (M 5) (F 4) k ≤ 192) ∧ (r = cnt (M 3) (mtc (M 6)) (M 5) (F 4) k) ∧ MH E A ad F M H)) := by
  refine cMet.of (by decide) (Nat.le_of_ble_eq_true rfl) (fun p e s m args below meth c C hnm hX hS ls hl => ?_)
  have C : Cx p s m args meth c A RX2 cX2_countOf 5 (some .int) E := C
  have hX : MH E A ad F M s.heap := hX
  have hl : lv_has ls 5 [(0, .ref (ad 63)), (1, .int (zi k))] := hl
  generalize hH : s.heap = H at hX
  have hS : va_S A s.heap H [] := by rw [← hH]; exact hS
  generalize hlocs : ([] : List Loc) = locs at hS ⊢
  have rF4 : 0 ≤ F 4 ∧ F 4 ≤ 8 := hX.2.1 4 (0, 8) rfl
  have h24 : ∀ t, 0 ≤ M 5 t ∧ M 5 t ≤ 24 := fun t => hX.2.2 5 (0, 24) rfl t
  refine r_const C dX2_countOf_0 ?_
  refine lv_istore_n (lv' := [(2, .int (zi 0)), (0, .ref (ad 63)), (1, .int (zi k))]) C.x C.b dX2_countOf_1 rfl hl (by decide) rfl (fun ls hl => ?_)
  refine r_const C dX2_countOf_2 ?_
  refine lv_istore_n (lv' := [(3, .int (zi 0)), (2, .int (zi 0)), (0, .ref (ad 63)), (1, .int (zi k))]) C.x C.b dX2_countOf_3 rfl hl (by decide) rfl (fun ls hl => ?_)
  have L4 : ∀ (fu : Nat) (v2 : Int) (v3 : Int) (ht : 0 ≤ v3 ∧ v3 ≤ F 4) (ha : v2 = isum (fun t => isum (fun i => bI (sa (M 3) (mtc (M 6) t i) = k)) (M 5 t)) v3) (hm : Int.toNat (F 4 - v3) < fu) (H : Heap) (locs : List Loc) (ls : Array Slot) (hX : MH E A ad F M H) (hS : va_S A s.heap H locs) (hl : lv_has ls 5 [(0, .ref (ad 63)), (1, .int (zi k)), (2, .int (zi v2)), (3, .int (zi v3))]), W p l e rm_X2_countOf s m args below meth c H locs 0 0 (MQ below (qi A (fun r H => (0 ≤ cnt (M 3) (mtc (M 6)) (M 5) (F 4) k ∧ cnt (M 3) (mtc (M 6)) (M 5) (F 4) k ≤ 192) ∧ (r = cnt (M 3) (mtc (M 6)) (M 5) (F 4) k) ∧ MH E A ad F M H)) args s (rm_X2_countOf).cells (rm_X2_countOf).slots A) (F0 m 4 ls []) := by
    intro fu
    induction fu with
    | zero => intro v2 v3 ht ha hm; exact absurd hm (Nat.not_lt_zero _)
    | succ fu ih4 =>
      intro v2 v3 ht ha hm H locs ls hX hS hl
      refine lv_iload_n C.x C.b dX2_countOf_4 rfl (lv_at hl 3 rfl) ?_
      refine lv_aload_n C.x C.b dX2_countOf_5 rfl (lv_at hl 0 rfl) ?_
      refine mg_4 C hX (F 4) rfl dX2_countOf_6 (fun _ => ?_)
      refine r_icmp_ge (tgt := 57) C (by omega) (by omega) dX2_countOf_9 (by decide) (fun c_1 => ?_) (fun c_1 => ?_)
      · refine lv_iload_n C.x C.b dX2_countOf_57 rfl (lv_at hl 2 rfl) ?_
        exact r_iret C hS (Nat.le_of_ble_eq_true rfl) (Nat.le_of_ble_eq_true rfl) dX2_countOf_58 ⟨(cnt_r rF4 h24), (by rw [ha, show v3 = F 4 by omega]; rfl), hX⟩
      · refine r_const C dX2_countOf_12 ?_
        refine lv_istore (lv' := [(4, .int (zi 0)), (0, .ref (ad 63)), (1, .int (zi k)), (2, .int (zi v2)), (3, .int (zi v3))]) C.x C.b dX2_countOf_13 hl (by decide) rfl (fun ls hl => ?_)
        have L15 : ∀ (fu : Nat) (v2 : Int) (v4 : Int) (hi : 0 ≤ v4 ∧ v4 ≤ M 5 v3) (hb : v2 = isum (fun t => isum (fun i => bI (sa (M 3) (mtc (M 6) t i) = k)) (M 5 t)) v3 + isum (fun i => bI (sa (M 3) (mtc (M 6) v3 i) = k)) v4) (hm : Int.toNat (M 5 v3 - v4) < fu) (H : Heap) (locs : List Loc) (ls : Array Slot) (hX : MH E A ad F M H) (hS : va_S A s.heap H locs) (hl : lv_has ls 5 [(0, .ref (ad 63)), (1, .int (zi k)), (2, .int (zi v2)), (3, .int (zi v3)), (4, .int (zi v4))]), W p l e rm_X2_countOf s m args below meth c H locs 0 0 (MQ below (qi A (fun r H => (0 ≤ cnt (M 3) (mtc (M 6)) (M 5) (F 4) k ∧ cnt (M 3) (mtc (M 6)) (M 5) (F 4) k ≤ 192) ∧ (r = cnt (M 3) (mtc (M 6)) (M 5) (F 4) k) ∧ MH E A ad F M H)) args s (rm_X2_countOf).cells (rm_X2_countOf).slots A) (F0 m 15 ls []) := by
          intro fu
          induction fu with
          | zero => intro v2 v4 hi hb hm; exact absurd hm (Nat.not_lt_zero _)
          | succ fu ih15 =>
            intro v2 v4 hi hb hm H locs ls hX hS hl
            refine lv_iload C.x C.b dX2_countOf_15 (lv_at hl 4 rfl) ?_
            refine lv_aload_n C.x C.b dX2_countOf_17 rfl (lv_at hl 0 rfl) ?_
            refine mg_5 C hX dX2_countOf_18 ?_
            refine lv_iload_n C.x C.b dX2_countOf_21 rfl (lv_at hl 3 rfl) ?_
            refine ml_5 C hX (by omega) (M 5) rfl dX2_countOf_22 (fun r22 => ?_)
            refine r_icmp_ge (tgt := 51) C (by omega) (by omega) dX2_countOf_23 (by decide) (fun c_2 => ?_) (fun c_2 => ?_)
            · refine r_iinc (lv' := [(3, .int (zi (v3 + 1))), (0, .ref (ad 63)), (1, .int (zi k)), (2, .int (zi v2)), (4, .int (zi v4))]) C dX2_countOf_51 hl (k := 3) rfl (by decide) rfl (fun ls hl => ?_)
              refine lv_goto (tgt := 4) C.x C.b dX2_countOf_54 (by decide) ?_
              exact ih4 v2 (v3 + 1) (by omega) (isum_out (f := fun i => bI (sa (M 3) (mtc (M 6) v3 i) = k)) (N := M 5 v3) (by omega) hb (by omega) rfl) (by omega) H locs ls hX hS (lv_sub hl [1, 2, 3, 0] rfl)
            · refine lv_iload_n C.x C.b dX2_countOf_26 rfl (lv_at hl 2 rfl) ?_
              refine lv_aload_n C.x C.b dX2_countOf_27 rfl (lv_at hl 0 rfl) ?_
              refine lv_iload_n C.x C.b dX2_countOf_28 rfl (lv_at hl 3 rfl) ?_
              refine lv_iload C.x C.b dX2_countOf_29 (lv_at hl 4 rfl) ?_
              refine r_callVi (As := [.int (zi v3), .int (zi v4)]) (rest := [.int (zi v2)]) (cells' := 0) (slots' := 0) C (met_X2_at l E A ad F M v3 v4 (show 0 ≤ v3 ∧ v3 < 8 from (by omega)) (show 0 ≤ v4 ∧ v4 < 24 from (by omega))) (lw_V q1259 q1261 qs47 q88 q1262) hd_X2_at rfl (by decide) (m_recv C hX) hX hS hl.1 rfl (Nat.le_of_ble_eq_true rfl) dX2_countOf_31 rfl rfl ⟨Nat.le_of_ble_eq_true rfl, Nat.le_of_ble_eq_true rfl⟩ (fun rr H locs hp hS => ?_)
              obtain ⟨hat, hrr, hX⟩ := hp
              have hrr : rr = sa ((M 3)) ((M 6) (24 * v3 + v4)) := hrr
              subst hrr
              have hat : -2 ≤ sa ((M 3)) ((M 6) (24 * v3 + v4)) ∧ sa ((M 3)) ((M 6) (24 * v3 + v4)) ≤ 23 := hat
              refine lv_iload_n C.x C.b dX2_countOf_34 rfl (lv_at hl 1 rfl) ?_
              have J43_3 : ∀ (t1 : Int) (ht1 : t1 = bI ((sa ((M 3)) ((M 6) (24 * v3 + v4))) = k)) (H : Heap) (locs : List Loc) (ls : Array Slot) (hX : MH E A ad F M H) (hS : va_S A s.heap H locs) (hl : lv_has ls 5 [(0, .ref (ad 63)), (1, .int (zi k)), (2, .int (zi v2)), (3, .int (zi v3)), (4, .int (zi v4))]), W p l e rm_X2_countOf s m args below meth c H locs 0 0 (MQ below (qi A (fun r H => (0 ≤ cnt (M 3) (mtc (M 6)) (M 5) (F 4) k ∧ cnt (M 3) (mtc (M 6)) (M 5) (F 4) k ≤ 192) ∧ (r = cnt (M 3) (mtc (M 6)) (M 5) (F 4) k) ∧ MH E A ad F M H)) args s (rm_X2_countOf).cells (rm_X2_countOf).slots A) (F0 m 43 ls [.int (zi t1), .int (zi v2)]) := by
                intro t1 ht1 H locs ls hX hS hl
                subst ht1
                refine r_iadd C dX2_countOf_43 ?_
                refine lv_istore_n (lv' := [(2, .int (zi (v2 + (bI ((sa ((M 3)) ((M 6) (24 * v3 + v4))) = k))))), (0, .ref (ad 63)), (1, .int (zi k)), (3, .int (zi v3)), (4, .int (zi v4))]) C.x C.b dX2_countOf_44 rfl hl (by decide) rfl (fun ls hl => ?_)
                refine r_iinc (lv' := [(4, .int (zi (v4 + 1))), (2, .int (zi (v2 + (bI ((sa ((M 3)) ((M 6) (24 * v3 + v4))) = k))))), (0, .ref (ad 63)), (1, .int (zi k)), (3, .int (zi v3))]) C dX2_countOf_45 hl (k := 4) rfl (by decide) rfl (fun ls hl => ?_)
                refine lv_goto (tgt := 15) C.x C.b dX2_countOf_48 (by decide) ?_
                exact ih15 (v2 + (bI ((sa ((M 3)) ((M 6) (24 * v3 + v4))) = k))) (v4 + 1) (by omega) (isum_st2 (by omega) hb rfl) (by omega) H locs ls hX hS (lv_sub hl [2, 3, 1, 4, 0] rfl)
              refine r_icmp_ne (tgt := 42) C (by omega) (by omega) dX2_countOf_35 (by decide) (fun c_4 => ?_) (fun c_4 => ?_)
              · refine r_const C dX2_countOf_42 ?_
                exact J43_3 0 ((bI_f c_4).symm) H locs ls hX hS hl
              · refine r_const C dX2_countOf_38 ?_
                refine lv_goto (tgt := 43) C.x C.b dX2_countOf_39 (by decide) ?_
                exact J43_3 1 ((bI_t c_4).symm) H locs ls hX hS hl
        have r5 := h24 v3
        exact L15 _ v2 0 (by omega) (by rw [ha]; exact (Int.add_zero _).symm) (Nat.lt_succ_self _) H locs ls hX hS (lv_sub hl [1, 2, 3, 4, 0] rfl)
  exact L4 _ 0 0 (by omega) rfl (Nat.lt_succ_self _) H locs ls hX hS (lv_sub hl [2, 3, 1, 0] rfl)

theorem hd_X2_allSigns : yX2_allSigns.cls = RX2 ∧ yX2_allSigns.cls ≠ "java/lang/invoke/MethodHandle" ∧ yX2_allSigns.cls ≠ "java/lang/invoke/VarHandle" ∧ (parseMethodDescriptor yX2_allSigns.desc).map (fun d => d.parameters.length) = some 0 := by decide +kernel
abbrev rm_X2_allSigns : Room := { frames := 1, cells := 0, slots := 0, locals := 23 }
set_option maxHeartbeats 8000000 in
theorem met_X2_allSigns (l : Launch) (E : us_E) (A : Nat → Prop) (ad : Nat → Nat) (F : Nat → Int) (M : Nat → Int → Int) : cMet l yX2_allSigns cX2_allSigns 4 (some .int) rm_X2_allSigns A E [.ref (ad 63)] (fun H => MH E A ad F M H) (qi A (fun r H => (0 ≤ alls (M 3) (mtc (M 6)) (M 5) (F 4) ∧ alls (M 3) (mtc (M 6)) (M 5) (F 4) ≤ 192) ∧ (r = alls (M 3) (mtc (M 6)) (M 5) (F 4)) ∧ MH E A ad F M H)) := by
  refine cMet.of (by decide) (Nat.le_of_ble_eq_true rfl) (fun p e s m args below meth c C hnm hX hS ls hl => ?_)
  have C : Cx p s m args meth c A RX2 cX2_allSigns 4 (some .int) E := C
  have hX : MH E A ad F M s.heap := hX
  have hl : lv_has ls 4 [(0, .ref (ad 63))] := hl
  generalize hH : s.heap = H at hX
  have hS : va_S A s.heap H [] := by rw [← hH]; exact hS
  generalize hlocs : ([] : List Loc) = locs at hS ⊢
  have rF4 : 0 ≤ F 4 ∧ F 4 ≤ 8 := hX.2.1 4 (0, 8) rfl
  have h24 : ∀ t, 0 ≤ M 5 t ∧ M 5 t ≤ 24 := fun t => hX.2.2 5 (0, 24) rfl t
  refine r_const C dX2_allSigns_0 ?_
  refine lv_istore_n (lv' := [(1, .int (zi 0)), (0, .ref (ad 63))]) C.x C.b dX2_allSigns_1 rfl hl (by decide) rfl (fun ls hl => ?_)
  refine r_const C dX2_allSigns_2 ?_
  refine lv_istore_n (lv' := [(2, .int (zi 0)), (1, .int (zi 0)), (0, .ref (ad 63))]) C.x C.b dX2_allSigns_3 rfl hl (by decide) rfl (fun ls hl => ?_)
  have L4 : ∀ (fu : Nat) (v1 : Int) (v2 : Int) (ht : 0 ≤ v2 ∧ v2 ≤ F 4) (ha : v1 = isum (fun t => isum (fun i => bI (¬ sa (M 3) (mtc (M 6) t i) < 0)) (M 5 t)) v2) (hm : Int.toNat (F 4 - v2) < fu) (H : Heap) (locs : List Loc) (ls : Array Slot) (hX : MH E A ad F M H) (hS : va_S A s.heap H locs) (hl : lv_has ls 4 [(0, .ref (ad 63)), (1, .int (zi v1)), (2, .int (zi v2))]), W p l e rm_X2_allSigns s m args below meth c H locs 0 0 (MQ below (qi A (fun r H => (0 ≤ alls (M 3) (mtc (M 6)) (M 5) (F 4) ∧ alls (M 3) (mtc (M 6)) (M 5) (F 4) ≤ 192) ∧ (r = alls (M 3) (mtc (M 6)) (M 5) (F 4)) ∧ MH E A ad F M H)) args s (rm_X2_allSigns).cells (rm_X2_allSigns).slots A) (F0 m 4 ls []) := by
    intro fu
    induction fu with
    | zero => intro v1 v2 ht ha hm; exact absurd hm (Nat.not_lt_zero _)
    | succ fu ih4 =>
      intro v1 v2 ht ha hm H locs ls hX hS hl
      refine lv_iload_n C.x C.b dX2_allSigns_4 rfl (lv_at hl 2 rfl) ?_
      refine lv_aload_n C.x C.b dX2_allSigns_5 rfl (lv_at hl 0 rfl) ?_
      refine mg_4 C hX (F 4) rfl dX2_allSigns_6 (fun _ => ?_)
      refine r_icmp_ge (tgt := 53) C (by omega) (by omega) dX2_allSigns_9 (by decide) (fun c_1 => ?_) (fun c_1 => ?_)
      · refine lv_iload_n C.x C.b dX2_allSigns_53 rfl (lv_at hl 1 rfl) ?_
        exact r_iret C hS (Nat.le_of_ble_eq_true rfl) (Nat.le_of_ble_eq_true rfl) dX2_allSigns_54 ⟨(alls_r rF4 h24), (by rw [ha, show v2 = F 4 by omega]; rfl), hX⟩
      · refine r_const C dX2_allSigns_12 ?_
        refine lv_istore_n (lv' := [(3, .int (zi 0)), (0, .ref (ad 63)), (1, .int (zi v1)), (2, .int (zi v2))]) C.x C.b dX2_allSigns_13 rfl hl (by decide) rfl (fun ls hl => ?_)
        have L14 : ∀ (fu : Nat) (v1 : Int) (v3 : Int) (hi : 0 ≤ v3 ∧ v3 ≤ M 5 v2) (hb : v1 = isum (fun t => isum (fun i => bI (¬ sa (M 3) (mtc (M 6) t i) < 0)) (M 5 t)) v2 + isum (fun i => bI (¬ sa (M 3) (mtc (M 6) v2 i) < 0)) v3) (hm : Int.toNat (M 5 v2 - v3) < fu) (H : Heap) (locs : List Loc) (ls : Array Slot) (hX : MH E A ad F M H) (hS : va_S A s.heap H locs) (hl : lv_has ls 4 [(0, .ref (ad 63)), (1, .int (zi v1)), (2, .int (zi v2)), (3, .int (zi v3))]), W p l e rm_X2_allSigns s m args below meth c H locs 0 0 (MQ below (qi A (fun r H => (0 ≤ alls (M 3) (mtc (M 6)) (M 5) (F 4) ∧ alls (M 3) (mtc (M 6)) (M 5) (F 4) ≤ 192) ∧ (r = alls (M 3) (mtc (M 6)) (M 5) (F 4)) ∧ MH E A ad F M H)) args s (rm_X2_allSigns).cells (rm_X2_allSigns).slots A) (F0 m 14 ls []) := by
          intro fu
          induction fu with
          | zero => intro v1 v3 hi hb hm; exact absurd hm (Nat.not_lt_zero _)
          | succ fu ih14 =>
            intro v1 v3 hi hb hm H locs ls hX hS hl
            refine lv_iload_n C.x C.b dX2_allSigns_14 rfl (lv_at hl 3 rfl) ?_
            refine lv_aload_n C.x C.b dX2_allSigns_15 rfl (lv_at hl 0 rfl) ?_
            refine mg_5 C hX dX2_allSigns_16 ?_
            refine lv_iload_n C.x C.b dX2_allSigns_19 rfl (lv_at hl 2 rfl) ?_
            refine ml_5 C hX (by omega) (M 5) rfl dX2_allSigns_20 (fun r20 => ?_)
            refine r_icmp_ge (tgt := 47) C (by omega) (by omega) dX2_allSigns_21 (by decide) (fun c_2 => ?_) (fun c_2 => ?_)
            · refine r_iinc (lv' := [(2, .int (zi (v2 + 1))), (0, .ref (ad 63)), (1, .int (zi v1)), (3, .int (zi v3))]) C dX2_allSigns_47 hl (k := 2) rfl (by decide) rfl (fun ls hl => ?_)
              refine lv_goto (tgt := 4) C.x C.b dX2_allSigns_50 (by decide) ?_
              exact ih4 v1 (v2 + 1) (by omega) (isum_out (f := fun i => bI (¬ sa (M 3) (mtc (M 6) v2 i) < 0)) (N := M 5 v2) (by omega) hb (by omega) rfl) (by omega) H locs ls hX hS (lv_sub hl [1, 2, 0] rfl)
            · refine lv_iload_n C.x C.b dX2_allSigns_24 rfl (lv_at hl 1 rfl) ?_
              refine lv_aload_n C.x C.b dX2_allSigns_25 rfl (lv_at hl 0 rfl) ?_
              refine lv_iload_n C.x C.b dX2_allSigns_26 rfl (lv_at hl 2 rfl) ?_
              refine lv_iload_n C.x C.b dX2_allSigns_27 rfl (lv_at hl 3 rfl) ?_
              refine r_callVi (As := [.int (zi v2), .int (zi v3)]) (rest := [.int (zi v1)]) (cells' := 0) (slots' := 0) C (met_X2_at l E A ad F M v2 v3 (show 0 ≤ v2 ∧ v2 < 8 from (by omega)) (show 0 ≤ v3 ∧ v3 < 24 from (by omega))) (lw_V q1259 q1261 qs47 q88 q1262) hd_X2_at rfl (by decide) (m_recv C hX) hX hS hl.1 rfl (Nat.le_of_ble_eq_true rfl) dX2_allSigns_28 rfl rfl ⟨Nat.le_of_ble_eq_true rfl, Nat.le_of_ble_eq_true rfl⟩ (fun rr H locs hp hS => ?_)
              obtain ⟨hat, hrr, hX⟩ := hp
              have hrr : rr = sa ((M 3)) ((M 6) (24 * v2 + v3)) := hrr
              subst hrr
              have hat : -2 ≤ sa ((M 3)) ((M 6) (24 * v2 + v3)) ∧ sa ((M 3)) ((M 6) (24 * v2 + v3)) ≤ 23 := hat
              have J39_3 : ∀ (t1 : Int) (ht1 : t1 = bI (¬ ((sa ((M 3)) ((M 6) (24 * v2 + v3))) < 0))) (H : Heap) (locs : List Loc) (ls : Array Slot) (hX : MH E A ad F M H) (hS : va_S A s.heap H locs) (hl : lv_has ls 4 [(0, .ref (ad 63)), (1, .int (zi v1)), (2, .int (zi v2)), (3, .int (zi v3))]), W p l e rm_X2_allSigns s m args below meth c H locs 0 0 (MQ below (qi A (fun r H => (0 ≤ alls (M 3) (mtc (M 6)) (M 5) (F 4) ∧ alls (M 3) (mtc (M 6)) (M 5) (F 4) ≤ 192) ∧ (r = alls (M 3) (mtc (M 6)) (M 5) (F 4)) ∧ MH E A ad F M H)) args s (rm_X2_allSigns).cells (rm_X2_allSigns).slots A) (F0 m 39 ls [.int (zi t1), .int (zi v1)]) := by
                intro t1 ht1 H locs ls hX hS hl
                subst ht1
                refine r_iadd C dX2_allSigns_39 ?_
                refine lv_istore_n (lv' := [(1, .int (zi (v1 + (bI (¬ ((sa ((M 3)) ((M 6) (24 * v2 + v3))) < 0)))))), (0, .ref (ad 63)), (2, .int (zi v2)), (3, .int (zi v3))]) C.x C.b dX2_allSigns_40 rfl hl (by decide) rfl (fun ls hl => ?_)
                refine r_iinc (lv' := [(3, .int (zi (v3 + 1))), (1, .int (zi (v1 + (bI (¬ ((sa ((M 3)) ((M 6) (24 * v2 + v3))) < 0)))))), (0, .ref (ad 63)), (2, .int (zi v2))]) C dX2_allSigns_41 hl (k := 3) rfl (by decide) rfl (fun ls hl => ?_)
                refine lv_goto (tgt := 14) C.x C.b dX2_allSigns_44 (by decide) ?_
                exact ih14 (v1 + (bI (¬ ((sa ((M 3)) ((M 6) (24 * v2 + v3))) < 0)))) (v3 + 1) (by omega) (isum_st2 (by omega) hb rfl) (by omega) H locs ls hX hS (lv_sub hl [2, 1, 3, 0] rfl)
              refine r_if_lt (tgt := 38) C (by omega) dX2_allSigns_31 (by decide) (fun c_4 => ?_) (fun c_4 => ?_)
              · refine r_const C dX2_allSigns_38 ?_
                exact J39_3 0 ((bI_f (fun q => q c_4)).symm) H locs ls hX hS hl
              · refine r_const C dX2_allSigns_34 ?_
                refine lv_goto (tgt := 39) C.x C.b dX2_allSigns_35 (by decide) ?_
                exact J39_3 1 ((bI_t c_4).symm) H locs ls hX hS hl
        have r5 := h24 v2
        exact L14 _ v1 0 (by omega) (by rw [ha]; exact (Int.add_zero _).symm) (Nat.lt_succ_self _) H locs ls hX hS (lv_sub hl [1, 2, 3, 0] rfl)
  exact L4 _ 0 0 (by omega) rfl (Nat.lt_succ_self _) H locs ls hX hS (lv_sub hl [2, 1, 0] rfl)

theorem hd_X2_counted : yX2_counted.cls = RX2 ∧ yX2_counted.cls ≠ "java/lang/invoke/MethodHandle" ∧ yX2_counted.cls ≠ "java/lang/invoke/VarHandle" ∧ (parseMethodDescriptor yX2_counted.desc).map (fun d => d.parameters.length) = some 1 := by decide +kernel
abbrev rm_X2_counted : Room := { frames := 3, cells := 0, slots := 0, locals := 69 }
set_option maxHeartbeats 8000000 in
theorem met_X2_counted (l : Launch) (E : us_E) (A : Nat → Prop) (ad : Nat → Nat) (F : Nat → Int) (M : Nat → Int → Int) (k : Int) (hk : -2147483648 ≤ k ∧ k < 2147483648) : cMet l yX2_counted cX2_counted 2 (some .int) rm_X2_counted A E [.ref (ad 63), .int (zi k)] (fun H => MH E A ad F M H) (qi A (fun r H => ∃ m3 : Int → Int, SgOK (F 0) (M 1) (F 2) m3 ∧ (r = sel (isS (F 0) (M 1) (F 2) k) (cnt m3 (mtc (M 6)) (M 5) (F 4) k) (-1)) ∧ MH E A ad F (va_up M 3 m3) H)) := by
  refine cMet.of (by decide) (Nat.le_of_ble_eq_true rfl) (fun p e s m args below meth c C hnm hX hS ls hl => ?_)
  have C : Cx p s m args meth c A RX2 cX2_counted 2 (some .int) E := C
  have hX : MH E A ad F M s.heap := hX
  have hl : lv_has ls 2 [(0, .ref (ad 63)), (1, .int (zi k))] := hl
  generalize hH : s.heap = H at hX
  have hS : va_S A s.heap H [] := by rw [← hH]; exact hS
  generalize hlocs : ([] : List Loc) = locs at hS ⊢
  have rF0 : 0 ≤ F 0 ∧ F 0 ≤ 24 := hX.2.1 0 (0, 24) rfl
  have rF2 : 0 ≤ F 2 ∧ F 2 ≤ 12 := hX.2.1 2 (0, 12) rfl
  have rF4 : 0 ≤ F 4 ∧ F 4 ≤ 8 := hX.2.1 4 (0, 8) rfl
  refine lv_aload_n C.x C.b dX2_counted_0 rfl (lv_at hl 0 rfl) ?_
  refine lv_iload_n C.x C.b dX2_counted_1 rfl (lv_at hl 1 rfl) ?_
  refine r_callVi (As := [.int (zi k)]) (rest := []) (cells' := 0) (slots' := 0) C (met_X2_isSign l E A ad F M k (show -2147483648 ≤ k ∧ k < 2147483648 from (by omega))) (lw_V q1267 q1269 qs48 q88 q1270) hd_X2_isSign rfl (by decide) (m_recv C hX) hX hS hl.1 rfl (Nat.le_of_ble_eq_true rfl) dX2_counted_2 rfl rfl ⟨Nat.le_of_ble_eq_true rfl, Nat.le_of_ble_eq_true rfl⟩ (fun rr H locs hp hS => ?_)
  obtain ⟨m3_1, hsg, hrr, hX⟩ := hp
  have hrr : rr = bI (isS ((F 0)) ((M 1)) ((F 2)) k) := hrr
  subst hrr
  have hsg : SgOK ((F 0)) ((M 1)) ((F 2)) m3_1 := hsg
  have hX : MH E A ad F (va_up M 3 m3_1) H := hX.to rfl rfl
  have J17_2 : ∀ (t0 : Int) (ht0 : t0 = sel (isS ((F 0)) ((M 1)) ((F 2)) k) (cnt (m3_1) (mtc ((M 6))) ((M 5)) ((F 4)) k) (-1)) (H : Heap) (locs : List Loc) (ls : Array Slot) (hX : MH E A ad F (va_up M 3 m3_1) H) (hS : va_S A s.heap H locs) (hl : lv_has ls 2 [(0, .ref (ad 63)), (1, .int (zi k))]), W p l e rm_X2_counted s m args below meth c H locs 0 0 (MQ below (qi A (fun r H => ∃ m3 : Int → Int, SgOK (F 0) (M 1) (F 2) m3 ∧ (r = sel (isS (F 0) (M 1) (F 2) k) (cnt m3 (mtc (M 6)) (M 5) (F 4) k) (-1)) ∧ MH E A ad F (va_up M 3 m3) H)) args s (rm_X2_counted).cells (rm_X2_counted).slots A) (F0 m 17 ls [.int (zi t0)]) := by
    intro t0 ht0 H locs ls hX hS hl
    subst ht0
    exact r_iret C hS (Nat.le_of_ble_eq_true rfl) (Nat.le_of_ble_eq_true rfl) dX2_counted_17 ⟨m3_1, (by first | rfl | assumption | exact (sel_t (by omega)).symm | exact (sel_f (by omega)).symm | omega), (by first | rfl | exact (sel_t (by omega)).symm | exact (sel_f (by omega)).symm | omega), hX⟩
  refine r_if_eq_b (tgt := 16) C dX2_counted_5 (by decide) (fun c_3 => ?_) (fun c_3 => ?_)
  · refine r_const C dX2_counted_16 ?_
    exact J17_2 (-1) ((sel_f c_3).symm) H locs ls hX hS hl
  · refine lv_aload_n C.x C.b dX2_counted_8 rfl (lv_at hl 0 rfl) ?_
    refine lv_iload_n C.x C.b dX2_counted_9 rfl (lv_at hl 1 rfl) ?_
    refine r_callVi (As := [.int (zi k)]) (rest := []) (cells' := 0) (slots' := 0) C (met_X2_countOf l E A ad F (va_up M 3 m3_1) k (show -2147483648 ≤ k ∧ k < 2147483648 from (by omega))) (lw_V q1271 q1273 qs49 q88 q1274) hd_X2_countOf rfl (by decide) (m_recv C hX) hX hS hl.1 rfl (Nat.le_of_ble_eq_true rfl) dX2_counted_10 rfl rfl ⟨Nat.le_of_ble_eq_true rfl, Nat.le_of_ble_eq_true rfl⟩ (fun rr H locs hp hS => ?_)
    obtain ⟨hcn, hrr, hX⟩ := hp
    have hrr : rr = cnt (m3_1) (mtc ((M 6))) ((M 5)) ((F 4)) k := hrr
    subst hrr
    have hcn : 0 ≤ cnt (m3_1) (mtc ((M 6))) ((M 5)) ((F 4)) k ∧ cnt (m3_1) (mtc ((M 6))) ((M 5)) ((F 4)) k ≤ 192 := hcn
    refine lv_goto (tgt := 17) C.x C.b dX2_counted_13 (by decide) ?_
    exact J17_2 (cnt (m3_1) (mtc ((M 6))) ((M 5)) ((F 4)) k) ((sel_t c_3).symm) H locs ls hX hS hl

theorem hd_X2_besides : yX2_besides.cls = RX2 ∧ yX2_besides.cls ≠ "java/lang/invoke/MethodHandle" ∧ yX2_besides.cls ≠ "java/lang/invoke/VarHandle" ∧ (parseMethodDescriptor yX2_besides.desc).map (fun d => d.parameters.length) = some 2 := by decide +kernel
abbrev rm_X2_besides : Room := { frames := 1, cells := 0, slots := 0, locals := 23 }
set_option maxHeartbeats 8000000 in
theorem met_X2_besides (l : Launch) (E : us_E) (A : Nat → Prop) (ad : Nat → Nat) (F : Nat → Int) (M : Nat → Int → Int) (a : Int) (b : Int) (ha : -2147483648 ≤ a ∧ a < 2147483648) (hb : -2147483648 ≤ b ∧ b < 2147483648) : cMet l yX2_besides cX2_besides 8 (some .int) rm_X2_besides A E [.ref (ad 63), .int (zi a), .int (zi b)] (fun H => MH E A ad F M H) (qi A (fun r H => (0 ≤ bes (M 3) (mtc (M 6)) (M 5) (F 4) a b ∧ bes (M 3) (mtc (M 6)) (M 5) (F 4) a b ≤ 192) ∧ (r = bes (M 3) (mtc (M 6)) (M 5) (F 4) a b) ∧ MH E A ad F M H)) := by
  refine cMet.of (by decide) (Nat.le_of_ble_eq_true rfl) (fun p e s m args below meth c C hnm hX hS ls hl => ?_)
  have C : Cx p s m args meth c A RX2 cX2_besides 8 (some .int) E := C
  have hX : MH E A ad F M s.heap := hX
  have hl : lv_has ls 8 [(0, .ref (ad 63)), (1, .int (zi a)), (2, .int (zi b))] := hl
  generalize hH : s.heap = H at hX
  have hS : va_S A s.heap H [] := by rw [← hH]; exact hS
  generalize hlocs : ([] : List Loc) = locs at hS ⊢
  have rF4 : 0 ≤ F 4 ∧ F 4 ≤ 8 := hX.2.1 4 (0, 8) rfl
  have h24 : ∀ t, 0 ≤ M 5 t ∧ M 5 t ≤ 24 := fun t => hX.2.2 5 (0, 24) rfl t
  refine r_const C dX2_besides_0 ?_
  refine lv_istore_n (lv' := [(3, .int (zi 0)), (0, .ref (ad 63)), (1, .int (zi a)), (2, .int (zi b))]) C.x C.b dX2_besides_1 rfl hl (by decide) rfl (fun ls hl => ?_)
  refine r_const C dX2_besides_2 ?_
  refine lv_istore (lv' := [(4, .int (zi 0)), (3, .int (zi 0)), (0, .ref (ad 63)), (1, .int (zi a)), (2, .int (zi b))]) C.x C.b dX2_besides_3 hl (by decide) rfl (fun ls hl => ?_)
  have L5 : ∀ (fu : Nat) (v3 : Int) (v4 : Int) (ht : 0 ≤ v4 ∧ v4 ≤ F 4) (ha_ : v3 = isum (fun t => isum1 (fun i => bI ((¬ sa (M 3) (mtc (M 6) t (i - 1)) < 0) ∧ (¬ sa (M 3) (mtc (M 6) t i) < 0) ∧ (a < 0 ∨ (sa (M 3) (mtc (M 6) t (i - 1)) = a ∧ sa (M 3) (mtc (M 6) t i) = b)))) (M 5 t)) v4) (hm : Int.toNat (F 4 - v4) < fu) (H : Heap) (locs : List Loc) (ls : Array Slot) (hX : MH E A ad F M H) (hS : va_S A s.heap H locs) (hl : lv_has ls 8 [(0, .ref (ad 63)), (1, .int (zi a)), (2, .int (zi b)), (3, .int (zi v3)), (4, .int (zi v4))]), W p l e rm_X2_besides s m args below meth c H locs 0 0 (MQ below (qi A (fun r H => (0 ≤ bes (M 3) (mtc (M 6)) (M 5) (F 4) a b ∧ bes (M 3) (mtc (M 6)) (M 5) (F 4) a b ≤ 192) ∧ (r = bes (M 3) (mtc (M 6)) (M 5) (F 4) a b) ∧ MH E A ad F M H)) args s (rm_X2_besides).cells (rm_X2_besides).slots A) (F0 m 5 ls []) := by
    intro fu
    induction fu with
    | zero => intro v3 v4 ht ha_ hm; exact absurd hm (Nat.not_lt_zero _)
    | succ fu ih5 =>
      intro v3 v4 ht ha_ hm H locs ls hX hS hl
      refine lv_iload C.x C.b dX2_besides_5 (lv_at hl 4 rfl) ?_
      refine lv_aload_n C.x C.b dX2_besides_7 rfl (lv_at hl 0 rfl) ?_
      refine mg_4 C hX (F 4) rfl dX2_besides_8 (fun _ => ?_)
      refine r_icmp_ge (tgt := 97) C (by omega) (by omega) dX2_besides_11 (by decide) (fun c_1 => ?_) (fun c_1 => ?_)
      · refine lv_iload_n C.x C.b dX2_besides_97 rfl (lv_at hl 3 rfl) ?_
        exact r_iret C hS (Nat.le_of_ble_eq_true rfl) (Nat.le_of_ble_eq_true rfl) dX2_besides_98 ⟨(bes_r rF4 h24), (by rw [ha_, show v4 = F 4 by omega]; rfl), hX⟩
      · refine r_const C dX2_besides_14 ?_
        refine lv_istore (lv' := [(5, .int (zi 1)), (0, .ref (ad 63)), (1, .int (zi a)), (2, .int (zi b)), (3, .int (zi v3)), (4, .int (zi v4))]) C.x C.b dX2_besides_15 hl (by decide) rfl (fun ls hl => ?_)
        have L17 : ∀ (fu : Nat) (v3 : Int) (v5 : Int) (hi : 1 ≤ v5 ∧ (v5 ≤ M 5 v4 ∨ v5 = 1)) (hb_ : v3 = isum (fun t => isum1 (fun i => bI ((¬ sa (M 3) (mtc (M 6) t (i - 1)) < 0) ∧ (¬ sa (M 3) (mtc (M 6) t i) < 0) ∧ (a < 0 ∨ (sa (M 3) (mtc (M 6) t (i - 1)) = a ∧ sa (M 3) (mtc (M 6) t i) = b)))) (M 5 t)) v4 + isum1 (fun i => bI ((¬ sa (M 3) (mtc (M 6) v4 (i - 1)) < 0) ∧ (¬ sa (M 3) (mtc (M 6) v4 i) < 0) ∧ (a < 0 ∨ (sa (M 3) (mtc (M 6) v4 (i - 1)) = a ∧ sa (M 3) (mtc (M 6) v4 i) = b)))) v5) (hm : Int.toNat (M 5 v4 - v5) < fu) (H : Heap) (locs : List Loc) (ls : Array Slot) (hX : MH E A ad F M H) (hS : va_S A s.heap H locs) (hl : lv_has ls 8 [(0, .ref (ad 63)), (1, .int (zi a)), (2, .int (zi b)), (3, .int (zi v3)), (4, .int (zi v4)), (5, .int (zi v5))]), W p l e rm_X2_besides s m args below meth c H locs 0 0 (MQ below (qi A (fun r H => (0 ≤ bes (M 3) (mtc (M 6)) (M 5) (F 4) a b ∧ bes (M 3) (mtc (M 6)) (M 5) (F 4) a b ≤ 192) ∧ (r = bes (M 3) (mtc (M 6)) (M 5) (F 4) a b) ∧ MH E A ad F M H)) args s (rm_X2_besides).cells (rm_X2_besides).slots A) (F0 m 17 ls []) := by
          intro fu
          induction fu with
          | zero => intro v3 v5 hi hb_ hm; exact absurd hm (Nat.not_lt_zero _)
          | succ fu ih17 =>
            intro v3 v5 hi hb_ hm H locs ls hX hS hl
            refine lv_iload C.x C.b dX2_besides_17 (lv_at hl 5 rfl) ?_
            refine lv_aload_n C.x C.b dX2_besides_19 rfl (lv_at hl 0 rfl) ?_
            refine mg_5 C hX dX2_besides_20 ?_
            refine lv_iload C.x C.b dX2_besides_23 (lv_at hl 4 rfl) ?_
            refine ml_5 C hX (by omega) (M 5) rfl dX2_besides_25 (fun r25 => ?_)
            refine r_icmp_ge (tgt := 91) C (by omega) (by omega) dX2_besides_26 (by decide) (fun c_2 => ?_) (fun c_2 => ?_)
            · refine r_iinc (lv' := [(4, .int (zi (v4 + 1))), (0, .ref (ad 63)), (1, .int (zi a)), (2, .int (zi b)), (3, .int (zi v3)), (5, .int (zi v5))]) C dX2_besides_91 hl (k := 4) rfl (by decide) rfl (fun ls hl => ?_)
              refine lv_goto (tgt := 5) C.x C.b dX2_besides_94 (by decide) ?_
              exact ih5 v3 (v4 + 1) (by omega) (isum1_out (f := fun i => bI ((¬ sa (M 3) (mtc (M 6) v4 (i - 1)) < 0) ∧ (¬ sa (M 3) (mtc (M 6) v4 i) < 0) ∧ (a < 0 ∨ (sa (M 3) (mtc (M 6) v4 (i - 1)) = a ∧ sa (M 3) (mtc (M 6) v4 i) = b)))) (N := M 5 v4) (by omega) hb_ (by omega) rfl) (by omega) H locs ls hX hS (lv_sub hl [1, 2, 3, 4, 0] rfl)
            · refine lv_aload_n C.x C.b dX2_besides_29 rfl (lv_at hl 0 rfl) ?_
              refine lv_iload C.x C.b dX2_besides_30 (lv_at hl 4 rfl) ?_
              refine lv_iload C.x C.b dX2_besides_32 (lv_at hl 5 rfl) ?_
              refine r_const C dX2_besides_34 ?_
              refine r_isub C dX2_besides_35 ?_
              refine r_callVi (As := [.int (zi v4), .int (zi (v5 - 1))]) (rest := []) (cells' := 0) (slots' := 0) C (met_X2_at l E A ad F M v4 (v5 - 1) (show 0 ≤ v4 ∧ v4 < 8 from (by omega)) (show 0 ≤ (v5 - 1) ∧ (v5 - 1) < 24 from (by omega))) (lw_V q1259 q1261 qs47 q88 q1262) hd_X2_at rfl (by decide) (m_recv C hX) hX hS hl.1 rfl (Nat.le_of_ble_eq_true rfl) dX2_besides_36 rfl rfl ⟨Nat.le_of_ble_eq_true rfl, Nat.le_of_ble_eq_true rfl⟩ (fun rr H locs hp hS => ?_)
              obtain ⟨hat, hrr, hX⟩ := hp
              have hrr : rr = sa ((M 3)) ((M 6) (24 * v4 + (v5 - 1))) := hrr
              subst hrr
              have hat : -2 ≤ sa ((M 3)) ((M 6) (24 * v4 + (v5 - 1))) ∧ sa ((M 3)) ((M 6) (24 * v4 + (v5 - 1))) ≤ 23 := hat
              refine lv_istore (lv' := [(6, .int (zi (sa ((M 3)) ((M 6) (24 * v4 + (v5 - 1)))))), (0, .ref (ad 63)), (1, .int (zi a)), (2, .int (zi b)), (3, .int (zi v3)), (4, .int (zi v4)), (5, .int (zi v5))]) C.x C.b dX2_besides_39 hl (by decide) rfl (fun ls hl => ?_)
              refine lv_aload_n C.x C.b dX2_besides_41 rfl (lv_at hl 1 rfl) ?_
              refine lv_iload C.x C.b dX2_besides_42 (lv_at hl 5 rfl) ?_
              refine lv_iload C.x C.b dX2_besides_44 (lv_at hl 6 rfl) ?_
              refine r_callVi (As := [.int (zi v4), .int (zi v5)]) (rest := []) (cells' := 0) (slots' := 0) C (met_X2_at l E A ad F M v4 v5 (show 0 ≤ v4 ∧ v4 < 8 from (by omega)) (show 0 ≤ v5 ∧ v5 < 24 from (by omega))) (lw_V q1259 q1261 qs47 q88 q1262) hd_X2_at rfl (by decide) (m_recv C hX) hX hS hl.1 rfl (Nat.le_of_ble_eq_true rfl) dX2_besides_46 rfl rfl ⟨Nat.le_of_ble_eq_true rfl, Nat.le_of_ble_eq_true rfl⟩ (fun rr H locs hp hS => ?_)
              obtain ⟨hat, hrr, hX⟩ := hp
              have hrr : rr = sa ((M 3)) ((M 6) (24 * v4 + v5)) := hrr
              subst hrr
              have hat : -2 ≤ sa ((M 3)) ((M 6) (24 * v4 + v5)) ∧ sa ((M 3)) ((M 6) (24 * v4 + v5)) ≤ 23 := hat
              refine lv_istore (lv' := [(7, .int (zi (sa ((M 3)) ((M 6) (24 * v4 + v5))))), (6, .int (zi (sa ((M 3)) ((M 6) (24 * v4 + (v5 - 1)))))), (0, .ref (ad 63)), (1, .int (zi a)), (2, .int (zi b)), (3, .int (zi v3)), (4, .int (zi v4)), (5, .int (zi v5))]) C.x C.b dX2_besides_49 hl (by decide) rfl (fun ls hl => ?_)
              refine lv_iload_n C.x C.b dX2_besides_51 rfl (lv_at hl 5 rfl) ?_
              refine lv_iload C.x C.b dX2_besides_52 (lv_at hl 1 rfl) ?_
              have J83_3 : ∀ (t1 : Int) (ht1 : t1 = bI ((¬ ((sa ((M 3)) ((M 6) (24 * v4 + (v5 - 1)))) < 0)) ∧ ((¬ ((sa ((M 3)) ((M 6) (24 * v4 + v5))) < 0)) ∧ ((a < 0) ∨ (((sa ((M 3)) ((M 6) (24 * v4 + (v5 - 1)))) = a) ∧ ((sa ((M 3)) ((M 6) (24 * v4 + v5))) = b)))))) (H : Heap) (locs : List Loc) (ls : Array Slot) (hX : MH E A ad F M H) (hS : va_S A s.heap H locs) (hl : lv_has ls 8 [(7, .int (zi (sa ((M 3)) ((M 6) (24 * v4 + v5))))), (6, .int (zi (sa ((M 3)) ((M 6) (24 * v4 + (v5 - 1)))))), (0, .ref (ad 63)), (1, .int (zi a)), (2, .int (zi b)), (3, .int (zi v3)), (4, .int (zi v4)), (5, .int (zi v5))]), W p l e rm_X2_besides s m args below meth c H locs 0 0 (MQ below (qi A (fun r H => (0 ≤ bes (M 3) (mtc (M 6)) (M 5) (F 4) a b ∧ bes (M 3) (mtc (M 6)) (M 5) (F 4) a b ≤ 192) ∧ (r = bes (M 3) (mtc (M 6)) (M 5) (F 4) a b) ∧ MH E A ad F M H)) args s (rm_X2_besides).cells (rm_X2_besides).slots A) (F0 m 83 ls [.int (zi t1), .int (zi v3)]) := by
                intro t1 ht1 H locs ls hX hS hl
                subst ht1
                refine r_iadd C dX2_besides_83 ?_
                refine lv_istore_n (lv' := [(3, .int (zi (v3 + (bI ((¬ ((sa ((M 3)) ((M 6) (24 * v4 + (v5 - 1)))) < 0)) ∧ ((¬ ((sa ((M 3)) ((M 6) (24 * v4 + v5))) < 0)) ∧ ((a < 0) ∨ (((sa ((M 3)) ((M 6) (24 * v4 + (v5 - 1)))) = a) ∧ ((sa ((M 3)) ((M 6) (24 * v4 + v5))) = b))))))))), (7, .int (zi (sa ((M 3)) ((M 6) (24 * v4 + v5))))), (6, .int (zi (sa ((M 3)) ((M 6) (24 * v4 + (v5 - 1)))))), (0, .ref (ad 63)), (1, .int (zi a)), (2, .int (zi b)), (4, .int (zi v4)), (5, .int (zi v5))]) C.x C.b dX2_besides_84 rfl hl (by decide) rfl (fun ls hl => ?_)
                refine r_iinc (lv' := [(5, .int (zi (v5 + 1))), (3, .int (zi (v3 + (bI ((¬ ((sa ((M 3)) ((M 6) (24 * v4 + (v5 - 1)))) < 0)) ∧ ((¬ ((sa ((M 3)) ((M 6) (24 * v4 + v5))) < 0)) ∧ ((a < 0) ∨ (((sa ((M 3)) ((M 6) (24 * v4 + (v5 - 1)))) = a) ∧ ((sa ((M 3)) ((M 6) (24 * v4 + v5))) = b))))))))), (7, .int (zi (sa ((M 3)) ((M 6) (24 * v4 + v5))))), (6, .int (zi (sa ((M 3)) ((M 6) (24 * v4 + (v5 - 1)))))), (0, .ref (ad 63)), (1, .int (zi a)), (2, .int (zi b)), (4, .int (zi v4))]) C dX2_besides_85 hl (k := 7) rfl (by decide) rfl (fun ls hl => ?_)
                refine lv_goto (tgt := 17) C.x C.b dX2_besides_88 (by decide) ?_
                exact ih17 (v3 + (bI ((¬ ((sa ((M 3)) ((M 6) (24 * v4 + (v5 - 1)))) < 0)) ∧ ((¬ ((sa ((M 3)) ((M 6) (24 * v4 + v5))) < 0)) ∧ ((a < 0) ∨ (((sa ((M 3)) ((M 6) (24 * v4 + (v5 - 1)))) = a) ∧ ((sa ((M 3)) ((M 6) (24 * v4 + v5))) = b))))))) (v5 + 1) (by omega) (isum1_st2 (by omega) hb_ rfl) (by omega) H locs ls hX hS (lv_sub hl [4, 5, 6, 1, 7, 0] rfl)
              refine r_if_lt (tgt := 82) C (by omega) dX2_besides_54 (by decide) (fun c_4 => ?_) (fun c_4 => ?_)
              · refine r_const C dX2_besides_82 ?_
                exact J83_3 0 ((bI_f (fun q => (fun q => q c_4) q.1)).symm) H locs ls hX hS hl
              · refine lv_iload C.x C.b dX2_besides_57 (lv_at hl 0 rfl) ?_
                refine r_if_lt (tgt := 82) C (by omega) dX2_besides_59 (by decide) (fun c_5 => ?_) (fun c_5 => ?_)
                · refine r_const C dX2_besides_82 ?_
                  exact J83_3 0 ((bI_f (fun q => (fun q => (fun q => q c_5) q.1) q.2)).symm) H locs ls hX hS hl
                · refine lv_iload_n C.x C.b dX2_besides_62 rfl (lv_at hl 3 rfl) ?_
                  refine r_if_lt (tgt := 78) C (by omega) dX2_besides_63 (by decide) (fun c_6 => ?_) (fun c_6 => ?_)
                  · refine r_const C dX2_besides_78 ?_
                    refine lv_goto (tgt := 83) C.x C.b dX2_besides_79 (by decide) ?_
                    exact J83_3 1 ((bI_t ⟨c_4, ⟨c_5, (Or.inl c_6)⟩⟩).symm) H locs ls hX hS hl
                  · refine lv_iload C.x C.b dX2_besides_66 (lv_at hl 1 rfl) ?_
                    refine lv_iload_n C.x C.b dX2_besides_68 rfl (lv_at hl 3 rfl) ?_
                    refine r_icmp_ne (tgt := 82) C (by omega) (by omega) dX2_besides_69 (by decide) (fun c_7 => ?_) (fun c_7 => ?_)
                    · refine r_const C dX2_besides_82 ?_
                      exact J83_3 0 ((bI_f (fun q => (fun q => (fun q => q.elim c_6 (fun q => c_7 q.1)) q.2) q.2)).symm) H locs ls hX hS hl
                    · refine lv_iload C.x C.b dX2_besides_72 (lv_at hl 0 rfl) ?_
                      refine lv_iload_n C.x C.b dX2_besides_74 rfl (lv_at hl 4 rfl) ?_
                      refine r_icmp_ne (tgt := 82) C (by omega) (by omega) dX2_besides_75 (by decide) (fun c_8 => ?_) (fun c_8 => ?_)
                      · refine r_const C dX2_besides_82 ?_
                        exact J83_3 0 ((bI_f (fun q => (fun q => (fun q => q.elim c_6 (fun q => c_8 q.2)) q.2) q.2)).symm) H locs ls hX hS hl
                      · refine r_const C dX2_besides_78 ?_
                        refine lv_goto (tgt := 83) C.x C.b dX2_besides_79 (by decide) ?_
                        exact J83_3 1 ((bI_t ⟨c_4, ⟨c_5, (Or.inr ⟨c_7, c_8⟩)⟩⟩).symm) H locs ls hX hS hl
        have r5 := h24 v4
        exact L17 _ v3 1 (by omega) (by rw [ha_]; exact (Int.add_zero _).symm) (Nat.lt_succ_self _) H locs ls hX hS (lv_sub hl [1, 2, 3, 4, 5, 0] rfl)
  exact L5 _ 0 0 (by omega) rfl (Nat.lt_succ_self _) H locs ls hX hS (lv_sub hl [2, 3, 4, 1, 0] rfl)

theorem hd_X2_beside : yX2_beside.cls = RX2 ∧ yX2_beside.cls ≠ "java/lang/invoke/MethodHandle" ∧ yX2_beside.cls ≠ "java/lang/invoke/VarHandle" ∧ (parseMethodDescriptor yX2_beside.desc).map (fun d => d.parameters.length) = some 2 := by decide +kernel
abbrev rm_X2_beside : Room := { frames := 3, cells := 0, slots := 0, locals := 69 }
set_option maxHeartbeats 8000000 in
theorem met_X2_beside (l : Launch) (E : us_E) (A : Nat → Prop) (ad : Nat → Nat) (F : Nat → Int) (M : Nat → Int → Int) (a : Int) (b : Int) (ha : -2147483648 ≤ a ∧ a < 2147483648) (hb : -2147483648 ≤ b ∧ b < 2147483648) : cMet l yX2_beside cX2_beside 3 (some .int) rm_X2_beside A E [.ref (ad 63), .int (zi a), .int (zi b)] (fun H => MH E A ad F M H) (qi A (fun r H => ∃ m3 : Int → Int, SgOK (F 0) (M 1) (F 2) m3 ∧ (r = sel (isS (F 0) (M 1) (F 2) a ∧ isS (F 0) (M 1) (F 2) b) (bes m3 (mtc (M 6)) (M 5) (F 4) a b) (-1)) ∧ MH E A ad F (va_up M 3 m3) H)) := by
  refine cMet.of (by decide) (Nat.le_of_ble_eq_true rfl) (fun p e s m args below meth c C hnm hX hS ls hl => ?_)
  have C : Cx p s m args meth c A RX2 cX2_beside 3 (some .int) E := C
  have hX : MH E A ad F M s.heap := hX
  have hl : lv_has ls 3 [(0, .ref (ad 63)), (1, .int (zi a)), (2, .int (zi b))] := hl
  generalize hH : s.heap = H at hX
  have hS : va_S A s.heap H [] := by rw [← hH]; exact hS
  generalize hlocs : ([] : List Loc) = locs at hS ⊢
  have rF0 : 0 ≤ F 0 ∧ F 0 ≤ 24 := hX.2.1 0 (0, 24) rfl
  have rF2 : 0 ≤ F 2 ∧ F 2 ≤ 12 := hX.2.1 2 (0, 12) rfl
  have rF4 : 0 ≤ F 4 ∧ F 4 ≤ 8 := hX.2.1 4 (0, 8) rfl
  refine lv_aload_n C.x C.b dX2_beside_0 rfl (lv_at hl 0 rfl) ?_
  refine lv_iload_n C.x C.b dX2_beside_1 rfl (lv_at hl 1 rfl) ?_
  refine r_callVi (As := [.int (zi a)]) (rest := []) (cells' := 0) (slots' := 0) C (met_X2_isSign l E A ad F M a (show -2147483648 ≤ a ∧ a < 2147483648 from (by omega))) (lw_V q1267 q1269 qs48 q88 q1270) hd_X2_isSign rfl (by decide) (m_recv C hX) hX hS hl.1 rfl (Nat.le_of_ble_eq_true rfl) dX2_beside_2 rfl rfl ⟨Nat.le_of_ble_eq_true rfl, Nat.le_of_ble_eq_true rfl⟩ (fun rr H locs hp hS => ?_)
  obtain ⟨m3_1, hsg, hrr, hX⟩ := hp
  have hrr : rr = bI (isS ((F 0)) ((M 1)) ((F 2)) a) := hrr
  subst hrr
  have hsg : SgOK ((F 0)) ((M 1)) ((F 2)) m3_1 := hsg
  have hX : MH E A ad F (va_up M 3 m3_1) H := hX.to rfl rfl
  refine r_if_eq_b (tgt := 25) C dX2_beside_5 (by decide) (fun c_2 => ?_) (fun c_2 => ?_)
  · refine r_const C dX2_beside_25 ?_
    exact r_iret C hS (Nat.le_of_ble_eq_true rfl) (Nat.le_of_ble_eq_true rfl) dX2_beside_26 ⟨m3_1, (by first | rfl | assumption | exact (sel_t (by omega)).symm | exact (sel_f (by omega)).symm | omega), (by first | exact Eq.symm (sel_t ⟨by assumption, by assumption⟩) | exact Eq.symm (sel_f (fun q => absurd q.1 (by assumption))) | exact Eq.symm (sel_f (fun q => absurd q.2 (by assumption)))), hX⟩
  · refine lv_aload_n C.x C.b dX2_beside_8 rfl (lv_at hl 0 rfl) ?_
    refine lv_iload_n C.x C.b dX2_beside_9 rfl (lv_at hl 2 rfl) ?_
    refine r_callVi (As := [.int (zi b)]) (rest := []) (cells' := 0) (slots' := 0) C (met_X2_isSign l E A ad F (va_up M 3 m3_1) b (show -2147483648 ≤ b ∧ b < 2147483648 from (by omega))) (lw_V q1267 q1269 qs48 q88 q1270) hd_X2_isSign rfl (by decide) (m_recv C hX) hX hS hl.1 rfl (Nat.le_of_ble_eq_true rfl) dX2_beside_10 rfl rfl ⟨Nat.le_of_ble_eq_true rfl, Nat.le_of_ble_eq_true rfl⟩ (fun rr H locs hp hS => ?_)
    obtain ⟨m3_3, hsg, hrr, hX⟩ := hp
    have hrr : rr = bI (isS ((F 0)) ((M 1)) ((F 2)) b) := hrr
    subst hrr
    have hsg : SgOK ((F 0)) ((M 1)) ((F 2)) m3_3 := hsg
    have hX : MH E A ad F (va_up M 3 m3_3) H := hX.to rfl (up_up _ _ _ _)
    refine r_if_eq_b (tgt := 25) C dX2_beside_13 (by decide) (fun c_4 => ?_) (fun c_4 => ?_)
    · refine r_const C dX2_beside_25 ?_
      exact r_iret C hS (Nat.le_of_ble_eq_true rfl) (Nat.le_of_ble_eq_true rfl) dX2_beside_26 ⟨m3_3, (by first | rfl | assumption | exact (sel_t (by omega)).symm | exact (sel_f (by omega)).symm | omega), (by first | exact Eq.symm (sel_t ⟨by assumption, by assumption⟩) | exact Eq.symm (sel_f (fun q => absurd q.1 (by assumption))) | exact Eq.symm (sel_f (fun q => absurd q.2 (by assumption)))), hX⟩
    · refine lv_aload_n C.x C.b dX2_beside_16 rfl (lv_at hl 0 rfl) ?_
      refine lv_iload_n C.x C.b dX2_beside_17 rfl (lv_at hl 1 rfl) ?_
      refine lv_iload_n C.x C.b dX2_beside_18 rfl (lv_at hl 2 rfl) ?_
      refine r_callVi (As := [.int (zi a), .int (zi b)]) (rest := []) (cells' := 0) (slots' := 0) C (met_X2_besides l E A ad F (va_up M 3 m3_3) a b (show -2147483648 ≤ a ∧ a < 2147483648 from (by omega)) (show -2147483648 ≤ b ∧ b < 2147483648 from (by omega))) (lw_V q1279 q1281 qs50 q88 q1282) hd_X2_besides rfl (by decide) (m_recv C hX) hX hS hl.1 rfl (Nat.le_of_ble_eq_true rfl) dX2_beside_19 rfl rfl ⟨Nat.le_of_ble_eq_true rfl, Nat.le_of_ble_eq_true rfl⟩ (fun rr H locs hp hS => ?_)
      obtain ⟨hbs, hrr, hX⟩ := hp
      have hrr : rr = bes (m3_3) (mtc ((M 6))) ((M 5)) ((F 4)) a b := hrr
      subst hrr
      have hbs : 0 ≤ bes (m3_3) (mtc ((M 6))) ((M 5)) ((F 4)) a b ∧ bes (m3_3) (mtc ((M 6))) ((M 5)) ((F 4)) a b ≤ 192 := hbs
      refine lv_goto (tgt := 26) C.x C.b dX2_beside_22 (by decide) ?_
      exact r_iret C hS (Nat.le_of_ble_eq_true rfl) (Nat.le_of_ble_eq_true rfl) dX2_beside_26 ⟨m3_3, (by first | rfl | assumption | exact (sel_t (by omega)).symm | exact (sel_f (by omega)).symm | omega), (by first | exact Eq.symm (sel_t ⟨by assumption, by assumption⟩) | exact Eq.symm (sel_f (fun q => absurd q.1 (by assumption))) | exact Eq.symm (sel_f (fun q => absurd q.2 (by assumption)))), hX⟩
