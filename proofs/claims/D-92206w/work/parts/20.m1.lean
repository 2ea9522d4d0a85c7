set_option maxRecDepth 100000

theorem hd_X2_in : yX2_in.cls ≠ "java/lang/invoke/MethodHandle" ∧ yX2_in.cls ≠ "java/lang/invoke/VarHandle" ∧ (parseMethodDescriptor yX2_in.desc).map (fun d => d.parameters.length) = some 3 := by decide +kernel
abbrev rm_X2_in : Room := { frames := 0, cells := 0, slots := 0, locals := 0 }
set_option maxHeartbeats 8000000 in
theorem met_X2_in (l : Launch) (E : us_E) (A : Nat → Prop) (ad : Nat → Nat) (H0 : Heap) (v : Int) (lo : Int) (hi : Int) (hv : -9223372036854775808 ≤ v ∧ v < 9223372036854775808) (hlo : -9223372036854775808 ≤ lo ∧ lo < 9223372036854775808) (hhi : -9223372036854775808 ≤ hi ∧ hi < 9223372036854775808) : cMet l yX2_in cX2_in 6 (some .boolean) rm_X2_in A E [.long (zl v), .long (zl lo), .long (zl hi)] (fun H => H = H0) (qi A (fun r H => (r = bI (lo ≤ v ∧ v ≤ hi)) ∧ (H = H0))) := by
  refine cMet.of (by decide) (Nat.le_of_ble_eq_true rfl) (fun p e s m args below meth c C hnm hX hS ls hl => ?_)
  have C : Cx p s m args meth c A RX2 cX2_in 6 (some .boolean) E := C
  have hX : s.heap = H0 := hX
  have hl : lv_has ls 6 [(0, .long (zl v)), (2, .long (zl lo)), (4, .long (zl hi))] := hl
  generalize hH : s.heap = H at hX
  have hS : va_S A s.heap H [] := by rw [← hH]; exact hS
  generalize hlocs : ([] : List Loc) = locs at hS ⊢
  refine lv_lload_n C.x C.b dX2_in_0 rfl (lv_at hl 0 rfl) ?_
  refine lv_lload_n C.x C.b dX2_in_1 rfl (lv_at hl 1 rfl) ?_
  refine r_lcmp C (by omega) (by omega) dX2_in_2 ?_
  have J18_1 : ∀ (t0 : Int) (ht0 : t0 = bI ((¬ (v < lo)) ∧ (¬ (hi < v)))) (H : Heap) (locs : List Loc) (ls : Array Slot) (hX : H = H0) (hS : va_S A s.heap H locs) (hl : lv_has ls 6 [(0, .long (zl v)), (2, .long (zl lo)), (4, .long (zl hi))]), W p l e rm_X2_in s m args below meth c H locs 0 0 (MQ below (qi A (fun r H => (r = bI (lo ≤ v ∧ v ≤ hi)) ∧ (H = H0))) args s (rm_X2_in).cells (rm_X2_in).slots A) (F0 m 18 ls [.int (zi t0)]) := by
    intro t0 ht0 H locs ls hX hS hl
    subst ht0
    exact r_zret C (bI_e _) hS (Nat.le_of_ble_eq_true rfl) (Nat.le_of_ble_eq_true rfl) dX2_in_18 ⟨(bI_c (by first | exact Iff.rfl | (constructor <;> intro _ <;> omega))), hX⟩
  refine r_if_lt_c (tgt := 17) C dX2_in_3 (by decide) (fun c_2 => ?_) (fun c_2 => ?_)
  · refine r_const C dX2_in_17 ?_
    exact J18_1 0 ((bI_f (fun q => (fun q => q c_2) q.1)).symm) H locs ls hX hS hl
  · refine lv_lload_n C.x C.b dX2_in_6 rfl (lv_at hl 0 rfl) ?_
    refine lv_lload C.x C.b dX2_in_7 (lv_at hl 2 rfl) ?_
    refine r_lcmp C (by omega) (by omega) dX2_in_9 ?_
    refine r_if_gt_c (tgt := 17) C dX2_in_10 (by decide) (fun c_3 => ?_) (fun c_3 => ?_)
    · refine r_const C dX2_in_17 ?_
      exact J18_1 0 ((bI_f (fun q => (fun q => q c_3) q.2)).symm) H locs ls hX hS hl
    · refine r_const C dX2_in_13 ?_
      refine lv_goto (tgt := 18) C.x C.b dX2_in_14 (by decide) ?_
      exact J18_1 1 ((bI_t ⟨c_2, c_3⟩).symm) H locs ls hX hS hl

theorem hd_X2_isForm : yX2_isForm.cls = RX2 ∧ yX2_isForm.cls ≠ "java/lang/invoke/MethodHandle" ∧ yX2_isForm.cls ≠ "java/lang/invoke/VarHandle" ∧ (parseMethodDescriptor yX2_isForm.desc).map (fun d => d.parameters.length) = some 1 := by decide +kernel
abbrev rm_X2_isForm : Room := { frames := 1, cells := 0, slots := 0, locals := 25 }
set_option maxHeartbeats 8000000 in
theorem met_X2_isForm (l : Launch) (E : us_E) (A : Nat → Prop) (ad : Nat → Nat) (F : Nat → Int) (M : Nat → Int → Int) (f : Int) (hf : -2147483648 ≤ f ∧ f < 2147483648) : cMet l yX2_isForm cX2_isForm 2 (some .boolean) rm_X2_isForm A E [.ref (ad 63), .int (zi f)] (fun H => MH E A ad F M H) (qi A (fun r H => (r = bI (0 ≤ f ∧ f < F 0)) ∧ MH E A ad F M H)) := by
  refine cMet.of (by decide) (Nat.le_of_ble_eq_true rfl) (fun p e s m args below meth c C hnm hX hS ls hl => ?_)
  have C : Cx p s m args meth c A RX2 cX2_isForm 2 (some .boolean) E := C
  have hX : MH E A ad F M s.heap := hX
  have hl : lv_has ls 2 [(0, .ref (ad 63)), (1, .int (zi f))] := hl
  generalize hH : s.heap = H at hX
  have hS : va_S A s.heap H [] := by rw [← hH]; exact hS
  generalize hlocs : ([] : List Loc) = locs at hS ⊢
  have rF0 : 0 ≤ F 0 ∧ F 0 ≤ 24 := hX.2.1 0 (0, 24) rfl
  refine lv_iload_n C.x C.b dX2_isForm_0 rfl (lv_at hl 1 rfl) ?_
  refine r_i2l C (by omega) dX2_isForm_1 ?_
  refine r_lconst C 0 rfl dX2_isForm_2 ?_
  refine lv_aload_n C.x C.b dX2_isForm_3 rfl (lv_at hl 0 rfl) ?_
  refine mg_0 C hX (F 0) rfl dX2_isForm_4 (fun _ => ?_)
  refine r_const C dX2_isForm_7 ?_
  refine r_isub C dX2_isForm_8 ?_
  refine r_i2l C (by omega) dX2_isForm_9 ?_
  refine r_callSi (As := [.long (zl f), .long (zl 0), .long (zl ((F 0) - 1))]) (rest := []) (cells' := 0) (slots' := 0) C (met_X2_in l E A ad H f 0 ((F 0) - 1) (show -9223372036854775808 ≤ f ∧ f < 9223372036854775808 from (by omega)) (show -9223372036854775808 ≤ 0 ∧ 0 < 9223372036854775808 from (by omega)) (show -9223372036854775808 ≤ ((F 0) - 1) ∧ ((F 0) - 1) < 9223372036854775808 from (by omega))) (lw_S q1209 q1210 q88 q1211) hd_X2_in rfl (by decide) rfl hS hl.1 rfl (Nat.le_of_ble_eq_true rfl) dX2_isForm_10 rfl rfl ⟨Nat.le_of_ble_eq_true rfl, Nat.le_of_ble_eq_true rfl⟩ (fun rr H locs hp hS => ?_)
  obtain ⟨hrr, hH⟩ := hp
  have hrr : rr = bI (0 ≤ f ∧ f ≤ ((F 0) - 1)) := hrr
  subst hrr
  have hX : MH E A ad F M H := by rw [hH]; exact hX
  exact r_zret C (bI_e _) hS (Nat.le_of_ble_eq_true rfl) (Nat.le_of_ble_eq_true rfl) dX2_isForm_13 ⟨(bI_c (by first | exact Iff.rfl | (constructor <;> intro _ <;> omega))), hX⟩

theorem hd_X2_likeness : yX2_likeness.cls = RX2 ∧ yX2_likeness.cls ≠ "java/lang/invoke/MethodHandle" ∧ yX2_likeness.cls ≠ "java/lang/invoke/VarHandle" ∧ (parseMethodDescriptor yX2_likeness.desc).map (fun d => d.parameters.length) = some 1 := by decide +kernel
abbrev rm_X2_likeness : Room := { frames := 1, cells := 0, slots := 0, locals := 25 }
set_option maxHeartbeats 8000000 in
theorem met_X2_likeness (l : Launch) (E : us_E) (A : Nat → Prop) (ad : Nat → Nat) (F : Nat → Int) (M : Nat → Int → Int) (v : Int) (hv : -2147483648 ≤ v ∧ v < 2147483648) : cMet l yX2_likeness cX2_likeness 3 (some .int) rm_X2_likeness A E [.ref (ad 63), .int (zi v)] (fun H => MH E A ad F M H) (qi A (fun r H => ∃ f2 : Int, (f2 = sel (0 ≤ v ∧ v ≤ 12) v (F 2)) ∧ (r = sel (0 ≤ v ∧ v ≤ 12) (F 2) (-1)) ∧ MH E A ad (va_up F 2 f2) M H)) := by
  refine cMet.of (by decide) (Nat.le_of_ble_eq_true rfl) (fun p e s m args below meth c C hnm hX hS ls hl => ?_)
  have C : Cx p s m args meth c A RX2 cX2_likeness 3 (some .int) E := C
  have hX : MH E A ad F M s.heap := hX
  have hl : lv_has ls 3 [(0, .ref (ad 63)), (1, .int (zi v))] := hl
  generalize hH : s.heap = H at hX
  have hS : va_S A s.heap H [] := by rw [← hH]; exact hS
  generalize hlocs : ([] : List Loc) = locs at hS ⊢
  have rF2 : 0 ≤ F 2 ∧ F 2 ≤ 12 := hX.2.1 2 (0, 12) rfl
  refine lv_iload_n C.x C.b dX2_likeness_0 rfl (lv_at hl 1 rfl) ?_
  refine r_i2l C (by omega) dX2_likeness_1 ?_
  refine r_lconst C 0 rfl dX2_likeness_2 ?_
  refine r_ldc2 C 12 (by decide) q1216 dX2_likeness_3 ?_
  refine r_callSi (As := [.long (zl v), .long (zl 0), .long (zl 12)]) (rest := []) (cells' := 0) (slots' := 0) C (met_X2_in l E A ad H v 0 12 (show -9223372036854775808 ≤ v ∧ v < 9223372036854775808 from (by omega)) (show -9223372036854775808 ≤ 0 ∧ 0 < 9223372036854775808 from (by omega)) (show -9223372036854775808 ≤ 12 ∧ 12 < 9223372036854775808 from (by omega))) (lw_S q1209 q1210 q88 q1211) hd_X2_in rfl (by decide) rfl hS hl.1 rfl (Nat.le_of_ble_eq_true rfl) dX2_likeness_6 rfl rfl ⟨Nat.le_of_ble_eq_true rfl, Nat.le_of_ble_eq_true rfl⟩ (fun rr H locs hp hS => ?_)
  obtain ⟨hrr, hH⟩ := hp
  have hrr : rr = bI (0 ≤ v ∧ v ≤ 12) := hrr
  subst hrr
  have hX : MH E A ad F M H := by rw [hH]; exact hX
  refine r_if_ne_b (tgt := 14) C dX2_likeness_9 (by decide) (fun c_1 => ?_) (fun c_1 => ?_)
  · refine lv_aload_n C.x C.b dX2_likeness_14 rfl (lv_at hl 0 rfl) ?_
    refine mg_2 C hX (F 2) rfl dX2_likeness_15 (fun _ => ?_)
    refine lv_istore_n (lv' := [(2, .int (zi (F 2))), (0, .ref (ad 63)), (1, .int (zi v))]) C.x C.b dX2_likeness_18 rfl hl (by decide) rfl (fun ls hl => ?_)
    refine lv_aload_n C.x C.b dX2_likeness_19 rfl (lv_at hl 1 rfl) ?_
    refine lv_iload_n C.x C.b dX2_likeness_20 rfl (lv_at hl 2 rfl) ?_
    refine mp_2 C hX hS (by omega) (F' := (va_up F 2 v)) rfl dX2_likeness_21 (fun H locs hX hS => ?_)
    refine lv_iload_n C.x C.b dX2_likeness_24 rfl (lv_at hl 0 rfl) ?_
    exact r_iret C hS (Nat.le_of_ble_eq_true rfl) (Nat.le_of_ble_eq_true rfl) dX2_likeness_25 ⟨v, (by first | rfl | assumption | exact (sel_t (by omega)).symm | exact (sel_f (by omega)).symm | omega), (by first | rfl | exact (sel_t (by omega)).symm | exact (sel_f (by omega)).symm | omega), hX⟩
  · refine r_const C dX2_likeness_12 ?_
    exact r_iret C hS (Nat.le_of_ble_eq_true rfl) (Nat.le_of_ble_eq_true rfl) dX2_likeness_13 ⟨(F 2), (by first | rfl | assumption | exact (sel_t (by omega)).symm | exact (sel_f (by omega)).symm | omega), (by first | rfl | exact (sel_t (by omega)).symm | exact (sel_f (by omega)).symm | omega), (hX.to ((up_id F (k := 2) (a := (F 2)) rfl).symm.trans rfl) rfl)⟩

theorem hd_X2_bits : yX2_bits.cls ≠ "java/lang/invoke/MethodHandle" ∧ yX2_bits.cls ≠ "java/lang/invoke/VarHandle" ∧ (parseMethodDescriptor yX2_bits.desc).map (fun d => d.parameters.length) = some 1 := by decide +kernel
abbrev rm_X2_bits : Room := { frames := 0, cells := 0, slots := 0, locals := 0 }
set_option maxHeartbeats 8000000 in
theorem met_X2_bits (l : Launch) (E : us_E) (A : Nat → Prop) (ad : Nat → Nat) (H0 : Heap) (v : Int) (hv : -2147483648 ≤ v ∧ v < 2147483648) : cMet l yX2_bits cX2_bits 3 (some .int) rm_X2_bits A E [.int (zi v)] (fun H => H = H0) (qi A (fun r H => (r = bits v) ∧ (H = H0))) := by
  refine cMet.of (by decide) (Nat.le_of_ble_eq_true rfl) (fun p e s m args below meth c C hnm hX hS ls hl => ?_)
  have C : Cx p s m args meth c A RX2 cX2_bits 3 (some .int) E := C
  have hX : s.heap = H0 := hX
  have hl : lv_has ls 3 [(0, .int (zi v))] := hl
  generalize hH : s.heap = H at hX
  have hS : va_S A s.heap H [] := by rw [← hH]; exact hS
  generalize hlocs : ([] : List Loc) = locs at hS ⊢
  refine r_const C dX2_bits_0 ?_
  refine lv_istore_n (lv' := [(1, .int (zi 0)), (0, .int (zi v))]) C.x C.b dX2_bits_1 rfl hl (by decide) rfl (fun ls hl => ?_)
  refine r_const C dX2_bits_2 ?_
  refine lv_istore_n (lv' := [(2, .int (zi 0)), (1, .int (zi 0)), (0, .int (zi v))]) C.x C.b dX2_bits_3 rfl hl (by decide) rfl (fun ls hl => ?_)
  have L4 : ∀ (fu : Nat) (v1 : Int) (v2 : Int) (h2 : 0 ≤ v2 ∧ v2 ≤ 24) (h1 : v1 = isum (fun k => v / 2 ^ k.toNat % 2) v2) (hm : Int.toNat (24 - v2) < fu) (H : Heap) (locs : List Loc) (ls : Array Slot) (hX : H = H0) (hS : va_S A s.heap H locs) (hl : lv_has ls 3 [(0, .int (zi v)), (1, .int (zi v1)), (2, .int (zi v2))]), W p l e rm_X2_bits s m args below meth c H locs 0 0 (MQ below (qi A (fun r H => (r = bits v) ∧ (H = H0))) args s (rm_X2_bits).cells (rm_X2_bits).slots A) (F0 m 4 ls []) := by
    intro fu
    induction fu with
    | zero => intro v1 v2 h2 h1 hm; exact absurd hm (Nat.not_lt_zero _)
    | succ fu ih4 =>
      intro v1 v2 h2 h1 hm H locs ls hX hS hl
      refine lv_iload_n C.x C.b dX2_bits_4 rfl (lv_at hl 2 rfl) ?_
      refine r_bipush C (by decide) dX2_bits_5 ?_
      refine r_icmp_ge (tgt := 24) C (by omega) (by decide) dX2_bits_7 (by decide) (fun c_1 => ?_) (fun c_1 => ?_)
      · refine lv_iload_n C.x C.b dX2_bits_24 rfl (lv_at hl 1 rfl) ?_
        exact r_iret C hS (Nat.le_of_ble_eq_true rfl) (Nat.le_of_ble_eq_true rfl) dX2_bits_25 ⟨(by rw [h1, show v2 = 24 by omega]; rfl), hX⟩
      · refine lv_iload_n C.x C.b dX2_bits_10 rfl (lv_at hl 1 rfl) ?_
        refine lv_iload_n C.x C.b dX2_bits_11 rfl (lv_at hl 0 rfl) ?_
        refine lv_iload_n C.x C.b dX2_bits_12 rfl (lv_at hl 2 rfl) ?_
        refine r_ishr C (by omega) (by omega) rfl dX2_bits_13 ?_
        refine r_const C dX2_bits_14 ?_
        refine r_iand C (zi_and1 _) dX2_bits_15 ?_
        refine r_iadd C dX2_bits_16 ?_
        refine lv_istore_n (lv' := [(1, .int (zi (v1 + ((v / 2 ^ v2.toNat) % 2)))), (0, .int (zi v)), (2, .int (zi v2))]) C.x C.b dX2_bits_17 rfl hl (by decide) rfl (fun ls hl => ?_)
        refine r_iinc (lv' := [(2, .int (zi (v2 + 1))), (1, .int (zi (v1 + ((v / 2 ^ v2.toNat) % 2)))), (0, .int (zi v))]) C dX2_bits_18 hl (k := 2) rfl (by decide) rfl (fun ls hl => ?_)
        refine lv_goto (tgt := 4) C.x C.b dX2_bits_21 (by decide) ?_
        exact ih4 (v1 + ((v / 2 ^ v2.toNat) % 2)) (v2 + 1) (by omega) (isum_st (by omega) h1 rfl) (by omega) H locs ls hX hS (lv_sub hl [2, 1, 0] rfl)
  exact L4 _ 0 0 (by omega) rfl (Nat.lt_succ_self _) H locs ls hX hS (lv_sub hl [2, 1, 0] rfl)

theorem hd_X2_findSigns : yX2_findSigns.cls = RX2 ∧ yX2_findSigns.cls ≠ "java/lang/invoke/MethodHandle" ∧ yX2_findSigns.cls ≠ "java/lang/invoke/VarHandle" ∧ (parseMethodDescriptor yX2_findSigns.desc).map (fun d => d.parameters.length) = some 1 := by decide +kernel
abbrev rm_X2_findSigns : Room := { frames := 1, cells := 0, slots := 0, locals := 22 }
set_option maxHeartbeats 8000000 in
theorem met_X2_findSigns (l : Launch) (E : us_E) (A : Nat → Prop) (ad : Nat → Nat) (F : Nat → Int) (M : Nat → Int → Int) (w : Int) (hw : 0 ≤ w ∧ w ≤ 24) : cMet l yX2_findSigns cX2_findSigns 7 none rm_X2_findSigns A E [.ref (ad 63), .int (zi w)] (fun H => MH E A ad F M H) (qv A (fun H => ∃ m3 : Int → Int, SgOK (F 0) (M 1) w m3 ∧ MH E A ad F (va_up M 3 m3) H)) := by
  refine cMet.of (by decide) (Nat.le_of_ble_eq_true rfl) (fun p e s m args below meth c C hnm hX hS ls hl => ?_)
  have C : Cx p s m args meth c A RX2 cX2_findSigns 7 none E := C
  have hX : MH E A ad F M s.heap := hX
  have hl : lv_has ls 7 [(0, .ref (ad 63)), (1, .int (zi w))] := hl
  generalize hH : s.heap = H at hX
  have hS : va_S A s.heap H [] := by rw [← hH]; exact hS
  generalize hlocs : ([] : List Loc) = locs at hS ⊢
  have rF0 : 0 ≤ F 0 ∧ F 0 ≤ 24 := hX.2.1 0 (0, 24) rfl
  refine r_const C dX2_findSigns_0 ?_
  refine lv_istore_n (lv' := [(2, .int (zi 0)), (0, .ref (ad 63)), (1, .int (zi w))]) C.x C.b dX2_findSigns_1 rfl hl (by decide) rfl (fun ls hl => ?_)
  have L2 : ∀ (fu : Nat) (v2 : Int) (m3 : Int → Int) (h2 : 0 ≤ v2 ∧ v2 ≤ F 0) (h3 : ∀ j : Int, 0 ≤ j → j < v2 → m3 j = j) (hm : Int.toNat (F 0 - v2) < fu) (H : Heap) (locs : List Loc) (ls : Array Slot) (hX : MH E A ad F (va_up M 3 m3) H) (hS : va_S A s.heap H locs) (hl : lv_has ls 7 [(0, .ref (ad 63)), (1, .int (zi w)), (2, .int (zi v2))]), W p l e rm_X2_findSigns s m args below meth c H locs 0 0 (MQ below (qv A (fun H => ∃ m3 : Int → Int, SgOK (F 0) (M 1) w m3 ∧ MH E A ad F (va_up M 3 m3) H)) args s (rm_X2_findSigns).cells (rm_X2_findSigns).slots A) (F0 m 2 ls []) := by
    intro fu
    induction fu with
    | zero => intro v2 m3 h2 h3 hm; exact absurd hm (Nat.not_lt_zero _)
    | succ fu ih2 =>
      intro v2 m3 h2 h3 hm H locs ls hX hS hl
      refine lv_iload_n C.x C.b dX2_findSigns_2 rfl (lv_at hl 2 rfl) ?_
      refine lv_aload_n C.x C.b dX2_findSigns_3 rfl (lv_at hl 0 rfl) ?_
      refine mg_0 C hX (F 0) rfl dX2_findSigns_4 (fun _ => ?_)
      refine r_icmp_ge (tgt := 23) C (by omega) (by omega) dX2_findSigns_7 (by decide) (fun c_1 => ?_) (fun c_1 => ?_)
      · refine r_const C dX2_findSigns_23 ?_
        refine lv_istore_n (lv' := [(2, .int (zi 0)), (0, .ref (ad 63)), (1, .int (zi w))]) C.x C.b dX2_findSigns_24 rfl hl (by decide) rfl (fun ls hl => ?_)
        have L25 : ∀ (fu : Nat) (v2 : Int) (m3 : Int → Int) (h2 : 0 ≤ v2 ∧ v2 ≤ F 0) (h3 : SgTo (F 0) (M 1) w m3 v2 0) (hm : Int.toNat (F 0 - v2) < fu) (H : Heap) (locs : List Loc) (ls : Array Slot) (hX : MH E A ad F (va_up M 3 m3) H) (hS : va_S A s.heap H locs) (hl : lv_has ls 7 [(0, .ref (ad 63)), (1, .int (zi w)), (2, .int (zi v2))]), W p l e rm_X2_findSigns s m args below meth c H locs 0 0 (MQ below (qv A (fun H => ∃ m3 : Int → Int, SgOK (F 0) (M 1) w m3 ∧ MH E A ad F (va_up M 3 m3) H)) args s (rm_X2_findSigns).cells (rm_X2_findSigns).slots A) (F0 m 25 ls []) := by
          intro fu
          induction fu with
          | zero => intro v2 m3 h2 h3 hm; exact absurd hm (Nat.not_lt_zero _)
          | succ fu ih25 =>
            intro v2 m3 h2 h3 hm H locs ls hX hS hl
            refine lv_iload_n C.x C.b dX2_findSigns_25 rfl (lv_at hl 2 rfl) ?_
            refine lv_aload_n C.x C.b dX2_findSigns_26 rfl (lv_at hl 0 rfl) ?_
            refine mg_0 C hX (F 0) rfl dX2_findSigns_27 (fun _ => ?_)
            refine r_icmp_ge (tgt := 186) C (by omega) (by omega) dX2_findSigns_30 (by decide) (fun c_2 => ?_) (fun c_2 => ?_)
            · exact r_vret C hS (Nat.le_of_ble_eq_true rfl) (Nat.le_of_ble_eq_true rfl) dX2_findSigns_186 ⟨m3, (h3.ok (by omega)), hX⟩
            · refine r_const C dX2_findSigns_33 ?_
              refine lv_istore_n (lv' := [(3, .int (zi 0)), (0, .ref (ad 63)), (1, .int (zi w)), (2, .int (zi v2))]) C.x C.b dX2_findSigns_34 rfl hl (by decide) rfl (fun ls hl => ?_)
              have L35 : ∀ (fu : Nat) (v3 : Int) (m3 : Int → Int) (h5 : 0 ≤ v3 ∧ v3 ≤ v2) (h4 : SgTo (F 0) (M 1) w m3 v2 v3) (hm : Int.toNat (v2 - v3) < fu) (H : Heap) (locs : List Loc) (ls : Array Slot) (hX : MH E A ad F (va_up M 3 m3) H) (hS : va_S A s.heap H locs) (hl : lv_has ls 7 [(0, .ref (ad 63)), (1, .int (zi w)), (2, .int (zi v2)), (3, .int (zi v3))]), W p l e rm_X2_findSigns s m args below meth c H locs 0 0 (MQ below (qv A (fun H => ∃ m3 : Int → Int, SgOK (F 0) (M 1) w m3 ∧ MH E A ad F (va_up M 3 m3) H)) args s (rm_X2_findSigns).cells (rm_X2_findSigns).slots A) (F0 m 35 ls []) := by
                intro fu
                induction fu with
                | zero => intro v3 m3 h5 h4 hm; exact absurd hm (Nat.not_lt_zero _)
                | succ fu ih35 =>
                  intro v3 m3 h5 h4 hm H locs ls hX hS hl
                  refine lv_iload_n C.x C.b dX2_findSigns_35 rfl (lv_at hl 3 rfl) ?_
                  refine lv_iload_n C.x C.b dX2_findSigns_36 rfl (lv_at hl 2 rfl) ?_
                  refine r_icmp_ge (tgt := 180) C (by omega) (by omega) dX2_findSigns_37 (by decide) (fun c_3 => ?_) (fun c_3 => ?_)
                  · refine r_iinc (lv' := [(2, .int (zi (v2 + 1))), (0, .ref (ad 63)), (1, .int (zi w)), (3, .int (zi v3))]) C dX2_findSigns_180 hl (k := 2) rfl (by decide) rfl (fun ls hl => ?_)
                    refine lv_goto (tgt := 25) C.x C.b dX2_findSigns_183 (by decide) ?_
                    exact ih25 (v2 + 1) m3 (by omega) (h4.row (by omega)) (by omega) H locs ls hX hS (lv_sub hl [1, 2, 0] rfl)
                  · refine lv_aload_n C.x C.b dX2_findSigns_40 rfl (lv_at hl 0 rfl) ?_
                    refine mg_1 C hX dX2_findSigns_41 ?_
                    refine lv_iload_n C.x C.b dX2_findSigns_44 rfl (lv_at hl 2 rfl) ?_
                    refine ml_1 C hX (by omega) (M 1) rfl dX2_findSigns_45 (fun r45 => ?_)
                    refine lv_aload_n C.x C.b dX2_findSigns_46 rfl (lv_at hl 0 rfl) ?_
                    refine mg_1 C hX dX2_findSigns_47 ?_
                    refine lv_iload_n C.x C.b dX2_findSigns_50 rfl (lv_at hl 3 rfl) ?_
                    refine ml_1 C hX (by omega) (M 1) rfl dX2_findSigns_51 (fun r51 => ?_)
                    refine r_ixor (v := xr (M 1 v2) (M 1 v3)) C (zi_xor (by omega) (by omega)) dX2_findSigns_52 ?_
                    have hxr := xr_r r45 r51
                    refine r_callSi (As := [.int (zi (xr (M 1 v2) (M 1 v3)))]) (rest := []) (cells' := 0) (slots' := 0) C (met_X2_bits l E A ad H (xr (M 1 v2) (M 1 v3)) (show -2147483648 ≤ (xr (M 1 v2) (M 1 v3)) ∧ (xr (M 1 v2) (M 1 v3)) < 2147483648 from (by omega))) (lw_S q1225 q1226 q88 q1227) hd_X2_bits rfl (by decide) rfl hS hl.1 rfl (Nat.le_of_ble_eq_true rfl) dX2_findSigns_53 rfl rfl ⟨Nat.le_of_ble_eq_true rfl, Nat.le_of_ble_eq_true rfl⟩ (fun rr H locs hp hS => ?_)
                    obtain ⟨hrr, hH⟩ := hp
                    have hrr : rr = bits (xr (M 1 v2) (M 1 v3)) := hrr
                    subst hrr
                    have hX : MH E A ad F (va_up M 3 m3) H := by rw [hH]; exact hX
                    refine lv_iload_n C.x C.b dX2_findSigns_56 rfl (lv_at hl 1 rfl) ?_
                    have hbi := bits_r (xr (M 1 v2) (M 1 v3))
                    refine r_icmp_gt (tgt := 174) C (by omega) (by omega) dX2_findSigns_57 (by decide) (fun c_4 => ?_) (fun c_4 => ?_)
                    · refine r_iinc (lv' := [(3, .int (zi (v3 + 1))), (0, .ref (ad 63)), (1, .int (zi w)), (2, .int (zi v2))]) C dX2_findSigns_174 hl (k := 3) rfl (by decide) rfl (fun ls hl => ?_)
                      refine lv_goto (tgt := 35) C.x C.b dX2_findSigns_177 (by decide) ?_
                      exact ih35 (v3 + 1) m3 (by omega) (by first | exact h4.skip (fun q => absurd q (by unfold Near; omega)) | exact h4.skip (fun _ => by assumption) | exact h4.join (by omega) (by unfold Near; omega) ht0 rfl (by assumption) h6 (by omega)) (by omega) H locs ls hX hS (lv_sub hl [1, 2, 3, 0] rfl)
                    · refine lv_aload_n C.x C.b dX2_findSigns_60 rfl (lv_at hl 0 rfl) ?_
                      refine mg_3 C hX dX2_findSigns_61 ?_
                      refine lv_iload_n C.x C.b dX2_findSigns_64 rfl (lv_at hl 2 rfl) ?_
                      refine ml_3 C hX (by omega) m3 rfl dX2_findSigns_65 (fun r65 => ?_)
                      refine lv_aload_n C.x C.b dX2_findSigns_66 rfl (lv_at hl 0 rfl) ?_
                      refine mg_3 C hX dX2_findSigns_67 ?_
                      refine lv_iload_n C.x C.b dX2_findSigns_70 rfl (lv_at hl 3 rfl) ?_
                      refine ml_3 C hX (by omega) m3 rfl dX2_findSigns_71 (fun r71 => ?_)
                      refine r_icmp_eq (tgt := 174) C (by omega) (by omega) dX2_findSigns_72 (by decide) (fun c_5 => ?_) (fun c_5 => ?_)
                      · refine r_iinc (lv' := [(3, .int (zi (v3 + 1))), (0, .ref (ad 63)), (1, .int (zi w)), (2, .int (zi v2))]) C dX2_findSigns_174 hl (k := 3) rfl (by decide) rfl (fun ls hl => ?_)
                        refine lv_goto (tgt := 35) C.x C.b dX2_findSigns_177 (by decide) ?_
                        exact ih35 (v3 + 1) m3 (by omega) (by first | exact h4.skip (fun q => absurd q (by unfold Near; omega)) | exact h4.skip (fun _ => by assumption) | exact h4.join (by omega) (by unfold Near; omega) ht0 rfl (by assumption) h6 (by omega)) (by omega) H locs ls hX hS (lv_sub hl [1, 2, 3, 0] rfl)
                      · refine lv_aload_n C.x C.b dX2_findSigns_75 rfl (lv_at hl 0 rfl) ?_
                        refine mg_3 C hX dX2_findSigns_76 ?_
                        refine lv_iload_n C.x C.b dX2_findSigns_79 rfl (lv_at hl 2 rfl) ?_
                        refine ml_3 C hX (by omega) m3 rfl dX2_findSigns_80 (fun _ => ?_)
                        refine lv_aload_n C.x C.b dX2_findSigns_81 rfl (lv_at hl 0 rfl) ?_
                        refine mg_3 C hX dX2_findSigns_82 ?_
                        refine lv_iload_n C.x C.b dX2_findSigns_85 rfl (lv_at hl 3 rfl) ?_
                        refine ml_3 C hX (by omega) m3 rfl dX2_findSigns_86 (fun _ => ?_)
                        have J105_6 : ∀ (t0 : Int) (ht0 : t0 = sel ((m3 v2) < (m3 v3)) (m3 v2) (m3 v3)) (H : Heap) (locs : List Loc) (ls : Array Slot) (hX : MH E A ad F (va_up M 3 m3) H) (hS : va_S A s.heap H locs) (hl : lv_has ls 7 [(0, .ref (ad 63)), (1, .int (zi w)), (2, .int (zi v2)), (3, .int (zi v3))]), W p l e rm_X2_findSigns s m args below meth c H locs 0 0 (MQ below (qv A (fun H => ∃ m3 : Int → Int, SgOK (F 0) (M 1) w m3 ∧ MH E A ad F (va_up M 3 m3) H)) args s (rm_X2_findSigns).cells (rm_X2_findSigns).slots A) (F0 m 105 ls [.int (zi t0)]) := by
                          intro t0 ht0 H locs ls hX hS hl
                          have hrt0 : 0 ≤ t0 ∧ t0 ≤ 23 := by
                            rw [ht0]; exact (sel_rg (fun qq => (by omega)) (fun qq => (by omega)))
                          refine lv_istore (lv' := [(4, .int (zi t0)), (0, .ref (ad 63)), (1, .int (zi w)), (2, .int (zi v2)), (3, .int (zi v3))]) C.x C.b dX2_findSigns_105 hl (by decide) rfl (fun ls hl => ?_)
                          refine lv_aload_n C.x C.b dX2_findSigns_107 rfl (lv_at hl 1 rfl) ?_
                          refine mg_3 C hX dX2_findSigns_108 ?_
                          refine lv_iload_n C.x C.b dX2_findSigns_111 rfl (lv_at hl 3 rfl) ?_
                          refine ml_3 C hX (by omega) m3 rfl dX2_findSigns_112 (fun _ => ?_)
                          refine lv_aload_n C.x C.b dX2_findSigns_113 rfl (lv_at hl 1 rfl) ?_
                          refine mg_3 C hX dX2_findSigns_114 ?_
                          refine lv_iload_n C.x C.b dX2_findSigns_117 rfl (lv_at hl 4 rfl) ?_
                          refine ml_3 C hX (by omega) m3 rfl dX2_findSigns_118 (fun _ => ?_)
                          refine r_iadd C dX2_findSigns_119 ?_
                          refine lv_iload C.x C.b dX2_findSigns_120 (lv_at hl 0 rfl) ?_
                          refine r_isub C dX2_findSigns_122 ?_
                          refine lv_istore (lv' := [(5, .int (zi (((m3 v2) + (m3 v3)) - t0))), (4, .int (zi t0)), (0, .ref (ad 63)), (1, .int (zi w)), (2, .int (zi v2)), (3, .int (zi v3))]) C.x C.b dX2_findSigns_123 hl (by decide) rfl (fun ls hl => ?_)
                          refine r_const C dX2_findSigns_125 ?_
                          refine lv_istore (lv' := [(6, .int (zi 0)), (5, .int (zi (((m3 v2) + (m3 v3)) - t0))), (4, .int (zi t0)), (0, .ref (ad 63)), (1, .int (zi w)), (2, .int (zi v2)), (3, .int (zi v3))]) C.x C.b dX2_findSigns_126 hl (by decide) rfl (fun ls hl => ?_)
                          have L128 : ∀ (fu : Nat) (v6 : Int) (m3_128 : Int → Int) (h7 : 0 ≤ v6 ∧ v6 ≤ F 0) (h6 : ∀ f : Int, 0 ≤ f → f < F 0 → m3_128 f = sgj m3 t0 (m3 v2 + m3 v3 - t0) v6 f) (hm : Int.toNat (F 0 - v6) < fu) (H : Heap) (locs : List Loc) (ls : Array Slot) (hX : MH E A ad F (va_up M 3 m3_128) H) (hS : va_S A s.heap H locs) (hl : lv_has ls 7 [(0, .ref (ad 63)), (1, .int (zi w)), (2, .int (zi v2)), (3, .int (zi v3)), (4, .int (zi t0)), (5, .int (zi (((m3 v2) + (m3 v3)) - t0))), (6, .int (zi v6))]), W p l e rm_X2_findSigns s m args below meth c H locs 0 0 (MQ below (qv A (fun H => ∃ m3 : Int → Int, SgOK (F 0) (M 1) w m3 ∧ MH E A ad F (va_up M 3 m3) H)) args s (rm_X2_findSigns).cells (rm_X2_findSigns).slots A) (F0 m 128 ls []) := by
                            intro fu
                            induction fu with
                            | zero => intro v6 m3_128 h7 h6 hm; exact absurd hm (Nat.not_lt_zero _)
                            | succ fu ih128 =>
                              intro v6 m3_128 h7 h6 hm H locs ls hX hS hl
                              refine lv_iload C.x C.b dX2_findSigns_128 (lv_at hl 6 rfl) ?_
                              refine lv_aload_n C.x C.b dX2_findSigns_130 rfl (lv_at hl 0 rfl) ?_
                              refine mg_0 C hX (F 0) rfl dX2_findSigns_131 (fun _ => ?_)
                              refine r_icmp_ge (tgt := 174) C (by omega) (by omega) dX2_findSigns_134 (by decide) (fun c_7 => ?_) (fun c_7 => ?_)
                              · refine r_iinc (lv' := [(3, .int (zi (v3 + 1))), (0, .ref (ad 63)), (1, .int (zi w)), (2, .int (zi v2)), (4, .int (zi t0)), (5, .int (zi (((m3 v2) + (m3 v3)) - t0))), (6, .int (zi v6))]) C dX2_findSigns_174 hl (k := 3) rfl (by decide) rfl (fun ls hl => ?_)
                                refine lv_goto (tgt := 35) C.x C.b dX2_findSigns_177 (by decide) ?_
                                exact ih35 (v3 + 1) m3_128 (by omega) (by first | exact h4.skip (fun q => absurd q (by unfold Near; omega)) | exact h4.skip (fun _ => by assumption) | exact h4.join (by omega) (by unfold Near; omega) ht0 rfl (by assumption) h6 (by omega)) (by omega) H locs ls hX hS (lv_sub hl [1, 2, 3, 0] rfl)
                              · refine lv_aload_n C.x C.b dX2_findSigns_137 rfl (lv_at hl 0 rfl) ?_
                                refine mg_3 C hX dX2_findSigns_138 ?_
                                refine lv_iload C.x C.b dX2_findSigns_141 (lv_at hl 6 rfl) ?_
                                refine lv_aload_n C.x C.b dX2_findSigns_143 rfl (lv_at hl 0 rfl) ?_
                                refine mg_3 C hX dX2_findSigns_144 ?_
                                refine lv_iload C.x C.b dX2_findSigns_147 (lv_at hl 6 rfl) ?_
                                refine ml_3 C hX (by omega) m3_128 rfl dX2_findSigns_149 (fun r149 => ?_)
                                refine lv_iload C.x C.b dX2_findSigns_150 (lv_at hl 5 rfl) ?_
                                have J167_8 : ∀ (t2 : Int) (ht2 : t2 = sel ((m3_128 v6) = (((m3 v2) + (m3 v3)) - t0)) t0 (m3_128 v6)) (H : Heap) (locs : List Loc) (ls : Array Slot) (hX : MH E A ad F (va_up M 3 m3_128) H) (hS : va_S A s.heap H locs) (hl : lv_has ls 7 [(0, .ref (ad 63)), (1, .int (zi w)), (2, .int (zi v2)), (3, .int (zi v3)), (4, .int (zi t0)), (5, .int (zi (((m3 v2) + (m3 v3)) - t0))), (6, .int (zi v6))]), W p l e rm_X2_findSigns s m args below meth c H locs 0 0 (MQ below (qv A (fun H => ∃ m3 : Int → Int, SgOK (F 0) (M 1) w m3 ∧ MH E A ad F (va_up M 3 m3) H)) args s (rm_X2_findSigns).cells (rm_X2_findSigns).slots A) (F0 m 167 ls [.int (zi t2), .int (zi v6), .ref (ad 3)]) := by
                                  intro t2 ht2 H locs ls hX hS hl
                                  have hrt2 : 0 ≤ t2 ∧ t2 ≤ 23 := by
                                    rw [ht2]; exact (sel_rg (fun qq => (by omega)) (fun qq => (by omega)))
                                  refine ms_3 C hX hS (by omega) (by omega) m3_128 rfl (M' := (va_up M 3 (fup m3_128 v6 t2))) (up_up _ _ _ _) dX2_findSigns_167 (fun H locs hX hS => ?_)
                                  refine r_iinc (lv' := [(6, .int (zi (v6 + 1))), (0, .ref (ad 63)), (1, .int (zi w)), (2, .int (zi v2)), (3, .int (zi v3)), (4, .int (zi t0)), (5, .int (zi (((m3 v2) + (m3 v3)) - t0)))]) C dX2_findSigns_168 hl (k := 6) rfl (by decide) rfl (fun ls hl => ?_)
                                  refine lv_goto (tgt := 128) C.x C.b dX2_findSigns_171 (by decide) ?_
                                  exact ih128 (v6 + 1) (fup m3_128 v6 t2) (by omega) (by rw [ht2]; exact sgj_s h7.1 h6 (by omega)) (by omega) H locs ls hX hS (lv_sub hl [1, 2, 3, 4, 5, 6, 0] rfl)
                                refine r_icmp_ne (tgt := 160) C (by omega) (by omega) dX2_findSigns_152 (by decide) (fun c_9 => ?_) (fun c_9 => ?_)
                                · refine lv_aload_n C.x C.b dX2_findSigns_160 rfl (lv_at hl 0 rfl) ?_
                                  refine mg_3 C hX dX2_findSigns_161 ?_
                                  refine lv_iload C.x C.b dX2_findSigns_164 (lv_at hl 6 rfl) ?_
                                  refine ml_3 C hX (by omega) m3_128 rfl dX2_findSigns_166 (fun _ => ?_)
                                  exact J167_8 (m3_128 v6) ((sel_f c_9).symm) H locs ls hX hS hl
                                · refine lv_iload C.x C.b dX2_findSigns_155 (lv_at hl 4 rfl) ?_
                                  refine lv_goto (tgt := 167) C.x C.b dX2_findSigns_157 (by decide) ?_
                                  exact J167_8 t0 ((sel_t c_9).symm) H locs ls hX hS hl
                          exact L128 _ 0 m3 (by omega) (fun f q1 q2 => (sel_f (fun z => by omega)).symm) (Nat.lt_succ_self _) H locs ls hX hS (lv_sub hl [3, 4, 5, 6, 2, 1, 0] rfl)
                        refine r_icmp_ge (tgt := 99) C (by omega) (by omega) dX2_findSigns_87 (by decide) (fun c_10 => ?_) (fun c_10 => ?_)
                        · refine lv_aload_n C.x C.b dX2_findSigns_99 rfl (lv_at hl 0 rfl) ?_
                          refine mg_3 C hX dX2_findSigns_100 ?_
                          refine lv_iload_n C.x C.b dX2_findSigns_103 rfl (lv_at hl 3 rfl) ?_
                          refine ml_3 C hX (by omega) m3 rfl dX2_findSigns_104 (fun _ => ?_)
                          exact J105_6 (m3 v3) ((sel_f c_10).symm) H locs ls hX hS hl
                        · refine lv_aload_n C.x C.b dX2_findSigns_90 rfl (lv_at hl 0 rfl) ?_
                          refine mg_3 C hX dX2_findSigns_91 ?_
                          refine lv_iload_n C.x C.b dX2_findSigns_94 rfl (lv_at hl 2 rfl) ?_
                          refine ml_3 C hX (by omega) m3 rfl dX2_findSigns_95 (fun _ => ?_)
                          refine lv_goto (tgt := 105) C.x C.b dX2_findSigns_96 (by decide) ?_
                          exact J105_6 (m3 v2) ((sel_t c_10).symm) H locs ls hX hS hl
              exact L35 _ 0 m3 (by omega) h3 (Nat.lt_succ_self _) H locs ls hX hS (lv_sub hl [1, 2, 3, 0] rfl)
        exact L25 _ 0 m3 (by omega) ⟨fun f q1 q2 => by rw [h3 f q1 (by omega)]; exact ⟨q1, Int.le_refl _, Conn.rf⟩, fun x y q1 q2 q3 q4 _ => absurd q4 (by omega)⟩ (Nat.lt_succ_self _) H locs ls hX hS (lv_sub hl [1, 2, 0] rfl)
      · refine lv_aload_n C.x C.b dX2_findSigns_10 rfl (lv_at hl 0 rfl) ?_
        refine mg_3 C hX dX2_findSigns_11 ?_
        refine lv_iload_n C.x C.b dX2_findSigns_14 rfl (lv_at hl 2 rfl) ?_
        refine lv_iload_n C.x C.b dX2_findSigns_15 rfl (lv_at hl 2 rfl) ?_
        refine ms_3 C hX hS (by omega) (by omega) m3 rfl (M' := (va_up M 3 (fup m3 v2 v2))) (up_up _ _ _ _) dX2_findSigns_16 (fun H locs hX hS => ?_)
        refine r_iinc (lv' := [(2, .int (zi (v2 + 1))), (0, .ref (ad 63)), (1, .int (zi w))]) C dX2_findSigns_17 hl (k := 2) rfl (by decide) rfl (fun ls hl => ?_)
        refine lv_goto (tgt := 2) C.x C.b dX2_findSigns_20 (by decide) ?_
        exact ih2 (v2 + 1) (fup m3 v2 v2) (by omega) (fup_st (P := fun j x => x = j) h3 rfl) (by omega) H locs ls hX hS (lv_sub hl [1, 2, 0] rfl)
  exact L2 _ 0 (M 3) (by omega) (fun j h1 h2 => absurd h1 (by omega)) (Nat.lt_succ_self _) H locs ls (hX.to rfl ((up_id M (k := 3) (a := (M 3)) rfl).symm.trans rfl)) hS (lv_sub hl [1, 2, 0] rfl)
