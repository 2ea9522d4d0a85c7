set_option maxRecDepth 100000

theorem hd_X0_isIn : yX0_isIn.cls ≠ "java/lang/invoke/MethodHandle" ∧ yX0_isIn.cls ≠ "java/lang/invoke/VarHandle" ∧ (parseMethodDescriptor yX0_isIn.desc).map (fun d => d.parameters.length) = some 3 := by decide +kernel
abbrev rm_X0_isIn : Room := { frames := 0, cells := 0, slots := 0, locals := 0 }
set_option maxHeartbeats 8000000 in
theorem met_X0_isIn (l : Launch) (E : us_E) (A : Nat → Prop) (H0 : Heap) (v : Int) (lo : Int) (hi : Int) (hv : -9223372036854775808 ≤ v ∧ v < 9223372036854775808) (hlo : -9223372036854775808 ≤ lo ∧ lo < 9223372036854775808) (hhi : -9223372036854775808 ≤ hi ∧ hi < 9223372036854775808) : cMet l yX0_isIn cX0_isIn 6 (some .boolean) rm_X0_isIn A E [.long (zl v), .long (zl lo), .long (zl hi)] (fun H => H = H0) (qi A (fun r H => (r = bI (lo ≤ v ∧ v ≤ hi)) ∧ (H = H0))) := by
  refine cMet.of (by decide) (Nat.le_of_ble_eq_true rfl) (fun p e s m args below meth c C hnm hX hS ls hl => ?_)
  have C : Cx p s m args meth c A RX0 cX0_isIn 6 (some .boolean) E := C
  have hX : s.heap = H0 := hX
  have hl : lv_has ls 6 [(0, .long (zl v)), (2, .long (zl lo)), (4, .long (zl hi))] := hl
  generalize hH : s.heap = H at hX
  have hS : va_S A s.heap H [] := by rw [← hH]; exact hS
  generalize hlocs : ([] : List Loc) = locs at hS ⊢
  obtain ⟨QQ, hQQ⟩ : ∃ z, MQ below (qi A (fun r H => (r = bI (lo ≤ v ∧ v ≤ hi)) ∧ (H = H0))) args s (rm_X0_isIn).cells (rm_X0_isIn).slots A = z := ⟨_, rfl⟩
  rw [hQQ]
  refine lv_lload_n C.x C.b dX0_isIn_0 rfl (lv_at hl 0 rfl) ?_
  refine lv_lload_n C.x C.b dX0_isIn_1 rfl (lv_at hl 1 rfl) ?_
  refine r_lcmp C (by omega) (by omega) dX0_isIn_2 ?_
  have J18_1 : ∀ (t0 : Int) (ht0 : t0 = bI ((¬ (v < lo)) ∧ (¬ (hi < v)))) (H : Heap) (locs : List Loc) (ls : Array Slot) (hX : H = H0) (hS : va_S A s.heap H locs) (hl : lv_has ls 6 [(0, .long (zl v)), (2, .long (zl lo)), (4, .long (zl hi))]), W p l e rm_X0_isIn s m args below meth c H locs 0 0 QQ (F0 m 18 ls [.int (zi t0)]) := by
    intro t0 ht0 H locs ls hX hS hl
    subst ht0
    rw [← hQQ]
    exact r_zret C (bI_e _) hS (Nat.le_of_ble_eq_true rfl) (Nat.le_of_ble_eq_true rfl) dX0_isIn_18 ⟨(bI_c (by first | exact Iff.rfl | (constructor <;> intro _ <;> omega))), hX⟩
  refine r_if_lt_c (tgt := 17) C dX0_isIn_3 (by decide) (fun c_2 => ?_) (fun c_2 => ?_)
  · refine r_const C dX0_isIn_17 ?_
    exact J18_1 0 ((bI_f (fun q => (fun q => q c_2) q.1)).symm) H locs ls hX hS hl
  · refine lv_lload_n C.x C.b dX0_isIn_6 rfl (lv_at hl 0 rfl) ?_
    refine lv_lload C.x C.b dX0_isIn_7 (lv_at hl 2 rfl) ?_
    refine r_lcmp C (by omega) (by omega) dX0_isIn_9 ?_
    refine r_if_gt_c (tgt := 17) C dX0_isIn_10 (by decide) (fun c_3 => ?_) (fun c_3 => ?_)
    · refine r_const C dX0_isIn_17 ?_
      exact J18_1 0 ((bI_f (fun q => (fun q => q c_3) q.2)).symm) H locs ls hX hS hl
    · refine r_const C dX0_isIn_13 ?_
      refine lv_goto (tgt := 18) C.x C.b dX0_isIn_14 (by decide) ?_
      exact J18_1 1 ((bI_t ⟨c_2, c_3⟩).symm) H locs ls hX hS hl

theorem hd_X0_isForm : yX0_isForm.cls = RX0 ∧ yX0_isForm.cls ≠ "java/lang/invoke/MethodHandle" ∧ yX0_isForm.cls ≠ "java/lang/invoke/VarHandle" ∧ (parseMethodDescriptor yX0_isForm.desc).map (fun d => d.parameters.length) = some 1 := by decide +kernel
abbrev rm_X0_isForm : Room := { frames := 1, cells := 0, slots := 0, locals := 25 }
set_option maxHeartbeats 8000000 in
theorem met_X0_isForm (l : Launch) (E : us_E) (A : Nat → Prop) (B : Nat → Int → Nat) (F : Nat → Int) (M : Nat → Int → Int) (G : Nat → Int → Option Nat) (T : x_T) (f : Int) (hf : -2147483648 ≤ f ∧ f < 2147483648) : cMet l yX0_isForm cX0_isForm 2 (some .boolean) rm_X0_isForm A E [.ref (B 49 0), .int (zi f)] (fun H => XH E A B F M G T H) (qi A (fun r H => (r = bI (0 ≤ f ∧ f < F 1)) ∧ XH E A B F M G T H)) := by
  refine cMet.of (by decide) (Nat.le_of_ble_eq_true rfl) (fun p e s m args below meth c C hnm hX hS ls hl => ?_)
  have C : Cx p s m args meth c A RX0 cX0_isForm 2 (some .boolean) E := C
  have hX : XH E A B F M G T s.heap := hX
  have hl : lv_has ls 2 [(0, .ref (B 49 0)), (1, .int (zi f))] := hl
  generalize hH : s.heap = H at hX
  have hS : va_S A s.heap H [] := by rw [← hH]; exact hS
  generalize hlocs : ([] : List Loc) = locs at hS ⊢
  obtain ⟨QQ, hQQ⟩ : ∃ z, MQ below (qi A (fun r H => (r = bI (0 ≤ f ∧ f < F 1)) ∧ XH E A B F M G T H)) args s (rm_X0_isForm).cells (rm_X0_isForm).slots A = z := ⟨_, rfl⟩
  rw [hQQ]
  refine lv_iload_n C.x C.b dX0_isForm_0 rfl (lv_at hl 1 rfl) ?_
  refine r_i2l C (by omega) dX0_isForm_1 ?_
  refine r_lconst C 0 rfl dX0_isForm_2 ?_
  refine lv_aload_n C.x C.b dX0_isForm_3 rfl (lv_at hl 0 rfl) ?_
  refine x_gi C hX 1 (by decide) rfl q737 (fun _ h => h) (F 1) rfl (b := (0, 24)) rfl dX0_isForm_4 (fun r4 => ?_)
  have r4 : 0 ≤ F 1 ∧ F 1 ≤ 24 := r4
  refine r_const C dX0_isForm_7 ?_
  refine r_isub C dX0_isForm_8 ?_
  refine r_i2l C (by omega) dX0_isForm_9 ?_
  refine r_callSi (As := [.long (zl f), .long (zl 0), .long (zl ((F 1) - 1))]) (rest := []) (cells' := 0) (slots' := 0) C (met_X0_isIn l E A H f 0 ((F 1) - 1) (show -9223372036854775808 ≤ f ∧ f < 9223372036854775808 from (by omega)) (show -9223372036854775808 ≤ (0 : Int) ∧ (0 : Int) < 9223372036854775808 from (by omega)) (show -9223372036854775808 ≤ ((F 1) - 1) ∧ ((F 1) - 1) < 9223372036854775808 from (by omega))) (lw_S q117 q118 q86 q119) hd_X0_isIn rfl (by decide) rfl hS hl.1 rfl (Nat.le_of_ble_eq_true rfl) dX0_isForm_10 rfl rfl ⟨Nat.le_of_ble_eq_true rfl, Nat.le_of_ble_eq_true rfl⟩ (fun rr H locs hp hS => ?_)
  obtain ⟨hrr, hH⟩ := hp
  have hrr : rr = bI ((0 : Int) ≤ f ∧ f ≤ ((F 1) - 1)) := hrr
  subst hrr
  have hX : XH E A B F M G T H := by rw [hH]; exact hX
  rw [← hQQ]
  exact r_zret C (bI_e _) hS (Nat.le_of_ble_eq_true rfl) (Nat.le_of_ble_eq_true rfl) dX0_isForm_13 ⟨(bI_c (by first | exact Iff.rfl | (constructor <;> intro _ <;> omega))), hX⟩

theorem hd_X0_isText : yX0_isText.cls = RX0 ∧ yX0_isText.cls ≠ "java/lang/invoke/MethodHandle" ∧ yX0_isText.cls ≠ "java/lang/invoke/VarHandle" ∧ (parseMethodDescriptor yX0_isText.desc).map (fun d => d.parameters.length) = some 1 := by decide +kernel
abbrev rm_X0_isText : Room := { frames := 1, cells := 0, slots := 0, locals := 25 }
set_option maxHeartbeats 8000000 in
theorem met_X0_isText (l : Launch) (E : us_E) (A : Nat → Prop) (B : Nat → Int → Nat) (F : Nat → Int) (M : Nat → Int → Int) (G : Nat → Int → Option Nat) (T : x_T) (t : Int) (ht : -2147483648 ≤ t ∧ t < 2147483648) : cMet l yX0_isText cX0_isText 2 (some .boolean) rm_X0_isText A E [.ref (B 49 0), .int (zi t)] (fun H => XH E A B F M G T H) (qi A (fun r H => (r = bI (0 ≤ t ∧ t < F 6)) ∧ XH E A B F M G T H)) := by
  refine cMet.of (by decide) (Nat.le_of_ble_eq_true rfl) (fun p e s m args below meth c C hnm hX hS ls hl => ?_)
  have C : Cx p s m args meth c A RX0 cX0_isText 2 (some .boolean) E := C
  have hX : XH E A B F M G T s.heap := hX
  have hl : lv_has ls 2 [(0, .ref (B 49 0)), (1, .int (zi t))] := hl
  generalize hH : s.heap = H at hX
  have hS : va_S A s.heap H [] := by rw [← hH]; exact hS
  generalize hlocs : ([] : List Loc) = locs at hS ⊢
  obtain ⟨QQ, hQQ⟩ : ∃ z, MQ below (qi A (fun r H => (r = bI (0 ≤ t ∧ t < F 6)) ∧ XH E A B F M G T H)) args s (rm_X0_isText).cells (rm_X0_isText).slots A = z := ⟨_, rfl⟩
  rw [hQQ]
  refine lv_iload_n C.x C.b dX0_isText_0 rfl (lv_at hl 1 rfl) ?_
  refine r_i2l C (by omega) dX0_isText_1 ?_
  refine r_lconst C 0 rfl dX0_isText_2 ?_
  refine lv_aload_n C.x C.b dX0_isText_3 rfl (lv_at hl 0 rfl) ?_
  refine x_gi C hX 6 (by decide) rfl q742 (fun _ h => h) (F 6) rfl (b := (0, 8)) rfl dX0_isText_4 (fun r4 => ?_)
  have r4 : 0 ≤ F 6 ∧ F 6 ≤ 8 := r4
  refine r_const C dX0_isText_7 ?_
  refine r_isub C dX0_isText_8 ?_
  refine r_i2l C (by omega) dX0_isText_9 ?_
  refine r_callSi (As := [.long (zl t), .long (zl 0), .long (zl ((F 6) - 1))]) (rest := []) (cells' := 0) (slots' := 0) C (met_X0_isIn l E A H t 0 ((F 6) - 1) (show -9223372036854775808 ≤ t ∧ t < 9223372036854775808 from (by omega)) (show -9223372036854775808 ≤ (0 : Int) ∧ (0 : Int) < 9223372036854775808 from (by omega)) (show -9223372036854775808 ≤ ((F 6) - 1) ∧ ((F 6) - 1) < 9223372036854775808 from (by omega))) (lw_S q117 q118 q86 q119) hd_X0_isIn rfl (by decide) rfl hS hl.1 rfl (Nat.le_of_ble_eq_true rfl) dX0_isText_10 rfl rfl ⟨Nat.le_of_ble_eq_true rfl, Nat.le_of_ble_eq_true rfl⟩ (fun rr H locs hp hS => ?_)
  obtain ⟨hrr, hH⟩ := hp
  have hrr : rr = bI ((0 : Int) ≤ t ∧ t ≤ ((F 6) - 1)) := hrr
  subst hrr
  have hX : XH E A B F M G T H := by rw [hH]; exact hX
  rw [← hQQ]
  exact r_zret C (bI_e _) hS (Nat.le_of_ble_eq_true rfl) (Nat.le_of_ble_eq_true rfl) dX0_isText_13 ⟨(bI_c (by first | exact Iff.rfl | (constructor <;> intro _ <;> omega))), hX⟩

theorem hd_X0_isName : yX0_isName.cls = RX0 ∧ yX0_isName.cls ≠ "java/lang/invoke/MethodHandle" ∧ yX0_isName.cls ≠ "java/lang/invoke/VarHandle" ∧ (parseMethodDescriptor yX0_isName.desc).map (fun d => d.parameters.length) = some 1 := by decide +kernel
abbrev rm_X0_isName : Room := { frames := 1, cells := 0, slots := 0, locals := 25 }
set_option maxHeartbeats 8000000 in
theorem met_X0_isName (l : Launch) (E : us_E) (A : Nat → Prop) (B : Nat → Int → Nat) (F : Nat → Int) (M : Nat → Int → Int) (G : Nat → Int → Option Nat) (T : x_T) (a : Int) (ha : -2147483648 ≤ a ∧ a < 2147483648) : cMet l yX0_isName cX0_isName 2 (some .boolean) rm_X0_isName A E [.ref (B 49 0), .int (zi a)] (fun H => XH E A B F M G T H) (qi A (fun r H => (r = bI (0 ≤ a ∧ a < F 24)) ∧ XH E A B F M G T H)) := by
  refine cMet.of (by decide) (Nat.le_of_ble_eq_true rfl) (fun p e s m args below meth c C hnm hX hS ls hl => ?_)
  have C : Cx p s m args meth c A RX0 cX0_isName 2 (some .boolean) E := C
  have hX : XH E A B F M G T s.heap := hX
  have hl : lv_has ls 2 [(0, .ref (B 49 0)), (1, .int (zi a))] := hl
  generalize hH : s.heap = H at hX
  have hS : va_S A s.heap H [] := by rw [← hH]; exact hS
  generalize hlocs : ([] : List Loc) = locs at hS ⊢
  obtain ⟨QQ, hQQ⟩ : ∃ z, MQ below (qi A (fun r H => (r = bI (0 ≤ a ∧ a < F 24)) ∧ XH E A B F M G T H)) args s (rm_X0_isName).cells (rm_X0_isName).slots A = z := ⟨_, rfl⟩
  rw [hQQ]
  refine lv_iload_n C.x C.b dX0_isName_0 rfl (lv_at hl 1 rfl) ?_
  refine r_i2l C (by omega) dX0_isName_1 ?_
  refine r_lconst C 0 rfl dX0_isName_2 ?_
  refine lv_aload_n C.x C.b dX0_isName_3 rfl (lv_at hl 0 rfl) ?_
  refine x_gi C hX 24 (by decide) rfl q760 (fun _ h => h) (F 24) rfl (b := (0, 4)) rfl dX0_isName_4 (fun r4 => ?_)
  have r4 : 0 ≤ F 24 ∧ F 24 ≤ 4 := r4
  refine r_const C dX0_isName_7 ?_
  refine r_isub C dX0_isName_8 ?_
  refine r_i2l C (by omega) dX0_isName_9 ?_
  refine r_callSi (As := [.long (zl a), .long (zl 0), .long (zl ((F 24) - 1))]) (rest := []) (cells' := 0) (slots' := 0) C (met_X0_isIn l E A H a 0 ((F 24) - 1) (show -9223372036854775808 ≤ a ∧ a < 9223372036854775808 from (by omega)) (show -9223372036854775808 ≤ (0 : Int) ∧ (0 : Int) < 9223372036854775808 from (by omega)) (show -9223372036854775808 ≤ ((F 24) - 1) ∧ ((F 24) - 1) < 9223372036854775808 from (by omega))) (lw_S q117 q118 q86 q119) hd_X0_isIn rfl (by decide) rfl hS hl.1 rfl (Nat.le_of_ble_eq_true rfl) dX0_isName_10 rfl rfl ⟨Nat.le_of_ble_eq_true rfl, Nat.le_of_ble_eq_true rfl⟩ (fun rr H locs hp hS => ?_)
  obtain ⟨hrr, hH⟩ := hp
  have hrr : rr = bI ((0 : Int) ≤ a ∧ a ≤ ((F 24) - 1)) := hrr
  subst hrr
  have hX : XH E A B F M G T H := by rw [hH]; exact hX
  rw [← hQQ]
  exact r_zret C (bI_e _) hS (Nat.le_of_ble_eq_true rfl) (Nat.le_of_ble_eq_true rfl) dX0_isName_13 ⟨(bI_c (by first | exact Iff.rfl | (constructor <;> intro _ <;> omega))), hX⟩

theorem hd_X0_isClaim : yX0_isClaim.cls = RX0 ∧ yX0_isClaim.cls ≠ "java/lang/invoke/MethodHandle" ∧ yX0_isClaim.cls ≠ "java/lang/invoke/VarHandle" ∧ (parseMethodDescriptor yX0_isClaim.desc).map (fun d => d.parameters.length) = some 1 := by decide +kernel
abbrev rm_X0_isClaim : Room := { frames := 1, cells := 0, slots := 0, locals := 25 }
set_option maxHeartbeats 8000000 in
theorem met_X0_isClaim (l : Launch) (E : us_E) (A : Nat → Prop) (B : Nat → Int → Nat) (F : Nat → Int) (M : Nat → Int → Int) (G : Nat → Int → Option Nat) (T : x_T) (k : Int) (hk : -2147483648 ≤ k ∧ k < 2147483648) : cMet l yX0_isClaim cX0_isClaim 2 (some .boolean) rm_X0_isClaim A E [.ref (B 49 0), .int (zi k)] (fun H => XH E A B F M G T H) (qi A (fun r H => (r = bI (0 ≤ k ∧ k < F 43)) ∧ XH E A B F M G T H)) := by
  refine cMet.of (by decide) (Nat.le_of_ble_eq_true rfl) (fun p e s m args below meth c C hnm hX hS ls hl => ?_)
  have C : Cx p s m args meth c A RX0 cX0_isClaim 2 (some .boolean) E := C
  have hX : XH E A B F M G T s.heap := hX
  have hl : lv_has ls 2 [(0, .ref (B 49 0)), (1, .int (zi k))] := hl
  generalize hH : s.heap = H at hX
  have hS : va_S A s.heap H [] := by rw [← hH]; exact hS
  generalize hlocs : ([] : List Loc) = locs at hS ⊢
  obtain ⟨QQ, hQQ⟩ : ∃ z, MQ below (qi A (fun r H => (r = bI (0 ≤ k ∧ k < F 43)) ∧ XH E A B F M G T H)) args s (rm_X0_isClaim).cells (rm_X0_isClaim).slots A = z := ⟨_, rfl⟩
  rw [hQQ]
  refine lv_iload_n C.x C.b dX0_isClaim_0 rfl (lv_at hl 1 rfl) ?_
  refine r_i2l C (by omega) dX0_isClaim_1 ?_
  refine r_lconst C 0 rfl dX0_isClaim_2 ?_
  refine lv_aload_n C.x C.b dX0_isClaim_3 rfl (lv_at hl 0 rfl) ?_
  refine x_gi C hX 43 (by decide) rfl q781 (fun _ h => h) (F 43) rfl (b := (0, 20)) rfl dX0_isClaim_4 (fun r4 => ?_)
  have r4 : 0 ≤ F 43 ∧ F 43 ≤ 20 := r4
  refine r_const C dX0_isClaim_7 ?_
  refine r_isub C dX0_isClaim_8 ?_
  refine r_i2l C (by omega) dX0_isClaim_9 ?_
  refine r_callSi (As := [.long (zl k), .long (zl 0), .long (zl ((F 43) - 1))]) (rest := []) (cells' := 0) (slots' := 0) C (met_X0_isIn l E A H k 0 ((F 43) - 1) (show -9223372036854775808 ≤ k ∧ k < 9223372036854775808 from (by omega)) (show -9223372036854775808 ≤ (0 : Int) ∧ (0 : Int) < 9223372036854775808 from (by omega)) (show -9223372036854775808 ≤ ((F 43) - 1) ∧ ((F 43) - 1) < 9223372036854775808 from (by omega))) (lw_S q117 q118 q86 q119) hd_X0_isIn rfl (by decide) rfl hS hl.1 rfl (Nat.le_of_ble_eq_true rfl) dX0_isClaim_10 rfl rfl ⟨Nat.le_of_ble_eq_true rfl, Nat.le_of_ble_eq_true rfl⟩ (fun rr H locs hp hS => ?_)
  obtain ⟨hrr, hH⟩ := hp
  have hrr : rr = bI ((0 : Int) ≤ k ∧ k ≤ ((F 43) - 1)) := hrr
  subst hrr
  have hX : XH E A B F M G T H := by rw [hH]; exact hX
  rw [← hQQ]
  exact r_zret C (bI_e _) hS (Nat.le_of_ble_eq_true rfl) (Nat.le_of_ble_eq_true rfl) dX0_isClaim_13 ⟨(bI_c (by first | exact Iff.rfl | (constructor <;> intro _ <;> omega))), hX⟩

theorem hd_X0_fault : yX0_fault.cls = RX0 ∧ yX0_fault.cls ≠ "java/lang/invoke/MethodHandle" ∧ yX0_fault.cls ≠ "java/lang/invoke/VarHandle" ∧ (parseMethodDescriptor yX0_fault.desc).map (fun d => d.parameters.length) = some 0 := by decide +kernel
abbrev rm_X0_fault : Room := { frames := 0, cells := 0, slots := 0, locals := 0 }
set_option maxHeartbeats 8000000 in
theorem met_X0_fault (l : Launch) (E : us_E) (A : Nat → Prop) (B : Nat → Int → Nat) (F : Nat → Int) (M : Nat → Int → Int) (G : Nat → Int → Option Nat) (T : x_T) : cMet l yX0_fault cX0_fault 1 (some .int) rm_X0_fault A E [.ref (B 49 0)] (fun H => XH E A B F M G T H) (qi A (fun r H => (r = F 47) ∧ XH E A B F M G T H)) := by
  refine cMet.of (by decide) (Nat.le_of_ble_eq_true rfl) (fun p e s m args below meth c C hnm hX hS ls hl => ?_)
  have C : Cx p s m args meth c A RX0 cX0_fault 1 (some .int) E := C
  have hX : XH E A B F M G T s.heap := hX
  have hl : lv_has ls 1 [(0, .ref (B 49 0))] := hl
  generalize hH : s.heap = H at hX
  have hS : va_S A s.heap H [] := by rw [← hH]; exact hS
  generalize hlocs : ([] : List Loc) = locs at hS ⊢
  obtain ⟨QQ, hQQ⟩ : ∃ z, MQ below (qi A (fun r H => (r = F 47) ∧ XH E A B F M G T H)) args s (rm_X0_fault).cells (rm_X0_fault).slots A = z := ⟨_, rfl⟩
  rw [hQQ]
  refine lv_aload_n C.x C.b dX0_fault_0 rfl (lv_at hl 0 rfl) ?_
  refine x_gi C hX 47 (by decide) rfl q786 (fun _ h => h) (F 47) rfl (b := (0, 5)) rfl dX0_fault_1 (fun r1 => ?_)
  have r1 : 0 ≤ F 47 ∧ F 47 ≤ 5 := r1
  rw [← hQQ]
  exact r_iret C hS (Nat.le_of_ble_eq_true rfl) (Nat.le_of_ble_eq_true rfl) dX0_fault_4 ⟨(by first | rfl | exact (sel_t (by omega)).symm | exact (sel_f (by omega)).symm | omega), hX⟩

theorem hd_X0_likeness : yX0_likeness.cls = RX0 ∧ yX0_likeness.cls ≠ "java/lang/invoke/MethodHandle" ∧ yX0_likeness.cls ≠ "java/lang/invoke/VarHandle" ∧ (parseMethodDescriptor yX0_likeness.desc).map (fun d => d.parameters.length) = some 1 := by decide +kernel
abbrev rm_X0_likeness : Room := { frames := 1, cells := 0, slots := 0, locals := 25 }
set_option maxHeartbeats 8000000 in
theorem met_X0_likeness (l : Launch) (E : us_E) (A : Nat → Prop) (B : Nat → Int → Nat) (F : Nat → Int) (M : Nat → Int → Int) (G : Nat → Int → Option Nat) (T : x_T) (v : Int) (hv : -2147483648 ≤ v ∧ v < 2147483648) : cMet l yX0_likeness cX0_likeness 3 (some .int) rm_X0_likeness A E [.ref (B 49 0), .int (zi v)] (fun H => XH E A B F M G T H) (qi A (fun r H => ∃ f2 : Int, (f2 = sel (0 ≤ v ∧ v ≤ 12) v (F 2)) ∧ (r = sel (0 ≤ v ∧ v ≤ 12) (F 2) (-1)) ∧ XH E A B (va_up F 2 f2) M G T H)) := by
  refine cMet.of (by decide) (Nat.le_of_ble_eq_true rfl) (fun p e s m args below meth c C hnm hX hS ls hl => ?_)
  have C : Cx p s m args meth c A RX0 cX0_likeness 3 (some .int) E := C
  have hX : XH E A B F M G T s.heap := hX
  have hl : lv_has ls 3 [(0, .ref (B 49 0)), (1, .int (zi v))] := hl
  generalize hH : s.heap = H at hX
  have hS : va_S A s.heap H [] := by rw [← hH]; exact hS
  generalize hlocs : ([] : List Loc) = locs at hS ⊢
  obtain ⟨QQ, hQQ⟩ : ∃ z, MQ below (qi A (fun r H => ∃ f2 : Int, (f2 = sel (0 ≤ v ∧ v ≤ 12) v (F 2)) ∧ (r = sel (0 ≤ v ∧ v ≤ 12) (F 2) (-1)) ∧ XH E A B (va_up F 2 f2) M G T H)) args s (rm_X0_likeness).cells (rm_X0_likeness).slots A = z := ⟨_, rfl⟩
  rw [hQQ]
  refine lv_iload_n C.x C.b dX0_likeness_0 rfl (lv_at hl 1 rfl) ?_
  refine r_i2l C (by omega) dX0_likeness_1 ?_
  refine r_lconst C 0 rfl dX0_likeness_2 ?_
  refine r_ldc2 C 12 (by decide) q124 dX0_likeness_3 ?_
  refine r_callSi (As := [.long (zl v), .long (zl 0), .long (zl 12)]) (rest := []) (cells' := 0) (slots' := 0) C (met_X0_isIn l E A H v 0 12 (show -9223372036854775808 ≤ v ∧ v < 9223372036854775808 from (by omega)) (show -9223372036854775808 ≤ (0 : Int) ∧ (0 : Int) < 9223372036854775808 from (by omega)) (show -9223372036854775808 ≤ (12 : Int) ∧ (12 : Int) < 9223372036854775808 from (by omega))) (lw_S q117 q118 q86 q119) hd_X0_isIn rfl (by decide) rfl hS hl.1 rfl (Nat.le_of_ble_eq_true rfl) dX0_likeness_6 rfl rfl ⟨Nat.le_of_ble_eq_true rfl, Nat.le_of_ble_eq_true rfl⟩ (fun rr H locs hp hS => ?_)
  obtain ⟨hrr, hH⟩ := hp
  have hrr : rr = bI ((0 : Int) ≤ v ∧ v ≤ (12 : Int)) := hrr
  subst hrr
  have hX : XH E A B F M G T H := by rw [hH]; exact hX
  refine r_if_ne_b (tgt := 14) C dX0_likeness_9 (by decide) (fun c_1 => ?_) (fun c_1 => ?_)
  · refine lv_aload_n C.x C.b dX0_likeness_14 rfl (lv_at hl 0 rfl) ?_
    refine x_gi C hX 2 (by decide) rfl q738 (fun _ h => h) (F 2) rfl (b := (0, 12)) rfl dX0_likeness_15 (fun r15 => ?_)
    have r15 : 0 ≤ F 2 ∧ F 2 ≤ 12 := r15
    refine lv_istore_n (lv' := [(2, .int (zi (F 2))), (0, .ref (B 49 0)), (1, .int (zi v))]) C.x C.b dX0_likeness_18 rfl hl (by decide) rfl (fun ls hl => ?_)
    refine lv_aload_n C.x C.b dX0_likeness_19 rfl (lv_at hl 1 rfl) ?_
    refine lv_iload_n C.x C.b dX0_likeness_20 rfl (lv_at hl 2 rfl) ?_
    refine x_pi C hX hS 2 (by decide) rfl (by decide) rfl rfl q738 (fun _ h => h) (b := (0, 12)) rfl (show 0 ≤ v ∧ v ≤ 12 from (by omega)) (F' := (va_up F 2 v)) rfl dX0_likeness_21 (fun H locs hX hS => ?_)
    refine lv_iload_n C.x C.b dX0_likeness_24 rfl (lv_at hl 0 rfl) ?_
    rw [← hQQ]
    exact r_iret C hS (Nat.le_of_ble_eq_true rfl) (Nat.le_of_ble_eq_true rfl) dX0_likeness_25 ⟨v, (by first | rfl | assumption | exact (sel_t (by omega)).symm | exact (sel_f (by omega)).symm | omega), (by first | rfl | exact (sel_t (by omega)).symm | exact (sel_f (by omega)).symm | omega), hX⟩
  · refine r_const C dX0_likeness_12 ?_
    rw [← hQQ]
    exact r_iret C hS (Nat.le_of_ble_eq_true rfl) (Nat.le_of_ble_eq_true rfl) dX0_likeness_13 ⟨(F 2), (by first | rfl | assumption | exact (sel_t (by omega)).symm | exact (sel_f (by omega)).symm | omega), (by first | rfl | exact (sel_t (by omega)).symm | exact (sel_f (by omega)).symm | omega), (hX.to rfl ((up_id F (k := 2) (a := (F 2)) rfl).symm.trans rfl) rfl rfl rfl)⟩

theorem hd_X0_form : yX0_form.cls = RX0 ∧ yX0_form.cls ≠ "java/lang/invoke/MethodHandle" ∧ yX0_form.cls ≠ "java/lang/invoke/VarHandle" ∧ (parseMethodDescriptor yX0_form.desc).map (fun d => d.parameters.length) = some 1 := by decide +kernel
abbrev rm_X0_form : Room := { frames := 1, cells := 0, slots := 0, locals := 25 }
set_option maxHeartbeats 8000000 in
theorem met_X0_form (l : Launch) (E : us_E) (A : Nat → Prop) (B : Nat → Int → Nat) (F : Nat → Int) (M : Nat → Int → Int) (G : Nat → Int → Option Nat) (T : x_T) (v : Int) (hv : -2147483648 ≤ v ∧ v < 2147483648) : cMet l yX0_form cX0_form 2 (some .int) rm_X0_form A E [.ref (B 49 0), .int (zi v)] (fun H => XH E A B F M G T H) (qi A (fun r H => ∃ f1 : Int, ∃ m0 : Int → Int, (f1 = sel ((0 ≤ v ∧ v ≤ 4095) ∧ ¬ F 1 = 24) (F 1 + 1) (F 1)) ∧ (m0 = sel ((0 ≤ v ∧ v ≤ 4095) ∧ ¬ F 1 = 24) (fup (M 0) (F 1) v) (M 0)) ∧ (r = sel (0 ≤ v ∧ v ≤ 4095) (sel (F 1 = 24) (-3) (F 1)) (-1)) ∧ XH E A B (va_up F 1 f1) (va_up M 0 m0) G T H)) := by
  refine cMet.of (by decide) (Nat.le_of_ble_eq_true rfl) (fun p e s m args below meth c C hnm hX hS ls hl => ?_)
  have C : Cx p s m args meth c A RX0 cX0_form 2 (some .int) E := C
  have hX : XH E A B F M G T s.heap := hX
  have hl : lv_has ls 2 [(0, .ref (B 49 0)), (1, .int (zi v))] := hl
  generalize hH : s.heap = H at hX
  have hS : va_S A s.heap H [] := by rw [← hH]; exact hS
  generalize hlocs : ([] : List Loc) = locs at hS ⊢
  obtain ⟨QQ, hQQ⟩ : ∃ z, MQ below (qi A (fun r H => ∃ f1 : Int, ∃ m0 : Int → Int, (f1 = sel ((0 ≤ v ∧ v ≤ 4095) ∧ ¬ F 1 = 24) (F 1 + 1) (F 1)) ∧ (m0 = sel ((0 ≤ v ∧ v ≤ 4095) ∧ ¬ F 1 = 24) (fup (M 0) (F 1) v) (M 0)) ∧ (r = sel (0 ≤ v ∧ v ≤ 4095) (sel (F 1 = 24) (-3) (F 1)) (-1)) ∧ XH E A B (va_up F 1 f1) (va_up M 0 m0) G T H)) args s (rm_X0_form).cells (rm_X0_form).slots A = z := ⟨_, rfl⟩
  rw [hQQ]
  refine lv_iload_n C.x C.b dX0_form_0 rfl (lv_at hl 1 rfl) ?_
  refine r_i2l C (by omega) dX0_form_1 ?_
  refine r_lconst C 0 rfl dX0_form_2 ?_
  refine r_ldc2 C 4095 (by decide) q116 dX0_form_3 ?_
  refine r_callSi (As := [.long (zl v), .long (zl 0), .long (zl 4095)]) (rest := []) (cells' := 0) (slots' := 0) C (met_X0_isIn l E A H v 0 4095 (show -9223372036854775808 ≤ v ∧ v < 9223372036854775808 from (by omega)) (show -9223372036854775808 ≤ (0 : Int) ∧ (0 : Int) < 9223372036854775808 from (by omega)) (show -9223372036854775808 ≤ (4095 : Int) ∧ (4095 : Int) < 9223372036854775808 from (by omega))) (lw_S q117 q118 q86 q119) hd_X0_isIn rfl (by decide) rfl hS hl.1 rfl (Nat.le_of_ble_eq_true rfl) dX0_form_6 rfl rfl ⟨Nat.le_of_ble_eq_true rfl, Nat.le_of_ble_eq_true rfl⟩ (fun rr H locs hp hS => ?_)
  obtain ⟨hrr, hH⟩ := hp
  have hrr : rr = bI ((0 : Int) ≤ v ∧ v ≤ (4095 : Int)) := hrr
  subst hrr
  have hX : XH E A B F M G T H := by rw [hH]; exact hX
  refine r_if_ne_b (tgt := 14) C dX0_form_9 (by decide) (fun c_1 => ?_) (fun c_1 => ?_)
  · refine lv_aload_n C.x C.b dX0_form_14 rfl (lv_at hl 0 rfl) ?_
    refine x_gi C hX 1 (by decide) rfl q737 (fun _ h => h) (F 1) rfl (b := (0, 24)) rfl dX0_form_15 (fun r15 => ?_)
    have r15 : 0 ≤ F 1 ∧ F 1 ≤ 24 := r15
    refine r_bipush C (by decide) dX0_form_18 ?_
    refine r_icmp_ne (tgt := 26) C (by omega) (by decide) dX0_form_20 (by decide) (fun c_2 => ?_) (fun c_2 => ?_)
    · refine lv_aload_n C.x C.b dX0_form_26 rfl (lv_at hl 0 rfl) ?_
      refine x_ga C hX 0 (by decide) rfl q736 (fun _ h => h) dX0_form_27 ?_
      refine lv_aload_n C.x C.b dX0_form_30 rfl (lv_at hl 0 rfl) ?_
      refine x_gi C hX 1 (by decide) rfl q737 (fun _ h => h) (F 1) rfl (b := (0, 24)) rfl dX0_form_31 (fun _ => ?_)
      refine lv_iload_n C.x C.b dX0_form_34 rfl (lv_at hl 1 rfl) ?_
      refine x_si1 C hX hS 0 rfl (by decide) rfl (show 0 ≤ (F 1) ∧ (F 1) < 24 from (by omega)) (by decide) (fun b hb => by cases hb; exact (show 0 ≤ v ∧ v ≤ 4095 from (by omega))) (M' := (va_up M 0 (fup (M 0) (F 1) v))) rfl dX0_form_35 (fun H locs hX hS => ?_)
      refine lv_aload_n C.x C.b dX0_form_36 rfl (lv_at hl 0 rfl) ?_
      refine lv_dup C.x C.b dX0_form_37 rfl ?_
      refine x_gi C hX 1 (by decide) rfl q737 (fun _ h => h) (F 1) rfl (b := (0, 24)) rfl dX0_form_38 (fun _ => ?_)
      refine r_const C dX0_form_41 ?_
      refine r_iadd C dX0_form_42 ?_
      refine x_pi C hX hS 1 (by decide) rfl (by decide) rfl rfl q737 (fun _ h => h) (b := (0, 24)) rfl (show 0 ≤ (F 1) + 1 ∧ (F 1) + 1 ≤ 24 from (by omega)) (F' := (va_up F 1 ((F 1) + 1))) rfl dX0_form_43 (fun H locs hX hS => ?_)
      refine lv_aload_n C.x C.b dX0_form_46 rfl (lv_at hl 0 rfl) ?_
      refine x_gi C hX 1 (by decide) rfl q737 (fun _ h => h) ((F 1) + 1) rfl (b := (0, 24)) rfl dX0_form_47 (fun r47 => ?_)
      have r47 : 0 ≤ (F 1) + 1 ∧ (F 1) + 1 ≤ 24 := r47
      refine r_const C dX0_form_50 ?_
      refine r_isub C dX0_form_51 ?_
      rw [← hQQ]
      exact r_iret C hS (Nat.le_of_ble_eq_true rfl) (Nat.le_of_ble_eq_true rfl) dX0_form_52 ⟨((F 1) + 1), (fup (M 0) (F 1) v), (by first | rfl | assumption | exact (sel_t (by omega)).symm | exact (sel_f (by omega)).symm | omega), (by first | rfl | assumption | exact (sel_t (by omega)).symm | exact (sel_f (by omega)).symm | omega), (by first | rfl | ((repeat first | rw [sel_t (by omega)] | rw [sel_f (by omega)]) <;> first | rfl | omega)), hX⟩
    · refine r_bipush C (by decide) dX0_form_23 ?_
      rw [← hQQ]
      exact r_iret C hS (Nat.le_of_ble_eq_true rfl) (Nat.le_of_ble_eq_true rfl) dX0_form_25 ⟨(F 1), (M 0), (by first | rfl | assumption | exact (sel_t (by omega)).symm | exact (sel_f (by omega)).symm | omega), (by first | rfl | assumption | exact (sel_t (by omega)).symm | exact (sel_f (by omega)).symm | omega), (by first | rfl | ((repeat first | rw [sel_t (by omega)] | rw [sel_f (by omega)]) <;> first | rfl | omega)), (hX.to rfl ((up_id F (k := 1) (a := (F 1)) rfl).symm.trans rfl) ((up_id M (k := 0) (a := (M 0)) rfl).symm.trans rfl) rfl rfl)⟩
  · refine r_const C dX0_form_12 ?_
    rw [← hQQ]
    exact r_iret C hS (Nat.le_of_ble_eq_true rfl) (Nat.le_of_ble_eq_true rfl) dX0_form_13 ⟨(F 1), (M 0), (by first | rfl | assumption | exact (sel_t (by omega)).symm | exact (sel_f (by omega)).symm | omega), (by first | rfl | assumption | exact (sel_t (by omega)).symm | exact (sel_f (by omega)).symm | omega), (by first | rfl | ((repeat first | rw [sel_t (by omega)] | rw [sel_f (by omega)]) <;> first | rfl | omega)), (hX.to rfl ((up_id F (k := 1) (a := (F 1)) rfl).symm.trans rfl) ((up_id M (k := 0) (a := (M 0)) rfl).symm.trans rfl) rfl rfl)⟩

theorem hd_X0_isSign : yX0_isSign.cls = RX0 ∧ yX0_isSign.cls ≠ "java/lang/invoke/MethodHandle" ∧ yX0_isSign.cls ≠ "java/lang/invoke/VarHandle" ∧ (parseMethodDescriptor yX0_isSign.desc).map (fun d => d.parameters.length) = some 1 := by decide +kernel
abbrev rm_X0_isSign : Room := { frames := 2, cells := 0, slots := 0, locals := 46 }
set_option maxHeartbeats 8000000 in
theorem met_X0_isSign (l : Launch) (E : us_E) (A : Nat → Prop) (B : Nat → Int → Nat) (F : Nat → Int) (M : Nat → Int → Int) (G : Nat → Int → Option Nat) (T : x_T) (k : Int) (hk : -2147483648 ≤ k ∧ k < 2147483648) : cMet l yX0_isSign cX0_isSign 2 (some .boolean) rm_X0_isSign A E [.ref (B 49 0), .int (zi k)] (fun H => XH E A B F M G T H) (qi A (fun r H => (r = bI ((0 ≤ k ∧ k < F 1) ∧ M 3 k = k)) ∧ XH E A B F M G T H)) := by
  refine cMet.of (by decide) (Nat.le_of_ble_eq_true rfl) (fun p e s m args below meth c C hnm hX hS ls hl => ?_)
  have C : Cx p s m args meth c A RX0 cX0_isSign 2 (some .boolean) E := C
  have hX : XH E A B F M G T s.heap := hX
  have hl : lv_has ls 2 [(0, .ref (B 49 0)), (1, .int (zi k))] := hl
  generalize hH : s.heap = H at hX
  have hS : va_S A s.heap H [] := by rw [← hH]; exact hS
  generalize hlocs : ([] : List Loc) = locs at hS ⊢
  obtain ⟨QQ, hQQ⟩ : ∃ z, MQ below (qi A (fun r H => (r = bI ((0 ≤ k ∧ k < F 1) ∧ M 3 k = k)) ∧ XH E A B F M G T H)) args s (rm_X0_isSign).cells (rm_X0_isSign).slots A = z := ⟨_, rfl⟩
  rw [hQQ]
  have rF1 : 0 ≤ F 1 ∧ F 1 ≤ 24 := hX.2.1 1 (0, 24) rfl
  refine lv_aload_n C.x C.b dX0_isSign_0 rfl (lv_at hl 0 rfl) ?_
  refine lv_iload_n C.x C.b dX0_isSign_1 rfl (lv_at hl 1 rfl) ?_
  refine r_callVi (As := [.int (zi k)]) (rest := []) (cells' := 0) (slots' := 0) C (met_X0_isForm l E A B F M G T k (show -2147483648 ≤ k ∧ k < 2147483648 from (by omega))) (lw_V q129 q131 qs0 q86 q133) hd_X0_isForm rfl (by decide) (x_this C hX) hX hS hl.1 rfl (Nat.le_of_ble_eq_true rfl) dX0_isSign_2 rfl rfl ⟨Nat.le_of_ble_eq_true rfl, Nat.le_of_ble_eq_true rfl⟩ (fun rr H locs hp hS => ?_)
  obtain ⟨hrr, hX⟩ := hp
  have hrr : rr = bI (0 ≤ k ∧ k < (F 1)) := hrr
  subst hrr
  have J23_1 : ∀ (t0 : Int) (ht0 : t0 = bI ((0 ≤ k ∧ k < (F 1)) ∧ ((M 3 k) = k))) (H : Heap) (locs : List Loc) (ls : Array Slot) (hX : XH E A B F M G T H) (hS : va_S A s.heap H locs) (hl : lv_has ls 2 [(0, .ref (B 49 0)), (1, .int (zi k))]), W p l e rm_X0_isSign s m args below meth c H locs 0 0 QQ (F0 m 23 ls [.int (zi t0)]) := by
    intro t0 ht0 H locs ls hX hS hl
    subst ht0
    rw [← hQQ]
    exact r_zret C (bI_e _) hS (Nat.le_of_ble_eq_true rfl) (Nat.le_of_ble_eq_true rfl) dX0_isSign_23 ⟨(bI_c (by first | exact Iff.rfl | (constructor <;> intro _ <;> omega))), hX⟩
  refine r_if_eq_b (tgt := 22) C dX0_isSign_5 (by decide) (fun c_2 => ?_) (fun c_2 => ?_)
  · refine r_const C dX0_isSign_22 ?_
    exact J23_1 0 ((bI_f (fun q => c_2 q.1)).symm) H locs ls hX hS hl
  · refine lv_aload_n C.x C.b dX0_isSign_8 rfl (lv_at hl 0 rfl) ?_
    refine x_ga C hX 3 (by decide) rfl q739 (fun _ h => h) dX0_isSign_9 ?_
    refine lv_iload_n C.x C.b dX0_isSign_12 rfl (lv_at hl 1 rfl) ?_
    refine x_li1 C hX 3 rfl (by decide) rfl (show 0 ≤ k ∧ k < 24 from (by omega)) (by decide) (M 3 k) rfl dX0_isSign_13 (fun r13 => ?_)
    have r13 : 0 ≤ M 3 k ∧ M 3 k ≤ 23 := r13 (0, 23) rfl
    refine lv_iload_n C.x C.b dX0_isSign_14 rfl (lv_at hl 1 rfl) ?_
    refine r_icmp_ne (tgt := 22) C (by omega) (by omega) dX0_isSign_15 (by decide) (fun c_3 => ?_) (fun c_3 => ?_)
    · refine r_const C dX0_isSign_22 ?_
      exact J23_1 0 ((bI_f (fun q => c_3 q.2)).symm) H locs ls hX hS hl
    · refine r_const C dX0_isSign_18 ?_
      refine lv_goto (tgt := 23) C.x C.b dX0_isSign_19 (by decide) ?_
      exact J23_1 1 ((bI_t ⟨c_2, c_3⟩).symm) H locs ls hX hS hl

theorem hd_X0_sizeOf : yX0_sizeOf.cls = RX0 ∧ yX0_sizeOf.cls ≠ "java/lang/invoke/MethodHandle" ∧ yX0_sizeOf.cls ≠ "java/lang/invoke/VarHandle" ∧ (parseMethodDescriptor yX0_sizeOf.desc).map (fun d => d.parameters.length) = some 1 := by decide +kernel
abbrev rm_X0_sizeOf : Room := { frames := 0, cells := 0, slots := 0, locals := 0 }
set_option maxHeartbeats 8000000 in
theorem met_X0_sizeOf (l : Launch) (E : us_E) (A : Nat → Prop) (B : Nat → Int → Nat) (F : Nat → Int) (M : Nat → Int → Int) (G : Nat → Int → Option Nat) (T : x_T) (k : Int) (hk : -2147483648 ≤ k ∧ k < 2147483648) : cMet l yX0_sizeOf cX0_sizeOf 4 (some .int) rm_X0_sizeOf A E [.ref (B 49 0), .int (zi k)] (fun H => XH E A B F M G T H) (qi A (fun r H => (0 ≤ sz_of (F 1) (M 3) k ∧ sz_of (F 1) (M 3) k ≤ 24) ∧ (r = sz_of (F 1) (M 3) k) ∧ XH E A B F M G T H)) := by
  refine cMet.of (by decide) (Nat.le_of_ble_eq_true rfl) (fun p e s m args below meth c C hnm hX hS ls hl => ?_)
  have C : Cx p s m args meth c A RX0 cX0_sizeOf 4 (some .int) E := C
  have hX : XH E A B F M G T s.heap := hX
  have hl : lv_has ls 4 [(0, .ref (B 49 0)), (1, .int (zi k))] := hl
  generalize hH : s.heap = H at hX
  have hS : va_S A s.heap H [] := by rw [← hH]; exact hS
  generalize hlocs : ([] : List Loc) = locs at hS ⊢
  obtain ⟨QQ, hQQ⟩ : ∃ z, MQ below (qi A (fun r H => (0 ≤ sz_of (F 1) (M 3) k ∧ sz_of (F 1) (M 3) k ≤ 24) ∧ (r = sz_of (F 1) (M 3) k) ∧ XH E A B F M G T H)) args s (rm_X0_sizeOf).cells (rm_X0_sizeOf).slots A = z := ⟨_, rfl⟩
  rw [hQQ]
  have rF1 : 0 ≤ F 1 ∧ F 1 ≤ 24 := hX.2.1 1 (0, 24) rfl
  refine r_const C dX0_sizeOf_0 ?_
  refine lv_istore_n (lv' := [(2, .int (zi 0)), (0, .ref (B 49 0)), (1, .int (zi k))]) C.x C.b dX0_sizeOf_1 rfl hl (by decide) rfl (fun ls hl => ?_)
  refine r_const C dX0_sizeOf_2 ?_
  refine lv_istore_n (lv' := [(3, .int (zi 0)), (2, .int (zi 0)), (0, .ref (B 49 0)), (1, .int (zi k))]) C.x C.b dX0_sizeOf_3 rfl hl (by decide) rfl (fun ls hl => ?_)
  have L4 : ∀ (fu : Nat) (v2 : Int) (v3 : Int) (hi : 0 ≤ v3 ∧ v3 ≤ F 1) (ha : v2 = isum (fun f => bI (M 3 f = k)) v3) (hm : Int.toNat (F 1 - v3) < fu) (H : Heap) (locs : List Loc) (ls : Array Slot) (hX : XH E A B F M G T H) (hS : va_S A s.heap H locs) (hl : lv_has ls 4 [(0, .ref (B 49 0)), (1, .int (zi k)), (2, .int (zi v2)), (3, .int (zi v3))]), W p l e rm_X0_sizeOf s m args below meth c H locs 0 0 QQ (F0 m 4 ls []) := by
    intro fu
    induction fu with
    | zero => intro v2 v3 hi ha hm; exact absurd hm (Nat.not_lt_zero _)
    | succ fu ih4 =>
      intro v2 v3 hi ha hm H locs ls hX hS hl
      refine lv_iload_n C.x C.b dX0_sizeOf_4 rfl (lv_at hl 3 rfl) ?_
      refine lv_aload_n C.x C.b dX0_sizeOf_5 rfl (lv_at hl 0 rfl) ?_
      refine x_gi C hX 1 (by decide) rfl q737 (fun _ h => h) (F 1) rfl (b := (0, 24)) rfl dX0_sizeOf_6 (fun _ => ?_)
      refine r_icmp_ge (tgt := 36) C (by omega) (by omega) dX0_sizeOf_9 (by decide) (fun c_1 => ?_) (fun c_1 => ?_)
      · refine lv_iload_n C.x C.b dX0_sizeOf_36 rfl (lv_at hl 2 rfl) ?_
        rw [← hQQ]
        exact r_iret C hS (Nat.le_of_ble_eq_true rfl) (Nat.le_of_ble_eq_true rfl) dX0_sizeOf_37 ⟨(by have := sz_r (s := M 3) (k := k) rF1.1; omega), (by rw [ha, show v3 = F 1 by omega]; rfl), hX⟩
      · refine lv_iload_n C.x C.b dX0_sizeOf_12 rfl (lv_at hl 2 rfl) ?_
        refine lv_aload_n C.x C.b dX0_sizeOf_13 rfl (lv_at hl 0 rfl) ?_
        refine x_ga C hX 3 (by decide) rfl q739 (fun _ h => h) dX0_sizeOf_14 ?_
        refine lv_iload_n C.x C.b dX0_sizeOf_17 rfl (lv_at hl 3 rfl) ?_
        refine x_li1 C hX 3 rfl (by decide) rfl (show 0 ≤ v3 ∧ v3 < 24 from (by omega)) (by decide) (M 3 v3) rfl dX0_sizeOf_18 (fun r18 => ?_)
        have r18 : 0 ≤ M 3 v3 ∧ M 3 v3 ≤ 23 := r18 (0, 23) rfl
        refine lv_iload_n C.x C.b dX0_sizeOf_19 rfl (lv_at hl 1 rfl) ?_
        have J28_2 : ∀ (t1 : Int) (ht1 : t1 = bI ((M 3 v3) = k)) (H : Heap) (locs : List Loc) (ls : Array Slot) (hX : XH E A B F M G T H) (hS : va_S A s.heap H locs) (hl : lv_has ls 4 [(0, .ref (B 49 0)), (1, .int (zi k)), (2, .int (zi v2)), (3, .int (zi v3))]), W p l e rm_X0_sizeOf s m args below meth c H locs 0 0 QQ (F0 m 28 ls [.int (zi t1), .int (zi v2)]) := by
          intro t1 ht1 H locs ls hX hS hl
          subst ht1
          refine r_iadd C dX0_sizeOf_28 ?_
          refine lv_istore_n (lv' := [(2, .int (zi (v2 + (bI ((M 3 v3) = k))))), (0, .ref (B 49 0)), (1, .int (zi k)), (3, .int (zi v3))]) C.x C.b dX0_sizeOf_29 rfl hl (by decide) rfl (fun ls hl => ?_)
          refine r_iinc (lv' := [(3, .int (zi (v3 + 1))), (2, .int (zi (v2 + (bI ((M 3 v3) = k))))), (0, .ref (B 49 0)), (1, .int (zi k))]) C dX0_sizeOf_30 hl (k := 3) rfl (by decide) rfl (fun ls hl => ?_)
          refine lv_goto (tgt := 4) C.x C.b dX0_sizeOf_33 (by decide) ?_
          exact ih4 (v2 + (bI ((M 3 v3) = k))) (v3 + 1) (by omega) (isum_st (by omega) ha rfl) (by omega) H locs ls hX hS (lv_sub hl [2, 3, 1, 0] rfl)
        refine r_icmp_ne (tgt := 27) C (by omega) (by omega) dX0_sizeOf_20 (by decide) (fun c_3 => ?_) (fun c_3 => ?_)
        · refine r_const C dX0_sizeOf_27 ?_
          exact J28_2 0 ((bI_f c_3).symm) H locs ls hX hS hl
        · refine r_const C dX0_sizeOf_23 ?_
          refine lv_goto (tgt := 28) C.x C.b dX0_sizeOf_24 (by decide) ?_
          exact J28_2 1 ((bI_t c_3).symm) H locs ls hX hS hl
  exact L4 _ 0 0 (by omega) rfl (Nat.lt_succ_self _) H locs ls hX hS (lv_sub hl [2, 3, 1, 0] rfl)

theorem hd_X0_day : yX0_day.cls = RX0 ∧ yX0_day.cls ≠ "java/lang/invoke/MethodHandle" ∧ yX0_day.cls ≠ "java/lang/invoke/VarHandle" ∧ (parseMethodDescriptor yX0_day.desc).map (fun d => d.parameters.length) = some 1 := by decide +kernel
abbrev rm_X0_day : Room := { frames := 1, cells := 0, slots := 0, locals := 25 }
set_option maxHeartbeats 8000000 in
theorem met_X0_day (l : Launch) (E : us_E) (A : Nat → Prop) (B : Nat → Int → Nat) (F : Nat → Int) (M : Nat → Int → Int) (G : Nat → Int → Option Nat) (T : x_T) (d : Int) (hd : -2147483648 ≤ d ∧ d < 2147483648) : cMet l yX0_day cX0_day 3 (some .int) rm_X0_day A E [.ref (B 49 0), .int (zi d)] (fun H => XH E A B F M G T H) (qi A (fun r H => ∃ f44 : Int, (f44 = sel (F 44 ≤ d ∧ d ≤ 99) d (F 44)) ∧ (r = sel (F 44 ≤ d ∧ d ≤ 99) (F 44) (-1)) ∧ XH E A B (va_up F 44 f44) M G T H)) := by
  refine cMet.of (by decide) (Nat.le_of_ble_eq_true rfl) (fun p e s m args below meth c C hnm hX hS ls hl => ?_)
  have C : Cx p s m args meth c A RX0 cX0_day 3 (some .int) E := C
  have hX : XH E A B F M G T s.heap := hX
  have hl : lv_has ls 3 [(0, .ref (B 49 0)), (1, .int (zi d))] := hl
  generalize hH : s.heap = H at hX
  have hS : va_S A s.heap H [] := by rw [← hH]; exact hS
  generalize hlocs : ([] : List Loc) = locs at hS ⊢
  obtain ⟨QQ, hQQ⟩ : ∃ z, MQ below (qi A (fun r H => ∃ f44 : Int, (f44 = sel (F 44 ≤ d ∧ d ≤ 99) d (F 44)) ∧ (r = sel (F 44 ≤ d ∧ d ≤ 99) (F 44) (-1)) ∧ XH E A B (va_up F 44 f44) M G T H)) args s (rm_X0_day).cells (rm_X0_day).slots A = z := ⟨_, rfl⟩
  rw [hQQ]
  have rF44 : 0 ≤ F 44 ∧ F 44 ≤ 99 := hX.2.1 44 (0, 99) rfl
  refine lv_iload_n C.x C.b dX0_day_0 rfl (lv_at hl 1 rfl) ?_
  refine r_i2l C (by omega) dX0_day_1 ?_
  refine lv_aload_n C.x C.b dX0_day_2 rfl (lv_at hl 0 rfl) ?_
  refine x_gi C hX 44 (by decide) rfl q783 (fun _ h => h) (F 44) rfl (b := (0, 99)) rfl dX0_day_3 (fun _ => ?_)
  refine r_i2l C (by omega) dX0_day_6 ?_
  refine r_ldc2 C 99 (by decide) q696 dX0_day_7 ?_
  refine r_callSi (As := [.long (zl d), .long (zl (F 44)), .long (zl 99)]) (rest := []) (cells' := 0) (slots' := 0) C (met_X0_isIn l E A H d (F 44) 99 (show -9223372036854775808 ≤ d ∧ d < 9223372036854775808 from (by omega)) (show -9223372036854775808 ≤ (F 44) ∧ (F 44) < 9223372036854775808 from (by omega)) (show -9223372036854775808 ≤ (99 : Int) ∧ (99 : Int) < 9223372036854775808 from (by omega))) (lw_S q117 q118 q86 q119) hd_X0_isIn rfl (by decide) rfl hS hl.1 rfl (Nat.le_of_ble_eq_true rfl) dX0_day_10 rfl rfl ⟨Nat.le_of_ble_eq_true rfl, Nat.le_of_ble_eq_true rfl⟩ (fun rr H locs hp hS => ?_)
  obtain ⟨hrr, hH⟩ := hp
  have hrr : rr = bI ((F 44) ≤ d ∧ d ≤ (99 : Int)) := hrr
  subst hrr
  have hX : XH E A B F M G T H := by rw [hH]; exact hX
  refine r_if_ne_b (tgt := 18) C dX0_day_13 (by decide) (fun c_1 => ?_) (fun c_1 => ?_)
  · refine lv_aload_n C.x C.b dX0_day_18 rfl (lv_at hl 0 rfl) ?_
    refine x_gi C hX 44 (by decide) rfl q783 (fun _ h => h) (F 44) rfl (b := (0, 99)) rfl dX0_day_19 (fun _ => ?_)
    refine lv_istore_n (lv' := [(2, .int (zi (F 44))), (0, .ref (B 49 0)), (1, .int (zi d))]) C.x C.b dX0_day_22 rfl hl (by decide) rfl (fun ls hl => ?_)
    refine lv_aload_n C.x C.b dX0_day_23 rfl (lv_at hl 1 rfl) ?_
    refine lv_iload_n C.x C.b dX0_day_24 rfl (lv_at hl 2 rfl) ?_
    refine x_pi C hX hS 44 (by decide) rfl (by decide) rfl rfl q783 (fun _ h => h) (b := (0, 99)) rfl (show 0 ≤ d ∧ d ≤ 99 from (by omega)) (F' := (va_up F 44 d)) rfl dX0_day_25 (fun H locs hX hS => ?_)
    refine lv_iload_n C.x C.b dX0_day_28 rfl (lv_at hl 0 rfl) ?_
    rw [← hQQ]
    exact r_iret C hS (Nat.le_of_ble_eq_true rfl) (Nat.le_of_ble_eq_true rfl) dX0_day_29 ⟨d, (by first | rfl | assumption | exact (sel_t (by omega)).symm | exact (sel_f (by omega)).symm | omega), (by first | rfl | exact (sel_t (by omega)).symm | exact (sel_f (by omega)).symm | omega), hX⟩
  · refine r_const C dX0_day_16 ?_
    rw [← hQQ]
    exact r_iret C hS (Nat.le_of_ble_eq_true rfl) (Nat.le_of_ble_eq_true rfl) dX0_day_17 ⟨(F 44), (by first | rfl | assumption | exact (sel_t (by omega)).symm | exact (sel_f (by omega)).symm | omega), (by first | rfl | exact (sel_t (by omega)).symm | exact (sel_f (by omega)).symm | omega), (hX.to rfl ((up_id F (k := 44) (a := (F 44)) rfl).symm.trans rfl) rfl rfl rfl)⟩

theorem hd_X0_end : yX0_end.cls = RX0 ∧ yX0_end.cls ≠ "java/lang/invoke/MethodHandle" ∧ yX0_end.cls ≠ "java/lang/invoke/VarHandle" ∧ (parseMethodDescriptor yX0_end.desc).map (fun d => d.parameters.length) = some 1 := by decide +kernel
abbrev rm_X0_end : Room := { frames := 1, cells := 0, slots := 0, locals := 25 }
set_option maxHeartbeats 8000000 in
theorem met_X0_end (l : Launch) (E : us_E) (A : Nat → Prop) (B : Nat → Int → Nat) (F : Nat → Int) (M : Nat → Int → Int) (G : Nat → Int → Option Nat) (T : x_T) (n : Int) (hn : -2147483648 ≤ n ∧ n < 2147483648) : cMet l yX0_end cX0_end 3 (some .int) rm_X0_end A E [.ref (B 49 0), .int (zi n)] (fun H => XH E A B F M G T H) (qi A (fun r H => ∃ f46 : Int, (f46 = sel (0 ≤ n ∧ n ≤ F 46) n (F 46)) ∧ (r = sel (0 ≤ n ∧ n ≤ F 46) (F 46) (-1)) ∧ XH E A B (va_up F 46 f46) M G T H)) := by
  refine cMet.of (by decide) (Nat.le_of_ble_eq_true rfl) (fun p e s m args below meth c C hnm hX hS ls hl => ?_)
  have C : Cx p s m args meth c A RX0 cX0_end 3 (some .int) E := C
  have hX : XH E A B F M G T s.heap := hX
  have hl : lv_has ls 3 [(0, .ref (B 49 0)), (1, .int (zi n))] := hl
  generalize hH : s.heap = H at hX
  have hS : va_S A s.heap H [] := by rw [← hH]; exact hS
  generalize hlocs : ([] : List Loc) = locs at hS ⊢
  obtain ⟨QQ, hQQ⟩ : ∃ z, MQ below (qi A (fun r H => ∃ f46 : Int, (f46 = sel (0 ≤ n ∧ n ≤ F 46) n (F 46)) ∧ (r = sel (0 ≤ n ∧ n ≤ F 46) (F 46) (-1)) ∧ XH E A B (va_up F 46 f46) M G T H)) args s (rm_X0_end).cells (rm_X0_end).slots A = z := ⟨_, rfl⟩
  rw [hQQ]
  have rF46 : 0 ≤ F 46 ∧ F 46 ≤ 160 := hX.2.1 46 (0, 160) rfl
  refine lv_iload_n C.x C.b dX0_end_0 rfl (lv_at hl 1 rfl) ?_
  refine r_i2l C (by omega) dX0_end_1 ?_
  refine r_lconst C 0 rfl dX0_end_2 ?_
  refine lv_aload_n C.x C.b dX0_end_3 rfl (lv_at hl 0 rfl) ?_
  refine x_gi C hX 46 (by decide) rfl q785 (fun _ h => h) (F 46) rfl (b := (0, 160)) rfl dX0_end_4 (fun _ => ?_)
  refine r_i2l C (by omega) dX0_end_7 ?_
  refine r_callSi (As := [.long (zl n), .long (zl 0), .long (zl (F 46))]) (rest := []) (cells' := 0) (slots' := 0) C (met_X0_isIn l E A H n 0 (F 46) (show -9223372036854775808 ≤ n ∧ n < 9223372036854775808 from (by omega)) (show -9223372036854775808 ≤ (0 : Int) ∧ (0 : Int) < 9223372036854775808 from (by omega)) (show -9223372036854775808 ≤ (F 46) ∧ (F 46) < 9223372036854775808 from (by omega))) (lw_S q117 q118 q86 q119) hd_X0_isIn rfl (by decide) rfl hS hl.1 rfl (Nat.le_of_ble_eq_true rfl) dX0_end_8 rfl rfl ⟨Nat.le_of_ble_eq_true rfl, Nat.le_of_ble_eq_true rfl⟩ (fun rr H locs hp hS => ?_)
  obtain ⟨hrr, hH⟩ := hp
  have hrr : rr = bI ((0 : Int) ≤ n ∧ n ≤ (F 46)) := hrr
  subst hrr
  have hX : XH E A B F M G T H := by rw [hH]; exact hX
  refine r_if_ne_b (tgt := 16) C dX0_end_11 (by decide) (fun c_1 => ?_) (fun c_1 => ?_)
  · refine lv_aload_n C.x C.b dX0_end_16 rfl (lv_at hl 0 rfl) ?_
    refine x_gi C hX 46 (by decide) rfl q785 (fun _ h => h) (F 46) rfl (b := (0, 160)) rfl dX0_end_17 (fun _ => ?_)
    refine lv_istore_n (lv' := [(2, .int (zi (F 46))), (0, .ref (B 49 0)), (1, .int (zi n))]) C.x C.b dX0_end_20 rfl hl (by decide) rfl (fun ls hl => ?_)
    refine lv_aload_n C.x C.b dX0_end_21 rfl (lv_at hl 1 rfl) ?_
    refine lv_iload_n C.x C.b dX0_end_22 rfl (lv_at hl 2 rfl) ?_
    refine x_pi C hX hS 46 (by decide) rfl (by decide) rfl rfl q785 (fun _ h => h) (b := (0, 160)) rfl (show 0 ≤ n ∧ n ≤ 160 from (by omega)) (F' := (va_up F 46 n)) rfl dX0_end_23 (fun H locs hX hS => ?_)
    refine lv_iload_n C.x C.b dX0_end_26 rfl (lv_at hl 0 rfl) ?_
    rw [← hQQ]
    exact r_iret C hS (Nat.le_of_ble_eq_true rfl) (Nat.le_of_ble_eq_true rfl) dX0_end_27 ⟨n, (by first | rfl | assumption | exact (sel_t (by omega)).symm | exact (sel_f (by omega)).symm | omega), (by first | rfl | exact (sel_t (by omega)).symm | exact (sel_f (by omega)).symm | omega), hX⟩
  · refine r_const C dX0_end_14 ?_
    rw [← hQQ]
    exact r_iret C hS (Nat.le_of_ble_eq_true rfl) (Nat.le_of_ble_eq_true rfl) dX0_end_15 ⟨(F 46), (by first | rfl | assumption | exact (sel_t (by omega)).symm | exact (sel_f (by omega)).symm | omega), (by first | rfl | exact (sel_t (by omega)).symm | exact (sel_f (by omega)).symm | omega), (hX.to rfl ((up_id F (k := 46) (a := (F 46)) rfl).symm.trans rfl) rfl rfl rfl)⟩

theorem hd_X3_size : yX3_size.cls = RX3 ∧ yX3_size.cls ≠ "java/lang/invoke/MethodHandle" ∧ yX3_size.cls ≠ "java/lang/invoke/VarHandle" ∧ (parseMethodDescriptor yX3_size.desc).map (fun d => d.parameters.length) = some 0 := by decide +kernel
abbrev rm_X3_size : Room := { frames := 0, cells := 0, slots := 0, locals := 0 }
set_option maxHeartbeats 8000000 in
theorem met_X3_size (l : Launch) (E : us_E) (A : Nat → Prop) (B : Nat → Int → Nat) (F : Nat → Int) (M : Nat → Int → Int) (G : Nat → Int → Option Nat) (T : x_T) (t : Int) (ht : 0 ≤ t ∧ t < F 6) : cMet l yX3_size cX3_size 1 (some .int) rm_X3_size A E [.ref (B 55 t)] (fun H => XH E A B F M G T H) (qi A (fun r H => (0 ≤ M 200 t ∧ M 200 t ≤ 24) ∧ (r = M 200 t) ∧ XH E A B F M G T H)) := by
  refine cMet.of (by decide) (Nat.le_of_ble_eq_true rfl) (fun p e s m args below meth c C hnm hX hS ls hl => ?_)
  have C : Cx p s m args meth c A RX3 cX3_size 1 (some .int) E := C
  have hX : XH E A B F M G T s.heap := hX
  have hl : lv_has ls 1 [(0, .ref (B 55 t))] := hl
  generalize hH : s.heap = H at hX
  have hS : va_S A s.heap H [] := by rw [← hH]; exact hS
  generalize hlocs : ([] : List Loc) = locs at hS ⊢
  obtain ⟨QQ, hQQ⟩ : ∃ z, MQ below (qi A (fun r H => (0 ≤ M 200 t ∧ M 200 t ≤ 24) ∧ (r = M 200 t) ∧ XH E A B F M G T H)) args s (rm_X3_size).cells (rm_X3_size).slots A = z := ⟨_, rfl⟩
  rw [hQQ]
  refine lv_aload_n C.x C.b dX3_size_0 rfl (lv_at hl 0 rfl) ?_
  refine x_go C hX 55 (by decide) (show 0 ≤ t ∧ t < F 6 from (by omega)).1 (xK_55 (show 0 ≤ t ∧ t < F 6 from (by omega))) rfl in_X3 0 (by decide) q999 (fun _ h => h) (.ref (B 56 t)) rfl dX3_size_1 ?_
  have rl4 : 0 ≤ M 200 t ∧ M 200 t ≤ 24 := hX.2.2.1 200 (0, 24) rfl _
  refine x_len C hX 56 (i := t) rfl rfl (xpr_56 (show 0 ≤ t ∧ t < F 6 from (by omega))) (by decide) (show 0 ≤ t ∧ t < F 6 from (by omega)).1 rfl (M 200 t) (by omega) dX3_size_4 ?_
  rw [← hQQ]
  exact r_iret C hS (Nat.le_of_ble_eq_true rfl) (Nat.le_of_ble_eq_true rfl) dX3_size_5 ⟨(by first | rfl | assumption | exact (sel_t (by omega)).symm | exact (sel_f (by omega)).symm | omega), (by first | rfl | exact (sel_t (by omega)).symm | exact (sel_f (by omega)).symm | omega), hX⟩

theorem hd_X3_endOf : yX3_endOf.cls = RX3 ∧ yX3_endOf.cls ≠ "java/lang/invoke/MethodHandle" ∧ yX3_endOf.cls ≠ "java/lang/invoke/VarHandle" ∧ (parseMethodDescriptor yX3_endOf.desc).map (fun d => d.parameters.length) = some 1 := by decide +kernel
abbrev rm_X3_endOf : Room := { frames := 0, cells := 0, slots := 0, locals := 0 }
set_option maxHeartbeats 8000000 in
theorem met_X3_endOf (l : Launch) (E : us_E) (A : Nat → Prop) (B : Nat → Int → Nat) (F : Nat → Int) (M : Nat → Int → Int) (G : Nat → Int → Option Nat) (T : x_T) (t : Int) (f : Int) (ht : 0 ≤ t ∧ t < F 6) (hf : 0 ≤ f ∧ f < M 200 t) : cMet l yX3_endOf cX3_endOf 4 (some .int) rm_X3_endOf A E [.ref (B 55 t), .int (zi f)] (fun H => XH E A B F M G T H) (qi A (fun r H => (f ≤ sel (wb (mtc (M 56)) t f) (we (mtc (M 56)) (M 200) t f) f ∧ sel (wb (mtc (M 56)) t f) (we (mtc (M 56)) (M 200) t f) f ≤ M 200 t) ∧ (r = sel (wb (mtc (M 56)) t f) (we (mtc (M 56)) (M 200) t f) f) ∧ XH E A B F M G T H)) := by
  refine cMet.of (by decide) (Nat.le_of_ble_eq_true rfl) (fun p e s m args below meth c C hnm hX hS ls hl => ?_)
  have C : Cx p s m args meth c A RX3 cX3_endOf 4 (some .int) E := C
  have hX : XH E A B F M G T s.heap := hX
  have hl : lv_has ls 4 [(0, .ref (B 55 t)), (1, .int (zi f))] := hl
  generalize hH : s.heap = H at hX
  have hS : va_S A s.heap H [] := by rw [← hH]; exact hS
  generalize hlocs : ([] : List Loc) = locs at hS ⊢
  obtain ⟨QQ, hQQ⟩ : ∃ z, MQ below (qi A (fun r H => (f ≤ sel (wb (mtc (M 56)) t f) (we (mtc (M 56)) (M 200) t f) f ∧ sel (wb (mtc (M 56)) t f) (we (mtc (M 56)) (M 200) t f) f ≤ M 200 t) ∧ (r = sel (wb (mtc (M 56)) t f) (we (mtc (M 56)) (M 200) t f) f) ∧ XH E A B F M G T H)) args s (rm_X3_endOf).cells (rm_X3_endOf).slots A = z := ⟨_, rfl⟩
  rw [hQQ]
  have h24 : ∀ t, 0 ≤ M 200 t ∧ M 200 t ≤ 24 := fun t => hX.2.2.1 200 (0, 24) rfl t
  have hcl : ∀ q, -2 ≤ M 56 q ∧ M 56 q ≤ 23 := fun q => hX.2.2.1 56 (-2, 23) rfl q
  have hs3 : ∀ q, 0 ≤ M 3 q ∧ M 3 q ≤ 23 := fun q => hX.2.2.1 3 (0, 23) rfl q
  refine lv_aload_n C.x C.b dX3_endOf_0 rfl (lv_at hl 0 rfl) ?_
  refine x_go C hX 55 (by decide) (show 0 ≤ t ∧ t < F 6 from (by omega)).1 (xK_55 (show 0 ≤ t ∧ t < F 6 from (by omega))) rfl in_X3 0 (by decide) q999 (fun _ h => h) (.ref (B 56 t)) rfl dX3_endOf_1 ?_
  refine lv_iload_n C.x C.b dX3_endOf_4 rfl (lv_at hl 1 rfl) ?_
  have rl5 : 0 ≤ M 200 t ∧ M 200 t ≤ 24 := hX.2.2.1 200 (0, 24) rfl _
  refine x_ld C hX 56 (i := t) rfl rfl (xpr_56 (show 0 ≤ t ∧ t < F 6 from (by omega))) (by decide) (show 0 ≤ t ∧ t < F 6 from (by omega)).1 rfl (show 0 ≤ f ∧ f < (((M 200 t).toNat : Nat) : Int) from (by omega)) (by omega) (by omega) (M 56 (24 * t + f)) rfl dX3_endOf_5 (fun r5 => ?_)
  have r5 : -2 ≤ M 56 (24 * t + f) ∧ M 56 (24 * t + f) ≤ 23 := r5 (-2, 23) rfl
  refine r_bipush C (by decide) dX3_endOf_6 ?_
  have J33_1 : ∀ (t0 : Int) (ht0 : t0 = bI ((¬ ((M 56 (24 * t + f)) = (-2))) ∧ ((f = 0) ∨ ((M 56 (24 * t + (f - 1))) = (-2))))) (H : Heap) (locs : List Loc) (ls : Array Slot) (hX : XH E A B F M G T H) (hS : va_S A s.heap H locs) (hl : lv_has ls 4 [(0, .ref (B 55 t)), (1, .int (zi f))]), W p l e rm_X3_endOf s m args below meth c H locs 0 0 QQ (F0 m 33 ls [.int (zi t0)]) := by
    intro t0 ht0 H locs ls hX hS hl
    subst ht0
    refine lv_istore_n (lv' := [(2, .int (zi (bI ((¬ ((M 56 (24 * t + f)) = (-2))) ∧ ((f = 0) ∨ ((M 56 (24 * t + (f - 1))) = (-2))))))), (0, .ref (B 55 t)), (1, .int (zi f))]) C.x C.b dX3_endOf_33 rfl hl (by decide) rfl (fun ls hl => ?_)
    refine lv_iload_n C.x C.b dX3_endOf_34 rfl (lv_at hl 2 rfl) ?_
    refine lv_istore_n (lv' := [(3, .int (zi f)), (2, .int (zi (bI ((¬ ((M 56 (24 * t + f)) = (-2))) ∧ ((f = 0) ∨ ((M 56 (24 * t + (f - 1))) = (-2))))))), (0, .ref (B 55 t)), (1, .int (zi f))]) C.x C.b dX3_endOf_35 rfl hl (by decide) rfl (fun ls hl => ?_)
    have L36 : ∀ (fu : Nat) (v3 : Int) (h3 : f ≤ v3 ∧ v3 ≤ M 200 t) (hn : ∀ j : Int, f ≤ j → j < v3 → ¬ M 56 (24 * t + j) = -2) (hz : ¬ (¬ M 56 (24 * t + f) = -2 ∧ (f = 0 ∨ M 56 (24 * t + (f - 1)) = -2)) → v3 = f) (hm : Int.toNat (M 200 t - v3) < fu) (H : Heap) (locs : List Loc) (ls : Array Slot) (hX : XH E A B F M G T H) (hS : va_S A s.heap H locs) (hl : lv_has ls 4 [(0, .ref (B 55 t)), (1, .int (zi f)), (2, .int (zi (bI ((¬ ((M 56 (24 * t + f)) = (-2))) ∧ ((f = 0) ∨ ((M 56 (24 * t + (f - 1))) = (-2))))))), (3, .int (zi v3))]), W p l e rm_X3_endOf s m args below meth c H locs 0 0 QQ (F0 m 36 ls []) := by
      intro fu
      induction fu with
      | zero => intro v3 h3 hn hz hm; exact absurd hm (Nat.not_lt_zero _)
      | succ fu ih36 =>
        intro v3 h3 hn hz hm H locs ls hX hS hl
        refine lv_iload_n C.x C.b dX3_endOf_36 rfl (lv_at hl 2 rfl) ?_
        refine r_if_eq_b (tgt := 66) C dX3_endOf_37 (by decide) (fun c_2 => ?_) (fun c_2 => ?_)
        · refine lv_iload_n C.x C.b dX3_endOf_66 rfl (lv_at hl 3 rfl) ?_
          have hrr : v3 = sel (wb (mtc (M 56)) t f) (we (mtc (M 56)) (M 200) t f) f := by
            first
            | (rw [sel_f (show ¬ wb (mtc (M 56)) t f by assumption)]; exact hz (by assumption))
            | (rw [sel_t (show wb (mtc (M 56)) t f by assumption)]; exact (IsE.eq ⟨h3.1, h3.2, hn, by first | exact Or.inr (by assumption) | exact Or.inl (by omega)⟩).symm)
          rw [← hQQ]
          exact r_iret C hS (Nat.le_of_ble_eq_true rfl) (Nat.le_of_ble_eq_true rfl) dX3_endOf_67 ⟨(by rw [← hrr]; exact h3), hrr, hX⟩
        · refine lv_iload_n C.x C.b dX3_endOf_40 rfl (lv_at hl 3 rfl) ?_
          refine lv_aload_n C.x C.b dX3_endOf_41 rfl (lv_at hl 0 rfl) ?_
          refine x_go C hX 55 (by decide) (show 0 ≤ t ∧ t < F 6 from (by omega)).1 (xK_55 (show 0 ≤ t ∧ t < F 6 from (by omega))) rfl in_X3 0 (by decide) q999 (fun _ h => h) (.ref (B 56 t)) rfl dX3_endOf_42 ?_
          refine x_len C hX 56 (i := t) rfl rfl (xpr_56 (show 0 ≤ t ∧ t < F 6 from (by omega))) (by decide) (show 0 ≤ t ∧ t < F 6 from (by omega)).1 rfl (M 200 t) (by omega) dX3_endOf_45 ?_
          refine r_icmp_ge (tgt := 66) C (by omega) (by omega) dX3_endOf_46 (by decide) (fun c_3 => ?_) (fun c_3 => ?_)
          · refine lv_iload_n C.x C.b dX3_endOf_66 rfl (lv_at hl 3 rfl) ?_
            have hrr : v3 = sel (wb (mtc (M 56)) t f) (we (mtc (M 56)) (M 200) t f) f := by
              first
              | (rw [sel_f (show ¬ wb (mtc (M 56)) t f by assumption)]; exact hz (by assumption))
              | (rw [sel_t (show wb (mtc (M 56)) t f by assumption)]; exact (IsE.eq ⟨h3.1, h3.2, hn, by first | exact Or.inr (by assumption) | exact Or.inl (by omega)⟩).symm)
            rw [← hQQ]
            exact r_iret C hS (Nat.le_of_ble_eq_true rfl) (Nat.le_of_ble_eq_true rfl) dX3_endOf_67 ⟨(by rw [← hrr]; exact h3), hrr, hX⟩
          · refine lv_aload_n C.x C.b dX3_endOf_49 rfl (lv_at hl 0 rfl) ?_
            refine x_go C hX 55 (by decide) (show 0 ≤ t ∧ t < F 6 from (by omega)).1 (xK_55 (show 0 ≤ t ∧ t < F 6 from (by omega))) rfl in_X3 0 (by decide) q999 (fun _ h => h) (.ref (B 56 t)) rfl dX3_endOf_50 ?_
            refine lv_iload_n C.x C.b dX3_endOf_53 rfl (lv_at hl 3 rfl) ?_
            refine x_ld C hX 56 (i := t) rfl rfl (xpr_56 (show 0 ≤ t ∧ t < F 6 from (by omega))) (by decide) (show 0 ≤ t ∧ t < F 6 from (by omega)).1 rfl (show 0 ≤ v3 ∧ v3 < (((M 200 t).toNat : Nat) : Int) from (by omega)) (by omega) (by omega) (M 56 (24 * t + v3)) rfl dX3_endOf_54 (fun r54 => ?_)
            have r54 : -2 ≤ M 56 (24 * t + v3) ∧ M 56 (24 * t + v3) ≤ 23 := r54 (-2, 23) rfl
            refine r_bipush C (by decide) dX3_endOf_55 ?_
            refine r_icmp_eq (tgt := 66) C (by omega) (by decide) dX3_endOf_57 (by decide) (fun c_4 => ?_) (fun c_4 => ?_)
            · refine lv_iload_n C.x C.b dX3_endOf_66 rfl (lv_at hl 3 rfl) ?_
              have hrr : v3 = sel (wb (mtc (M 56)) t f) (we (mtc (M 56)) (M 200) t f) f := by
                first
                | (rw [sel_f (show ¬ wb (mtc (M 56)) t f by assumption)]; exact hz (by assumption))
                | (rw [sel_t (show wb (mtc (M 56)) t f by assumption)]; exact (IsE.eq ⟨h3.1, h3.2, hn, by first | exact Or.inr (by assumption) | exact Or.inl (by omega)⟩).symm)
              rw [← hQQ]
              exact r_iret C hS (Nat.le_of_ble_eq_true rfl) (Nat.le_of_ble_eq_true rfl) dX3_endOf_67 ⟨(by rw [← hrr]; exact h3), hrr, hX⟩
            · refine r_iinc (lv' := [(3, .int (zi (v3 + 1))), (0, .ref (B 55 t)), (1, .int (zi f)), (2, .int (zi (bI ((¬ ((M 56 (24 * t + f)) = (-2))) ∧ ((f = 0) ∨ ((M 56 (24 * t + (f - 1))) = (-2)))))))]) C dX3_endOf_60 hl (k := 3) rfl (by decide) rfl (fun ls hl => ?_)
              refine lv_goto (tgt := 36) C.x C.b dX3_endOf_63 (by decide) ?_
              exact ih36 (v3 + 1) (by omega) (fun j a b => by rcases Int.lt_or_le j v3 with z | z; exact hn j a z; rw [show j = v3 by omega]; assumption) (fun q => absurd (by assumption) q) (by omega) H locs ls hX hS (lv_sub hl [1, 2, 3, 0] rfl)
    exact L36 _ f (by omega) (fun j a b => absurd a (by omega)) (fun _ => rfl) (Nat.lt_succ_self _) H locs ls hX hS (lv_sub hl [2, 3, 1, 0] rfl)
  refine r_icmp_eq (tgt := 32) C (by omega) (by decide) dX3_endOf_8 (by decide) (fun c_5 => ?_) (fun c_5 => ?_)
  · refine r_const C dX3_endOf_32 ?_
    exact J33_1 0 ((bI_f (fun q => (fun q => q c_5) q.1)).symm) H locs ls hX hS hl
  · refine lv_iload_n C.x C.b dX3_endOf_11 rfl (lv_at hl 1 rfl) ?_
    refine r_if_eq (tgt := 28) C (by omega) dX3_endOf_12 (by decide) (fun c_6 => ?_) (fun c_6 => ?_)
    · refine r_const C dX3_endOf_28 ?_
      refine lv_goto (tgt := 33) C.x C.b dX3_endOf_29 (by decide) ?_
      exact J33_1 1 ((bI_t ⟨c_5, (Or.inl c_6)⟩).symm) H locs ls hX hS hl
    · refine lv_aload_n C.x C.b dX3_endOf_15 rfl (lv_at hl 0 rfl) ?_
      refine x_go C hX 55 (by decide) (show 0 ≤ t ∧ t < F 6 from (by omega)).1 (xK_55 (show 0 ≤ t ∧ t < F 6 from (by omega))) rfl in_X3 0 (by decide) q999 (fun _ h => h) (.ref (B 56 t)) rfl dX3_endOf_16 ?_
      refine lv_iload_n C.x C.b dX3_endOf_19 rfl (lv_at hl 1 rfl) ?_
      refine r_const C dX3_endOf_20 ?_
      refine r_isub C dX3_endOf_21 ?_
      refine x_ld C hX 56 (i := t) rfl rfl (xpr_56 (show 0 ≤ t ∧ t < F 6 from (by omega))) (by decide) (show 0 ≤ t ∧ t < F 6 from (by omega)).1 rfl (show 0 ≤ (f - 1) ∧ (f - 1) < (((M 200 t).toNat : Nat) : Int) from (by omega)) (by omega) (by omega) (M 56 (24 * t + (f - 1))) rfl dX3_endOf_22 (fun r22 => ?_)
      have r22 : -2 ≤ M 56 (24 * t + (f - 1)) ∧ M 56 (24 * t + (f - 1)) ≤ 23 := r22 (-2, 23) rfl
      refine r_bipush C (by decide) dX3_endOf_23 ?_
      refine r_icmp_ne (tgt := 32) C (by omega) (by decide) dX3_endOf_25 (by decide) (fun c_7 => ?_) (fun c_7 => ?_)
      · refine r_const C dX3_endOf_32 ?_
        exact J33_1 0 ((bI_f (fun q => (fun q => q.elim c_6 c_7) q.2)).symm) H locs ls hX hS hl
      · refine r_const C dX3_endOf_28 ?_
        refine lv_goto (tgt := 33) C.x C.b dX3_endOf_29 (by decide) ?_
        exact J33_1 1 ((bI_t ⟨c_5, (Or.inr c_7)⟩).symm) H locs ls hX hS hl

theorem hd_X3_isWhole : yX3_isWhole.cls = RX3 ∧ yX3_isWhole.cls ≠ "java/lang/invoke/MethodHandle" ∧ yX3_isWhole.cls ≠ "java/lang/invoke/VarHandle" ∧ (parseMethodDescriptor yX3_isWhole.desc).map (fun d => d.parameters.length) = some 2 := by decide +kernel
abbrev rm_X3_isWhole : Room := { frames := 0, cells := 0, slots := 0, locals := 0 }
set_option maxHeartbeats 8000000 in
theorem met_X3_isWhole (l : Launch) (E : us_E) (A : Nat → Prop) (B : Nat → Int → Nat) (F : Nat → Int) (M : Nat → Int → Int) (G : Nat → Int → Option Nat) (T : x_T) (t : Int) (a : Int) (b : Int) (ht : 0 ≤ t ∧ t < F 6) (hab : 0 ≤ a ∧ a ≤ b ∧ b ≤ M 200 t) : cMet l yX3_isWhole cX3_isWhole 5 (some .boolean) rm_X3_isWhole A E [.ref (B 55 t), .int (zi a), .int (zi b)] (fun H => XH E A B F M G T H) (qi A (fun r H => (r = bI (a < b ∧ ∀ j : Int, a ≤ j → j < b → ¬ M 56 (24 * t + j) < 0)) ∧ XH E A B F M G T H)) := by
  refine cMet.of (by decide) (Nat.le_of_ble_eq_true rfl) (fun p e s m args below meth c C hnm hX hS ls hl => ?_)
  have C : Cx p s m args meth c A RX3 cX3_isWhole 5 (some .boolean) E := C
  have hX : XH E A B F M G T s.heap := hX
  have hl : lv_has ls 5 [(0, .ref (B 55 t)), (1, .int (zi a)), (2, .int (zi b))] := hl
  generalize hH : s.heap = H at hX
  have hS : va_S A s.heap H [] := by rw [← hH]; exact hS
  generalize hlocs : ([] : List Loc) = locs at hS ⊢
  obtain ⟨QQ, hQQ⟩ : ∃ z, MQ below (qi A (fun r H => (r = bI (a < b ∧ ∀ j : Int, a ≤ j → j < b → ¬ M 56 (24 * t + j) < 0)) ∧ XH E A B F M G T H)) args s (rm_X3_isWhole).cells (rm_X3_isWhole).slots A = z := ⟨_, rfl⟩
  rw [hQQ]
  have h24 : ∀ t, 0 ≤ M 200 t ∧ M 200 t ≤ 24 := fun t => hX.2.2.1 200 (0, 24) rfl t
  have hcl : ∀ q, -2 ≤ M 56 q ∧ M 56 q ≤ 23 := fun q => hX.2.2.1 56 (-2, 23) rfl q
  have hs3 : ∀ q, 0 ≤ M 3 q ∧ M 3 q ≤ 23 := fun q => hX.2.2.1 3 (0, 23) rfl q
  have h24t := h24 t
  refine lv_iload_n C.x C.b dX3_isWhole_0 rfl (lv_at hl 2 rfl) ?_
  refine lv_iload_n C.x C.b dX3_isWhole_1 rfl (lv_at hl 1 rfl) ?_
  have J10_1 : ∀ (t0 : Int) (ht0 : t0 = bI (a < b)) (H : Heap) (locs : List Loc) (ls : Array Slot) (hX : XH E A B F M G T H) (hS : va_S A s.heap H locs) (hl : lv_has ls 5 [(0, .ref (B 55 t)), (1, .int (zi a)), (2, .int (zi b))]), W p l e rm_X3_isWhole s m args below meth c H locs 0 0 QQ (F0 m 10 ls [.int (zi t0)]) := by
    intro t0 ht0 H locs ls hX hS hl
    subst ht0
    refine lv_istore_n (lv' := [(3, .int (zi (bI (a < b)))), (0, .ref (B 55 t)), (1, .int (zi a)), (2, .int (zi b))]) C.x C.b dX3_isWhole_10 rfl hl (by decide) rfl (fun ls hl => ?_)
    refine lv_iload_n C.x C.b dX3_isWhole_11 rfl (lv_at hl 2 rfl) ?_
    refine lv_istore (lv' := [(4, .int (zi a)), (3, .int (zi (bI (a < b)))), (0, .ref (B 55 t)), (1, .int (zi a)), (2, .int (zi b))]) C.x C.b dX3_isWhole_12 hl (by decide) rfl (fun ls hl => ?_)
    have L14 : ∀ (fu : Nat) (v3 : Prop) (xv3 : Int) (hv3 : xv3 = bI v3) (v4 : Int) (h4 : a ≤ v4 ∧ v4 ≤ b) (hu : v3 ↔ (a < b ∧ ∀ j : Int, a ≤ j → j < v4 → ¬ M 56 (24 * t + j) < 0)) (hm : Int.toNat (b - v4) < fu) (H : Heap) (locs : List Loc) (ls : Array Slot) (hX : XH E A B F M G T H) (hS : va_S A s.heap H locs) (hl : lv_has ls 5 [(0, .ref (B 55 t)), (1, .int (zi a)), (2, .int (zi b)), (3, .int (zi xv3)), (4, .int (zi v4))]), W p l e rm_X3_isWhole s m args below meth c H locs 0 0 QQ (F0 m 14 ls []) := by
      intro fu
      induction fu with
      | zero => intro v3 xv3 hv3 v4 h4 hu hm; exact absurd hm (Nat.not_lt_zero _)
      | succ fu ih14 =>
        intro v3 xv3 hv3 v4 h4 hu hm H locs ls hX hS hl
        subst hv3
        refine lv_iload C.x C.b dX3_isWhole_14 (lv_at hl 4 rfl) ?_
        refine lv_iload_n C.x C.b dX3_isWhole_16 rfl (lv_at hl 2 rfl) ?_
        refine r_icmp_ge (tgt := 46) C (by omega) (by omega) dX3_isWhole_17 (by decide) (fun c_2 => ?_) (fun c_2 => ?_)
        · refine lv_iload_n C.x C.b dX3_isWhole_46 rfl (lv_at hl 3 rfl) ?_
          rw [← hQQ]
          exact r_zret C (bI_e _) hS (Nat.le_of_ble_eq_true rfl) (Nat.le_of_ble_eq_true rfl) dX3_isWhole_47 ⟨(bI_c (by rw [hu, show v4 = b by omega])), hX⟩
        · refine lv_iload_n C.x C.b dX3_isWhole_20 rfl (lv_at hl 3 rfl) ?_
          have J39_3 : ∀ (t0 : Int) (ht0 : t0 = bI (v3 ∧ (¬ ((M 56 (24 * t + v4)) < 0)))) (H : Heap) (locs : List Loc) (ls : Array Slot) (hX : XH E A B F M G T H) (hS : va_S A s.heap H locs) (hl : lv_has ls 5 [(0, .ref (B 55 t)), (1, .int (zi a)), (2, .int (zi b)), (3, .int (zi (bI v3))), (4, .int (zi v4))]), W p l e rm_X3_isWhole s m args below meth c H locs 0 0 QQ (F0 m 39 ls [.int (zi t0)]) := by
            intro t0 ht0 H locs ls hX hS hl
            subst ht0
            refine lv_istore_n (lv' := [(3, .int (zi (bI (v3 ∧ (¬ ((M 56 (24 * t + v4)) < 0)))))), (0, .ref (B 55 t)), (1, .int (zi a)), (2, .int (zi b)), (4, .int (zi v4))]) C.x C.b dX3_isWhole_39 rfl hl (by decide) rfl (fun ls hl => ?_)
            refine r_iinc (lv' := [(4, .int (zi (v4 + 1))), (3, .int (zi (bI (v3 ∧ (¬ ((M 56 (24 * t + v4)) < 0)))))), (0, .ref (B 55 t)), (1, .int (zi a)), (2, .int (zi b))]) C dX3_isWhole_40 hl (k := 4) rfl (by decide) rfl (fun ls hl => ?_)
            refine lv_goto (tgt := 14) C.x C.b dX3_isWhole_43 (by decide) ?_
            exact ih14 (v3 ∧ (¬ ((M 56 (24 * t + v4)) < 0))) (bI (v3 ∧ (¬ ((M 56 (24 * t + v4)) < 0)))) rfl (v4 + 1) (by omega) (br_st (P := fun j => ¬ M 56 (24 * t + j) < 0) h4.1 hu) (by omega) H locs ls hX hS (lv_sub hl [2, 3, 4, 1, 0] rfl)
          refine r_if_eq_b (tgt := 38) C dX3_isWhole_21 (by decide) (fun c_4 => ?_) (fun c_4 => ?_)
          · refine r_const C dX3_isWhole_38 ?_
            exact J39_3 0 ((bI_f (fun q => c_4 q.1)).symm) H locs ls hX hS hl
          · refine lv_aload_n C.x C.b dX3_isWhole_24 rfl (lv_at hl 0 rfl) ?_
            refine x_go C hX 55 (by decide) (show 0 ≤ t ∧ t < F 6 from (by omega)).1 (xK_55 (show 0 ≤ t ∧ t < F 6 from (by omega))) rfl in_X3 0 (by decide) q999 (fun _ h => h) (.ref (B 56 t)) rfl dX3_isWhole_25 ?_
            refine lv_iload C.x C.b dX3_isWhole_28 (lv_at hl 4 rfl) ?_
            have rl30 : 0 ≤ M 200 t ∧ M 200 t ≤ 24 := hX.2.2.1 200 (0, 24) rfl _
            refine x_ld C hX 56 (i := t) rfl rfl (xpr_56 (show 0 ≤ t ∧ t < F 6 from (by omega))) (by decide) (show 0 ≤ t ∧ t < F 6 from (by omega)).1 rfl (show 0 ≤ v4 ∧ v4 < (((M 200 t).toNat : Nat) : Int) from (by omega)) (by omega) (by omega) (M 56 (24 * t + v4)) rfl dX3_isWhole_30 (fun r30 => ?_)
            have r30 : -2 ≤ M 56 (24 * t + v4) ∧ M 56 (24 * t + v4) ≤ 23 := r30 (-2, 23) rfl
            refine r_if_lt (tgt := 38) C (by omega) dX3_isWhole_31 (by decide) (fun c_5 => ?_) (fun c_5 => ?_)
            · refine r_const C dX3_isWhole_38 ?_
              exact J39_3 0 ((bI_f (fun q => (fun q => q c_5) q.2)).symm) H locs ls hX hS hl
            · refine r_const C dX3_isWhole_34 ?_
              refine lv_goto (tgt := 39) C.x C.b dX3_isWhole_35 (by decide) ?_
              exact J39_3 1 ((bI_t ⟨c_4, c_5⟩).symm) H locs ls hX hS hl
    exact L14 _ (a < b) (bI (a < b)) rfl a (by omega) br_0 (Nat.lt_succ_self _) H locs ls hX hS (lv_sub hl [2, 3, 4, 1, 0] rfl)
  refine r_icmp_le (tgt := 9) C (by omega) (by omega) dX3_isWhole_2 (by decide) (fun c_6 => ?_) (fun c_6 => ?_)
  · refine r_const C dX3_isWhole_9 ?_
    exact J10_1 0 ((bI_f c_6).symm) H locs ls hX hS hl
  · refine r_const C dX3_isWhole_5 ?_
    refine lv_goto (tgt := 10) C.x C.b dX3_isWhole_6 (by decide) ?_
    exact J10_1 1 ((bI_t c_6).symm) H locs ls hX hS hl

theorem hd_X0_signAt : yX0_signAt.cls = RX0 ∧ yX0_signAt.cls ≠ "java/lang/invoke/MethodHandle" ∧ yX0_signAt.cls ≠ "java/lang/invoke/VarHandle" ∧ (parseMethodDescriptor yX0_signAt.desc).map (fun d => d.parameters.length) = some 2 := by decide +kernel
abbrev rm_X0_signAt : Room := { frames := 0, cells := 0, slots := 0, locals := 0 }
set_option maxHeartbeats 8000000 in
theorem met_X0_signAt (l : Launch) (E : us_E) (A : Nat → Prop) (B : Nat → Int → Nat) (F : Nat → Int) (M : Nat → Int → Int) (G : Nat → Int → Option Nat) (T : x_T) (t : Int) (i : Int) (ht : 0 ≤ t ∧ t < F 6) (hi : 0 ≤ i ∧ i < M 200 t) : cMet l yX0_signAt cX0_signAt 3 (some .int) rm_X0_signAt A E [.ref (B 49 0), .ref (B 55 t), .int (zi i)] (fun H => XH E A B F M G T H) (qi A (fun r H => (-2 ≤ sa (M 3) (M 56 (24 * t + i)) ∧ sa (M 3) (M 56 (24 * t + i)) ≤ 23) ∧ (r = sa (M 3) (M 56 (24 * t + i))) ∧ XH E A B F M G T H)) := by
  refine cMet.of (by decide) (Nat.le_of_ble_eq_true rfl) (fun p e s m args below meth c C hnm hX hS ls hl => ?_)
  have C : Cx p s m args meth c A RX0 cX0_signAt 3 (some .int) E := C
  have hX : XH E A B F M G T s.heap := hX
  have hl : lv_has ls 3 [(0, .ref (B 49 0)), (1, .ref (B 55 t)), (2, .int (zi i))] := hl
  generalize hH : s.heap = H at hX
  have hS : va_S A s.heap H [] := by rw [← hH]; exact hS
  generalize hlocs : ([] : List Loc) = locs at hS ⊢
  obtain ⟨QQ, hQQ⟩ : ∃ z, MQ below (qi A (fun r H => (-2 ≤ sa (M 3) (M 56 (24 * t + i)) ∧ sa (M 3) (M 56 (24 * t + i)) ≤ 23) ∧ (r = sa (M 3) (M 56 (24 * t + i))) ∧ XH E A B F M G T H)) args s (rm_X0_signAt).cells (rm_X0_signAt).slots A = z := ⟨_, rfl⟩
  rw [hQQ]
  have h24 : ∀ t, 0 ≤ M 200 t ∧ M 200 t ≤ 24 := fun t => hX.2.2.1 200 (0, 24) rfl t
  have hcl : ∀ q, -2 ≤ M 56 q ∧ M 56 q ≤ 23 := fun q => hX.2.2.1 56 (-2, 23) rfl q
  have hs3 : ∀ q, 0 ≤ M 3 q ∧ M 3 q ≤ 23 := fun q => hX.2.2.1 3 (0, 23) rfl q
  have r10 := hcl (24 * t + i)
  have r25 := hs3 (M 56 (24 * t + i))
  have hat := sa_r (sg := M 3) r10.1 r10.2 r25
  refine lv_aload_n C.x C.b dX0_signAt_0 rfl (lv_at hl 1 rfl) ?_
  refine x_goN C hX 55 (by decide) (show 0 ≤ t ∧ t < F 6 from (by omega)).1 (xK_55 (show 0 ≤ t ∧ t < F 6 from (by omega))) rfl in_X3 0 (by decide) (List.mem_of_getElem? (i := 9) rfl) (fun _ h => h) (.ref (B 56 t)) rfl dX0_signAt_1 ?_
  refine lv_iload_n C.x C.b dX0_signAt_4 rfl (lv_at hl 2 rfl) ?_
  have rl5 : 0 ≤ M 200 t ∧ M 200 t ≤ 24 := hX.2.2.1 200 (0, 24) rfl _
  refine x_ld C hX 56 (i := t) rfl rfl (xpr_56 (show 0 ≤ t ∧ t < F 6 from (by omega))) (by decide) (show 0 ≤ t ∧ t < F 6 from (by omega)).1 rfl (show 0 ≤ i ∧ i < (((M 200 t).toNat : Nat) : Int) from (by omega)) (by omega) (by omega) (M 56 (24 * t + i)) rfl dX0_signAt_5 (fun r5 => ?_)
  have r5 : -2 ≤ M 56 (24 * t + i) ∧ M 56 (24 * t + i) ≤ 23 := r5 (-2, 23) rfl
  have J29_1 : ∀ (t0 : Int) (ht0 : t0 = sel ((M 56 (24 * t + i)) < 0) (M 56 (24 * t + i)) (M 3 (M 56 (24 * t + i)))) (H : Heap) (locs : List Loc) (ls : Array Slot) (hX : XH E A B F M G T H) (hS : va_S A s.heap H locs) (hl : lv_has ls 3 [(0, .ref (B 49 0)), (1, .ref (B 55 t)), (2, .int (zi i))]), W p l e rm_X0_signAt s m args below meth c H locs 0 0 QQ (F0 m 29 ls [.int (zi t0)]) := by
    intro t0 ht0 H locs ls hX hS hl
    subst ht0
    rw [← hQQ]
    exact r_iret C hS (Nat.le_of_ble_eq_true rfl) (Nat.le_of_ble_eq_true rfl) dX0_signAt_29 ⟨(by first | rfl | assumption | exact (sel_t (by omega)).symm | exact (sel_f (by omega)).symm | omega), (by first | rfl | exact ht0), hX⟩
  refine r_if_ge (tgt := 18) C (by omega) dX0_signAt_6 (by decide) (fun c_2 => ?_) (fun c_2 => ?_)
  · refine lv_aload_n C.x C.b dX0_signAt_18 rfl (lv_at hl 0 rfl) ?_
    refine x_ga C hX 3 (by decide) rfl q739 (fun _ h => h) dX0_signAt_19 ?_
    refine lv_aload_n C.x C.b dX0_signAt_22 rfl (lv_at hl 1 rfl) ?_
    refine x_goN C hX 55 (by decide) (show 0 ≤ t ∧ t < F 6 from (by omega)).1 (xK_55 (show 0 ≤ t ∧ t < F 6 from (by omega))) rfl in_X3 0 (by decide) (List.mem_of_getElem? (i := 9) rfl) (fun _ h => h) (.ref (B 56 t)) rfl dX0_signAt_23 ?_
    refine lv_iload_n C.x C.b dX0_signAt_26 rfl (lv_at hl 2 rfl) ?_
    refine x_ld C hX 56 (i := t) rfl rfl (xpr_56 (show 0 ≤ t ∧ t < F 6 from (by omega))) (by decide) (show 0 ≤ t ∧ t < F 6 from (by omega)).1 rfl (show 0 ≤ i ∧ i < (((M 200 t).toNat : Nat) : Int) from (by omega)) (by omega) (by omega) (M 56 (24 * t + i)) rfl dX0_signAt_27 (fun _ => ?_)
    refine x_li1 C hX 3 rfl (by decide) rfl (show 0 ≤ (M 56 (24 * t + i)) ∧ (M 56 (24 * t + i)) < 24 from (by omega)) (by decide) (M 3 (M 56 (24 * t + i))) rfl dX0_signAt_28 (fun r28 => ?_)
    have r28 : 0 ≤ M 3 (M 56 (24 * t + i)) ∧ M 3 (M 56 (24 * t + i)) ≤ 23 := r28 (0, 23) rfl
    exact J29_1 (M 3 (M 56 (24 * t + i))) ((sel_f c_2).symm) H locs ls hX hS hl
  · refine lv_aload_n C.x C.b dX0_signAt_9 rfl (lv_at hl 1 rfl) ?_
    refine x_goN C hX 55 (by decide) (show 0 ≤ t ∧ t < F 6 from (by omega)).1 (xK_55 (show 0 ≤ t ∧ t < F 6 from (by omega))) rfl in_X3 0 (by decide) (List.mem_of_getElem? (i := 9) rfl) (fun _ h => h) (.ref (B 56 t)) rfl dX0_signAt_10 ?_
    refine lv_iload_n C.x C.b dX0_signAt_13 rfl (lv_at hl 2 rfl) ?_
    refine x_ld C hX 56 (i := t) rfl rfl (xpr_56 (show 0 ≤ t ∧ t < F 6 from (by omega))) (by decide) (show 0 ≤ t ∧ t < F 6 from (by omega)).1 rfl (show 0 ≤ i ∧ i < (((M 200 t).toNat : Nat) : Int) from (by omega)) (by omega) (by omega) (M 56 (24 * t + i)) rfl dX0_signAt_14 (fun _ => ?_)
    refine lv_goto (tgt := 29) C.x C.b dX0_signAt_15 (by decide) ?_
    exact J29_1 (M 56 (24 * t + i)) ((sel_t c_2).symm) H locs ls hX hS hl

theorem hd_X0_countOf : yX0_countOf.cls = RX0 ∧ yX0_countOf.cls ≠ "java/lang/invoke/MethodHandle" ∧ yX0_countOf.cls ≠ "java/lang/invoke/VarHandle" ∧ (parseMethodDescriptor yX0_countOf.desc).map (fun d => d.parameters.length) = some 1 := by decide +kernel
abbrev rm_X0_countOf : Room := { frames := 1, cells := 0, slots := 0, locals := 22 }
set_option maxHeartbeats 8000000 in
theorem met_X0_countOf (l : Launch) (E : us_E) (A : Nat → Prop) (B : Nat → Int → Nat) (F : Nat → Int) (M : Nat → Int → Int) (G : Nat → Int → Option Nat) (T : x_T) (k : Int) (hk : -2147483648 ≤ k ∧ k < 2147483648) : cMet l yX0_countOf cX0_countOf 5 (some .int) rm_X0_countOf A E [.ref (B 49 0), .int (zi k)] (fun H => XH E A B F M G T H) (qi A (fun r H => (0 ≤ cnt (M 3) (mtc (M 56)) (M 200) (F 6) k ∧ cnt (M 3) (mtc (M 56)) (M 200) (F 6) k ≤ 192) ∧ (r = cnt (M 3) (mtc (M 56)) (M 200) (F 6) k) ∧ XH E A B F M G T H)) := by
  refine cMet.of (by decide) (Nat.le_of_ble_eq_true rfl) (fun p e s m args below meth c C hnm hX hS ls hl => ?_)
  have C : Cx p s m args meth c A RX0 cX0_countOf 5 (some .int) E := C
  have hX : XH E A B F M G T s.heap := hX
  have hl : lv_has ls 5 [(0, .ref (B 49 0)), (1, .int (zi k))] := hl
  generalize hH : s.heap = H at hX
  have hS : va_S A s.heap H [] := by rw [← hH]; exact hS
  generalize hlocs : ([] : List Loc) = locs at hS ⊢
  obtain ⟨QQ, hQQ⟩ : ∃ z, MQ below (qi A (fun r H => (0 ≤ cnt (M 3) (mtc (M 56)) (M 200) (F 6) k ∧ cnt (M 3) (mtc (M 56)) (M 200) (F 6) k ≤ 192) ∧ (r = cnt (M 3) (mtc (M 56)) (M 200) (F 6) k) ∧ XH E A B F M G T H)) args s (rm_X0_countOf).cells (rm_X0_countOf).slots A = z := ⟨_, rfl⟩
  rw [hQQ]
  have rF6 : 0 ≤ F 6 ∧ F 6 ≤ 8 := hX.2.1 6 (0, 8) rfl
  have h24 : ∀ t, 0 ≤ M 200 t ∧ M 200 t ≤ 24 := fun t => hX.2.2.1 200 (0, 24) rfl t
  have hcl : ∀ q, -2 ≤ M 56 q ∧ M 56 q ≤ 23 := fun q => hX.2.2.1 56 (-2, 23) rfl q
  have hs3 : ∀ q, 0 ≤ M 3 q ∧ M 3 q ≤ 23 := fun q => hX.2.2.1 3 (0, 23) rfl q
  refine r_const C dX0_countOf_0 ?_
  refine lv_istore_n (lv' := [(2, .int (zi 0)), (0, .ref (B 49 0)), (1, .int (zi k))]) C.x C.b dX0_countOf_1 rfl hl (by decide) rfl (fun ls hl => ?_)
  refine r_const C dX0_countOf_2 ?_
  refine lv_istore_n (lv' := [(3, .int (zi 0)), (2, .int (zi 0)), (0, .ref (B 49 0)), (1, .int (zi k))]) C.x C.b dX0_countOf_3 rfl hl (by decide) rfl (fun ls hl => ?_)
  have L4 : ∀ (fu : Nat) (v2 : Int) (v3 : Int) (ht : 0 ≤ v3 ∧ v3 ≤ F 6) (ha : v2 = isum (fun t => isum (fun i => bI (sa (M 3) ((mtc (M 56)) t i) = k)) (M 200 t)) v3) (hm : Int.toNat (F 6 - v3) < fu) (H : Heap) (locs : List Loc) (ls : Array Slot) (hX : XH E A B F M G T H) (hS : va_S A s.heap H locs) (hl : lv_has ls 5 [(0, .ref (B 49 0)), (1, .int (zi k)), (2, .int (zi v2)), (3, .int (zi v3))]), W p l e rm_X0_countOf s m args below meth c H locs 0 0 QQ (F0 m 4 ls []) := by
    intro fu
    induction fu with
    | zero => intro v2 v3 ht ha hm; exact absurd hm (Nat.not_lt_zero _)
    | succ fu ih4 =>
      intro v2 v3 ht ha hm H locs ls hX hS hl
      refine lv_iload_n C.x C.b dX0_countOf_4 rfl (lv_at hl 3 rfl) ?_
      refine lv_aload_n C.x C.b dX0_countOf_5 rfl (lv_at hl 0 rfl) ?_
      refine x_gi C hX 6 (by decide) rfl q742 (fun _ h => h) (F 6) rfl (b := (0, 8)) rfl dX0_countOf_6 (fun _ => ?_)
      refine r_icmp_ge (tgt := 65) C (by omega) (by omega) dX0_countOf_9 (by decide) (fun c_1 => ?_) (fun c_1 => ?_)
      · refine lv_iload_n C.x C.b dX0_countOf_65 rfl (lv_at hl 2 rfl) ?_
        rw [← hQQ]
        exact r_iret C hS (Nat.le_of_ble_eq_true rfl) (Nat.le_of_ble_eq_true rfl) dX0_countOf_66 ⟨(cnt_r rF6 h24), (by rw [ha, show v3 = F 6 by omega]; rfl), hX⟩
      · refine r_const C dX0_countOf_12 ?_
        refine lv_istore (lv' := [(4, .int (zi 0)), (0, .ref (B 49 0)), (1, .int (zi k)), (2, .int (zi v2)), (3, .int (zi v3))]) C.x C.b dX0_countOf_13 hl (by decide) rfl (fun ls hl => ?_)
        have L15 : ∀ (fu : Nat) (v2 : Int) (v4 : Int) (hi : 0 ≤ v4 ∧ v4 ≤ M 200 v3) (hb : v2 = isum (fun t => isum (fun i => bI (sa (M 3) ((mtc (M 56)) t i) = k)) (M 200 t)) v3 + isum (fun i => bI (sa (M 3) ((mtc (M 56)) v3 i) = k)) v4) (hm : Int.toNat (M 200 v3 - v4) < fu) (H : Heap) (locs : List Loc) (ls : Array Slot) (hX : XH E A B F M G T H) (hS : va_S A s.heap H locs) (hl : lv_has ls 5 [(0, .ref (B 49 0)), (1, .int (zi k)), (2, .int (zi v2)), (3, .int (zi v3)), (4, .int (zi v4))]), W p l e rm_X0_countOf s m args below meth c H locs 0 0 QQ (F0 m 15 ls []) := by
          intro fu
          induction fu with
          | zero => intro v2 v4 hi hb hm; exact absurd hm (Nat.not_lt_zero _)
          | succ fu ih15 =>
            intro v2 v4 hi hb hm H locs ls hX hS hl
            refine lv_iload C.x C.b dX0_countOf_15 (lv_at hl 4 rfl) ?_
            refine lv_aload_n C.x C.b dX0_countOf_17 rfl (lv_at hl 0 rfl) ?_
            refine x_ga C hX 5 (by decide) rfl q741 (fun _ h => h) dX0_countOf_18 ?_
            refine lv_iload_n C.x C.b dX0_countOf_21 rfl (lv_at hl 3 rfl) ?_
            refine x_la C hX 5 rfl rfl rfl (by decide) rfl rfl (show 0 ≤ v3 ∧ v3 < F 6 from (by omega)) (by omega) (by decide) dX0_countOf_22 ?_
            refine r_callVi (As := []) (rest := [.int (zi v4)]) (cells' := 0) (slots' := 0) C (met_X3_size l E A B F M G T v3 (show 0 ≤ v3 ∧ v3 < (F 6) from (by omega))) (lw_V q174 q175 q176 q98 q177) hd_X3_size rfl (by decide) (x_recv C hX (f := 55) (i := v3) (by decide) (show 0 ≤ v3 ∧ v3 < F 6 from (by omega)).1 (xK_55 (show 0 ≤ v3 ∧ v3 < F 6 from (by omega))) (q := (RX3, TX3, 1)) rfl) hX hS hl.1 rfl (Nat.le_of_ble_eq_true rfl) dX0_countOf_23 rfl rfl ⟨Nat.le_of_ble_eq_true rfl, Nat.le_of_ble_eq_true rfl⟩ (fun rr H locs hp hS => ?_)
            obtain ⟨hsz, hrr, hX⟩ := hp
            have hrr : rr = (M 200) v3 := hrr
            subst hrr
            replace hsz : 0 ≤ (M 200) v3 ∧ (M 200) v3 ≤ 24 := hsz
            refine r_icmp_ge (tgt := 59) C (by omega) (by omega) dX0_countOf_26 (by decide) (fun c_2 => ?_) (fun c_2 => ?_)
            · refine r_iinc (lv' := [(3, .int (zi (v3 + 1))), (0, .ref (B 49 0)), (1, .int (zi k)), (2, .int (zi v2)), (4, .int (zi v4))]) C dX0_countOf_59 hl (k := 3) rfl (by decide) rfl (fun ls hl => ?_)
              refine lv_goto (tgt := 4) C.x C.b dX0_countOf_62 (by decide) ?_
              exact ih4 v2 (v3 + 1) (by omega) (isum_out (f := fun i => bI (sa (M 3) ((mtc (M 56)) v3 i) = k)) (N := M 200 v3) (by omega) hb (by omega) rfl) (by omega) H locs ls hX hS (lv_sub hl [1, 2, 3, 0] rfl)
            · refine lv_iload_n C.x C.b dX0_countOf_29 rfl (lv_at hl 2 rfl) ?_
              refine lv_aload_n C.x C.b dX0_countOf_30 rfl (lv_at hl 0 rfl) ?_
              refine lv_aload_n C.x C.b dX0_countOf_31 rfl (lv_at hl 0 rfl) ?_
              refine x_ga C hX 5 (by decide) rfl q741 (fun _ h => h) dX0_countOf_32 ?_
              refine lv_iload_n C.x C.b dX0_countOf_35 rfl (lv_at hl 3 rfl) ?_
              refine x_la C hX 5 rfl rfl rfl (by decide) rfl rfl (show 0 ≤ v3 ∧ v3 < F 6 from (by omega)) (by omega) (by decide) dX0_countOf_36 ?_
              refine lv_iload C.x C.b dX0_countOf_37 (lv_at hl 4 rfl) ?_
              refine r_callVi (As := [.ref (B 55 v3), .int (zi v4)]) (rest := [.int (zi v2)]) (cells' := 0) (slots' := 0) C (met_X0_signAt l E A B F M G T v3 v4 (show 0 ≤ v3 ∧ v3 < (F 6) from (by omega)) (show 0 ≤ v4 ∧ v4 < (M 200) v3 from (by omega))) (lw_V q178 q180 qs6 q86 q181) hd_X0_signAt rfl (by decide) (x_this C hX) hX hS hl.1 rfl (Nat.le_of_ble_eq_true rfl) dX0_countOf_39 rfl rfl ⟨Nat.le_of_ble_eq_true rfl, Nat.le_of_ble_eq_true rfl⟩ (fun rr H locs hp hS => ?_)
              obtain ⟨hat, hrr, hX⟩ := hp
              have hrr : rr = sa ((M 3)) ((M 56) (24 * v3 + v4)) := hrr
              subst hrr
              replace hat : -2 ≤ sa ((M 3)) ((M 56) (24 * v3 + v4)) ∧ sa ((M 3)) ((M 56) (24 * v3 + v4)) ≤ 23 := hat
              refine lv_iload_n C.x C.b dX0_countOf_42 rfl (lv_at hl 1 rfl) ?_
              have J51_3 : ∀ (t1 : Int) (ht1 : t1 = bI ((sa ((M 3)) ((M 56) (24 * v3 + v4))) = k)) (H : Heap) (locs : List Loc) (ls : Array Slot) (hX : XH E A B F M G T H) (hS : va_S A s.heap H locs) (hl : lv_has ls 5 [(0, .ref (B 49 0)), (1, .int (zi k)), (2, .int (zi v2)), (3, .int (zi v3)), (4, .int (zi v4))]), W p l e rm_X0_countOf s m args below meth c H locs 0 0 QQ (F0 m 51 ls [.int (zi t1), .int (zi v2)]) := by
                intro t1 ht1 H locs ls hX hS hl
                subst ht1
                refine r_iadd C dX0_countOf_51 ?_
                refine lv_istore_n (lv' := [(2, .int (zi (v2 + (bI ((sa ((M 3)) ((M 56) (24 * v3 + v4))) = k))))), (0, .ref (B 49 0)), (1, .int (zi k)), (3, .int (zi v3)), (4, .int (zi v4))]) C.x C.b dX0_countOf_52 rfl hl (by decide) rfl (fun ls hl => ?_)
                refine r_iinc (lv' := [(4, .int (zi (v4 + 1))), (2, .int (zi (v2 + (bI ((sa ((M 3)) ((M 56) (24 * v3 + v4))) = k))))), (0, .ref (B 49 0)), (1, .int (zi k)), (3, .int (zi v3))]) C dX0_countOf_53 hl (k := 4) rfl (by decide) rfl (fun ls hl => ?_)
                refine lv_goto (tgt := 15) C.x C.b dX0_countOf_56 (by decide) ?_
                exact ih15 (v2 + (bI ((sa ((M 3)) ((M 56) (24 * v3 + v4))) = k))) (v4 + 1) (by omega) (isum_st2 (by omega) hb rfl) (by omega) H locs ls hX hS (lv_sub hl [2, 3, 1, 4, 0] rfl)
              refine r_icmp_ne (tgt := 50) C (by omega) (by omega) dX0_countOf_43 (by decide) (fun c_4 => ?_) (fun c_4 => ?_)
              · refine r_const C dX0_countOf_50 ?_
                exact J51_3 0 ((bI_f c_4).symm) H locs ls hX hS hl
              · refine r_const C dX0_countOf_46 ?_
                refine lv_goto (tgt := 51) C.x C.b dX0_countOf_47 (by decide) ?_
                exact J51_3 1 ((bI_t c_4).symm) H locs ls hX hS hl
        have r5 := h24 v3
        exact L15 _ v2 0 (by omega) (by rw [ha]; exact (Int.add_zero _).symm) (Nat.lt_succ_self _) H locs ls hX hS (lv_sub hl [1, 2, 3, 4, 0] rfl)
  exact L4 _ 0 0 (by omega) rfl (Nat.lt_succ_self _) H locs ls hX hS (lv_sub hl [2, 3, 1, 0] rfl)

theorem hd_J0_bitCount : yJ0_bitCount.cls ≠ "java/lang/invoke/MethodHandle" ∧ yJ0_bitCount.cls ≠ "java/lang/invoke/VarHandle" ∧ (parseMethodDescriptor yJ0_bitCount.desc).map (fun d => d.parameters.length) = some 1 := by decide +kernel
abbrev rm_J0_bitCount : Room := { frames := 0, cells := 0, slots := 0, locals := 0 }
set_option maxHeartbeats 8000000 in
theorem met_J0_bitCount (l : Launch) (E : us_E) (A : Nat → Prop) (H0 : Heap) (v : Int) (hv : 0 ≤ v ∧ v < 16777216) : cMet l yJ0_bitCount cJ0_bitCount 1 (some .int) rm_J0_bitCount A E [.int (zi v)] (fun H => H = H0) (qi A (fun r H => (0 ≤ bits v ∧ bits v ≤ 24) ∧ (r = bits v) ∧ (H = H0))) := by
  refine cMet.of (by decide) (Nat.le_of_ble_eq_true rfl) (fun p e s m args below meth c C hnm hX hS ls hl => ?_)
  have C : Cx p s m args meth c A RJ0 cJ0_bitCount 1 (some .int) E := C
  have hX : s.heap = H0 := hX
  have hl : lv_has ls 1 [(0, .int (zi v))] := hl
  generalize hH : s.heap = H at hX
  have hS : va_S A s.heap H [] := by rw [← hH]; exact hS
  generalize hlocs : ([] : List Loc) = locs at hS ⊢
  obtain ⟨QQ, hQQ⟩ : ∃ z, MQ below (qi A (fun r H => (0 ≤ bits v ∧ bits v ≤ 24) ∧ (r = bits v) ∧ (H = H0))) args s (rm_J0_bitCount).cells (rm_J0_bitCount).slots A = z := ⟨_, rfl⟩
  rw [hQQ]
  refine lv_iload_n C.x C.b dJ0_bitCount_0 rfl (lv_at hl 0 rfl) ?_
  refine lv_iload_n C.x C.b dJ0_bitCount_1 rfl (lv_at hl 0 rfl) ?_
  refine r_const C dJ0_bitCount_2 ?_
  refine r_iushr (k := 1) C (by decide) (by omega) rfl dJ0_bitCount_3 ?_
  refine r_ldcw C 1431655765 (by decide) q145 dJ0_bitCount_4 ?_
  have hz1 : 0 ≤ nd (v / 2) 1431655765 ∧ nd (v / 2) 1431655765 ≤ v / 2 := nd_r (by omega)
  refine r_iand (v := nd (v / 2) 1431655765) C (zi_and (by omega) (by omega)) dJ0_bitCount_7 ?_
  refine r_isub C dJ0_bitCount_8 ?_
  refine lv_istore_n (lv' := [(0, .int (zi (v - (nd (v / 2) 1431655765))))]) C.x C.b dJ0_bitCount_9 rfl hl (by decide) rfl (fun ls hl => ?_)
  obtain ⟨na, hna⟩ : ∃ z : Int, z = v - (nd (v / 2) 1431655765) := ⟨_, rfl⟩
  rw [← hna] at hl
  have q1 := (bc_all hv hna rfl rfl rfl rfl).1
  refine lv_iload_n C.x C.b dJ0_bitCount_10 rfl (lv_at hl 0 rfl) ?_
  refine r_ldcw C 858993459 (by decide) q146 dJ0_bitCount_11 ?_
  refine r_iand (v := nd na 858993459) C (zi_and (by omega) (by omega)) dJ0_bitCount_14 ?_
  refine lv_iload_n C.x C.b dJ0_bitCount_15 rfl (lv_at hl 0 rfl) ?_
  refine r_const C dJ0_bitCount_16 ?_
  refine r_iushr (k := 2) C (by decide) (by omega) rfl dJ0_bitCount_17 ?_
  refine r_ldcw C 858993459 (by decide) q146 dJ0_bitCount_18 ?_
  refine r_iand (v := nd (na / 4) 858993459) C (zi_and (by omega) (by omega)) dJ0_bitCount_21 ?_
  refine r_iadd C dJ0_bitCount_22 ?_
  refine lv_istore_n (lv' := [(0, .int (zi ((nd na 858993459) + (nd (na / 4) 858993459))))]) C.x C.b dJ0_bitCount_23 rfl hl (by decide) rfl (fun ls hl => ?_)
  obtain ⟨nb, hnb⟩ : ∃ z : Int, z = (nd na 858993459) + (nd (na / 4) 858993459) := ⟨_, rfl⟩
  rw [← hnb] at hl
  have q2 := (bc_all hv hna hnb rfl rfl rfl).2.1
  refine lv_iload_n C.x C.b dJ0_bitCount_24 rfl (lv_at hl 0 rfl) ?_
  refine lv_iload_n C.x C.b dJ0_bitCount_25 rfl (lv_at hl 0 rfl) ?_
  refine r_const C dJ0_bitCount_26 ?_
  refine r_iushr (k := 4) C (by decide) (by omega) rfl dJ0_bitCount_27 ?_
  refine r_iadd C dJ0_bitCount_28 ?_
  refine r_ldcw C 252645135 (by decide) q147 dJ0_bitCount_29 ?_
  refine r_iand (v := nd (nb + (nb / 16)) 252645135) C (zi_and (by omega) (by omega)) dJ0_bitCount_32 ?_
  refine lv_istore_n (lv' := [(0, .int (zi (nd (nb + (nb / 16)) 252645135)))]) C.x C.b dJ0_bitCount_33 rfl hl (by decide) rfl (fun ls hl => ?_)
  obtain ⟨nc, hnc⟩ : ∃ z : Int, z = nd (nb + (nb / 16)) 252645135 := ⟨_, rfl⟩
  rw [← hnc] at hl
  have q3 := (bc_all hv hna hnb hnc rfl rfl).2.2.1
  refine lv_iload_n C.x C.b dJ0_bitCount_34 rfl (lv_at hl 0 rfl) ?_
  refine lv_iload_n C.x C.b dJ0_bitCount_35 rfl (lv_at hl 0 rfl) ?_
  refine r_bipush C (by decide) dJ0_bitCount_36 ?_
  refine r_iushr (k := 8) C (by decide) (by omega) rfl dJ0_bitCount_38 ?_
  refine r_iadd C dJ0_bitCount_39 ?_
  refine lv_istore_n (lv' := [(0, .int (zi (nc + (nc / 256))))]) C.x C.b dJ0_bitCount_40 rfl hl (by decide) rfl (fun ls hl => ?_)
  obtain ⟨ne, hne⟩ : ∃ z : Int, z = nc + (nc / 256) := ⟨_, rfl⟩
  rw [← hne] at hl
  have q4 := (bc_all hv hna hnb hnc hne rfl).2.2.2.1
  refine lv_iload_n C.x C.b dJ0_bitCount_41 rfl (lv_at hl 0 rfl) ?_
  refine lv_iload_n C.x C.b dJ0_bitCount_42 rfl (lv_at hl 0 rfl) ?_
  refine r_bipush C (by decide) dJ0_bitCount_43 ?_
  refine r_iushr (k := 16) C (by decide) (by omega) rfl dJ0_bitCount_45 ?_
  refine r_iadd C dJ0_bitCount_46 ?_
  refine lv_istore_n (lv' := [(0, .int (zi (ne + (ne / 65536))))]) C.x C.b dJ0_bitCount_47 rfl hl (by decide) rfl (fun ls hl => ?_)
  obtain ⟨nf, hnf⟩ : ∃ z : Int, z = ne + (ne / 65536) := ⟨_, rfl⟩
  rw [← hnf] at hl
  have q5 := (bc_all hv hna hnb hnc hne hnf).2.2.2.2
  refine lv_iload_n C.x C.b dJ0_bitCount_48 rfl (lv_at hl 0 rfl) ?_
  refine r_bipush C (by decide) dJ0_bitCount_49 ?_
  refine r_iand C (zi_and63 _) dJ0_bitCount_51 ?_
  rw [← hQQ]
  exact r_iret C hS (Nat.le_of_ble_eq_true rfl) (Nat.le_of_ble_eq_true rfl) dJ0_bitCount_52 ⟨(bits_r v), q5.2, hX⟩

theorem hd_X0_laySigns : yX0_laySigns.cls = RX0 ∧ yX0_laySigns.cls ≠ "java/lang/invoke/MethodHandle" ∧ yX0_laySigns.cls ≠ "java/lang/invoke/VarHandle" ∧ (parseMethodDescriptor yX0_laySigns.desc).map (fun d => d.parameters.length) = some 1 := by decide +kernel
abbrev rm_X0_laySigns : Room := { frames := 1, cells := 0, slots := 0, locals := 20 }
set_option maxHeartbeats 8000000 in
theorem met_X0_laySigns (l : Launch) (E : us_E) (A : Nat → Prop) (B : Nat → Int → Nat) (F : Nat → Int) (M : Nat → Int → Int) (G : Nat → Int → Option Nat) (T : x_T) (w : Int) (hw : 0 ≤ w ∧ w ≤ 24) : cMet l yX0_laySigns cX0_laySigns 5 (some .int) rm_X0_laySigns A E [.ref (B 49 0), .int (zi w)] (fun H => XH E A B F M G T H) (qi A (fun r H => ∃ m3 : Int → Int, SgOK (F 1) (M 0) w m3 ∧ (0 ≤ sgn_many (F 1) m3 ∧ sgn_many (F 1) m3 ≤ F 1) ∧ (r = sgn_many (F 1) m3) ∧ XH E A B F (va_up M 3 m3) G T H)) := by
  refine cMet.of (by decide) (Nat.le_of_ble_eq_true rfl) (fun p e s m args below meth c C hnm hX hS ls hl => ?_)
  have C : Cx p s m args meth c A RX0 cX0_laySigns 5 (some .int) E := C
  have hX : XH E A B F M G T s.heap := hX
  have hl : lv_has ls 5 [(0, .ref (B 49 0)), (1, .int (zi w))] := hl
  generalize hH : s.heap = H at hX
  have hS : va_S A s.heap H [] := by rw [← hH]; exact hS
  generalize hlocs : ([] : List Loc) = locs at hS ⊢
  obtain ⟨QQ, hQQ⟩ : ∃ z, MQ below (qi A (fun r H => ∃ m3 : Int → Int, SgOK (F 1) (M 0) w m3 ∧ (0 ≤ sgn_many (F 1) m3 ∧ sgn_many (F 1) m3 ≤ F 1) ∧ (r = sgn_many (F 1) m3) ∧ XH E A B F (va_up M 3 m3) G T H)) args s (rm_X0_laySigns).cells (rm_X0_laySigns).slots A = z := ⟨_, rfl⟩
  rw [hQQ]
  have rF1 : 0 ≤ F 1 ∧ F 1 ≤ 24 := hX.2.1 1 (0, 24) rfl
  have hft : ∀ j, 0 ≤ M 0 j ∧ M 0 j ≤ 4095 := fun j => hX.2.2.1 0 (0, 4095) rfl j
  refine r_const C dX0_laySigns_0 ?_
  refine lv_istore_n (lv' := [(2, .int (zi 0)), (0, .ref (B 49 0)), (1, .int (zi w))]) C.x C.b dX0_laySigns_1 rfl hl (by decide) rfl (fun ls hl => ?_)
  have L2 : ∀ (fu : Nat) (v2 : Int) (m3 : Int → Int) (h2 : 0 ≤ v2 ∧ v2 ≤ F 1) (h3 : ∀ j : Int, 0 ≤ j → j < v2 → m3 j = j) (hm : Int.toNat (F 1 - v2) < fu) (H : Heap) (locs : List Loc) (ls : Array Slot) (hX : XH E A B F (va_up M 3 m3) G T H) (hS : va_S A s.heap H locs) (hl : lv_has ls 5 [(0, .ref (B 49 0)), (1, .int (zi w)), (2, .int (zi v2))]), W p l e rm_X0_laySigns s m args below meth c H locs 0 0 QQ (F0 m 2 ls []) := by
    intro fu
    induction fu with
    | zero => intro v2 m3 h2 h3 hm; exact absurd hm (Nat.not_lt_zero _)
    | succ fu ih2 =>
      intro v2 m3 h2 h3 hm H locs ls hX hS hl
      refine lv_iload_n C.x C.b dX0_laySigns_2 rfl (lv_at hl 2 rfl) ?_
      refine lv_aload_n C.x C.b dX0_laySigns_3 rfl (lv_at hl 0 rfl) ?_
      refine x_gi C hX 1 (by decide) rfl q737 (fun _ h => h) (F 1) rfl (b := (0, 24)) rfl dX0_laySigns_4 (fun _ => ?_)
      refine r_icmp_ge (tgt := 23) C (by omega) (by omega) dX0_laySigns_7 (by decide) (fun c_1 => ?_) (fun c_1 => ?_)
      · refine r_const C dX0_laySigns_23 ?_
        refine lv_istore_n (lv' := [(2, .int (zi 1)), (0, .ref (B 49 0)), (1, .int (zi w))]) C.x C.b dX0_laySigns_24 rfl hl (by decide) rfl (fun ls hl => ?_)
        have L25 : ∀ (fu : Nat) (v2_25 : Prop) (xv2_25 : Int) (hv2_25 : xv2_25 = bI v2_25) (m3_25 : Int → Int) (hL : LSo (F 1) (M 0) w m3_25) (hQ : ¬ v2_25 → LSq (M 0) w m3_25 (F 1) (F 1) 0) (hm : Int.toNat (isum m3_25 (F 1) + bI v2_25) < fu) (H : Heap) (locs : List Loc) (ls : Array Slot) (hX : XH E A B F (va_up M 3 m3_25) G T H) (hS : va_S A s.heap H locs) (hl : lv_has ls 5 [(0, .ref (B 49 0)), (1, .int (zi w)), (2, .int (zi xv2_25))]), W p l e rm_X0_laySigns s m args below meth c H locs 0 0 QQ (F0 m 25 ls []) := by
          intro fu
          induction fu with
          | zero => intro v2_25 xv2_25 hv2_25 m3_25 hL hQ hm; exact absurd hm (Nat.not_lt_zero _)
          | succ fu ih25 =>
            intro v2_25 xv2_25 hv2_25 m3_25 hL hQ hm H locs ls hX hS hl
            subst hv2_25
            have hm25 := hm
            refine lv_iload_n C.x C.b dX0_laySigns_25 rfl (lv_at hl 2 rfl) ?_
            refine r_if_eq_b (tgt := 120) C dX0_laySigns_26 (by decide) (fun c_2 => ?_) (fun c_2 => ?_)
            · have hSG := hL.ok (hQ (by assumption))
              refine r_const C dX0_laySigns_120 ?_
              refine lv_istore_n (lv' := [(3, .int (zi 0)), (0, .ref (B 49 0)), (1, .int (zi w)), (2, .int (zi (bI v2_25)))]) C.x C.b dX0_laySigns_121 rfl hl (by decide) rfl (fun ls hl => ?_)
              refine r_const C dX0_laySigns_122 ?_
              refine lv_istore (lv' := [(4, .int (zi 0)), (3, .int (zi 0)), (0, .ref (B 49 0)), (1, .int (zi w)), (2, .int (zi (bI v2_25)))]) C.x C.b dX0_laySigns_123 hl (by decide) rfl (fun ls hl => ?_)
              have L125 : ∀ (fu : Nat) (v3 : Int) (v4_125 : Int) (hi : 0 ≤ v4_125 ∧ v4_125 ≤ F 1) (ha : v3 = isum (fun f => bI (m3_25 f = f)) v4_125) (hm : Int.toNat (F 1 - v4_125) < fu) (H : Heap) (locs : List Loc) (ls : Array Slot) (hX : XH E A B F (va_up M 3 m3_25) G T H) (hS : va_S A s.heap H locs) (hl : lv_has ls 5 [(0, .ref (B 49 0)), (1, .int (zi w)), (2, .int (zi (bI v2_25))), (3, .int (zi v3)), (4, .int (zi v4_125))]), W p l e rm_X0_laySigns s m args below meth c H locs 0 0 QQ (F0 m 125 ls []) := by
                intro fu
                induction fu with
                | zero => intro v3 v4_125 hi ha hm; exact absurd hm (Nat.not_lt_zero _)
                | succ fu ih125 =>
                  intro v3 v4_125 hi ha hm H locs ls hX hS hl
                  refine lv_iload C.x C.b dX0_laySigns_125 (lv_at hl 4 rfl) ?_
                  refine lv_aload_n C.x C.b dX0_laySigns_127 rfl (lv_at hl 0 rfl) ?_
                  refine x_gi C hX 1 (by decide) rfl q737 (fun _ h => h) (F 1) rfl (b := (0, 24)) rfl dX0_laySigns_128 (fun _ => ?_)
                  refine r_icmp_ge (tgt := 160) C (by omega) (by omega) dX0_laySigns_131 (by decide) (fun c_3 => ?_) (fun c_3 => ?_)
                  · refine lv_iload_n C.x C.b dX0_laySigns_160 rfl (lv_at hl 3 rfl) ?_
                    rw [← hQQ]
                    exact r_iret C hS (Nat.le_of_ble_eq_true rfl) (Nat.le_of_ble_eq_true rfl) dX0_laySigns_161 ⟨m3_25, hSG, (many_r rF1.1), (by rw [ha, show v4_125 = F 1 by omega]; rfl), hX⟩
                  · refine lv_iload_n C.x C.b dX0_laySigns_134 rfl (lv_at hl 3 rfl) ?_
                    refine lv_aload_n C.x C.b dX0_laySigns_135 rfl (lv_at hl 0 rfl) ?_
                    refine x_ga C hX 3 (by decide) rfl q739 (fun _ h => h) dX0_laySigns_136 ?_
                    refine lv_iload C.x C.b dX0_laySigns_139 (lv_at hl 4 rfl) ?_
                    refine x_li1 C hX 3 rfl (by decide) rfl (show 0 ≤ v4_125 ∧ v4_125 < 24 from (by omega)) (by decide) (m3_25 v4_125) rfl dX0_laySigns_141 (fun r141 => ?_)
                    have r141 : 0 ≤ m3_25 v4_125 ∧ m3_25 v4_125 ≤ 23 := r141 (0, 23) rfl
                    refine lv_iload C.x C.b dX0_laySigns_142 (lv_at hl 4 rfl) ?_
                    have J152_4 : ∀ (t1 : Int) (ht1 : t1 = bI ((m3_25 v4_125) = v4_125)) (H : Heap) (locs : List Loc) (ls : Array Slot) (hX : XH E A B F (va_up M 3 m3_25) G T H) (hS : va_S A s.heap H locs) (hl : lv_has ls 5 [(0, .ref (B 49 0)), (1, .int (zi w)), (2, .int (zi (bI v2_25))), (3, .int (zi v3)), (4, .int (zi v4_125))]), W p l e rm_X0_laySigns s m args below meth c H locs 0 0 QQ (F0 m 152 ls [.int (zi t1), .int (zi v3)]) := by
                      intro t1 ht1 H locs ls hX hS hl
                      subst ht1
                      refine r_iadd C dX0_laySigns_152 ?_
                      refine lv_istore_n (lv' := [(3, .int (zi (v3 + (bI ((m3_25 v4_125) = v4_125))))), (0, .ref (B 49 0)), (1, .int (zi w)), (2, .int (zi (bI v2_25))), (4, .int (zi v4_125))]) C.x C.b dX0_laySigns_153 rfl hl (by decide) rfl (fun ls hl => ?_)
                      refine r_iinc (lv' := [(4, .int (zi (v4_125 + 1))), (3, .int (zi (v3 + (bI ((m3_25 v4_125) = v4_125))))), (0, .ref (B 49 0)), (1, .int (zi w)), (2, .int (zi (bI v2_25)))]) C dX0_laySigns_154 hl (k := 4) rfl (by decide) rfl (fun ls hl => ?_)
                      refine lv_goto (tgt := 125) C.x C.b dX0_laySigns_157 (by decide) ?_
                      exact ih125 (v3 + (bI ((m3_25 v4_125) = v4_125))) (v4_125 + 1) (by omega) (isum_st hi.1 ha rfl) (by omega) H locs ls hX hS (lv_sub hl [2, 3, 4, 1, 0] rfl)
                    refine r_icmp_ne (tgt := 151) C (by omega) (by omega) dX0_laySigns_144 (by decide) (fun c_5 => ?_) (fun c_5 => ?_)
                    · refine r_const C dX0_laySigns_151 ?_
                      exact J152_4 0 ((bI_f c_5).symm) H locs ls hX hS hl
                    · refine r_const C dX0_laySigns_147 ?_
                      refine lv_goto (tgt := 152) C.x C.b dX0_laySigns_148 (by decide) ?_
                      exact J152_4 1 ((bI_t c_5).symm) H locs ls hX hS hl
              exact L125 _ 0 0 (by omega) rfl (Nat.lt_succ_self _) H locs ls hX hS (lv_sub hl [2, 3, 4, 1, 0] rfl)
            · refine r_const C dX0_laySigns_29 ?_
              refine lv_istore_n (lv' := [(2, .int (zi 0)), (0, .ref (B 49 0)), (1, .int (zi w))]) C.x C.b dX0_laySigns_30 rfl hl (by decide) rfl (fun ls hl => ?_)
              refine r_const C dX0_laySigns_31 ?_
              refine lv_istore_n (lv' := [(3, .int (zi 0)), (2, .int (zi 0)), (0, .ref (B 49 0)), (1, .int (zi w))]) C.x C.b dX0_laySigns_32 rfl hl (by decide) rfl (fun ls hl => ?_)
              have L33 : ∀ (fu : Nat) (v2_33 : Prop) (xv2_33 : Int) (hv2_33 : xv2_33 = bI v2_33) (v3 : Int) (m3_33 : Int → Int) (h3b : 0 ≤ v3 ∧ v3 ≤ F 1) (hL1 : LSo (F 1) (M 0) w m3_33) (hQ1 : ¬ v2_33 → LSq (M 0) w m3_33 (F 1) v3 0) (hS1 : isum m3_33 (F 1) ≤ isum m3_25 (F 1)) (hS2 : v2_33 → isum m3_33 (F 1) < isum m3_25 (F 1)) (hm : Int.toNat (F 1 - v3) < fu) (H : Heap) (locs : List Loc) (ls : Array Slot) (hX : XH E A B F (va_up M 3 m3_33) G T H) (hS : va_S A s.heap H locs) (hl : lv_has ls 5 [(0, .ref (B 49 0)), (1, .int (zi w)), (2, .int (zi xv2_33)), (3, .int (zi v3))]), W p l e rm_X0_laySigns s m args below meth c H locs 0 0 QQ (F0 m 33 ls []) := by
                intro fu
                induction fu with
                | zero => intro v2_33 xv2_33 hv2_33 v3 m3_33 h3b hL1 hQ1 hS1 hS2 hm; exact absurd hm (Nat.not_lt_zero _)
                | succ fu ih33 =>
                  intro v2_33 xv2_33 hv2_33 v3 m3_33 h3b hL1 hQ1 hS1 hS2 hm H locs ls hX hS hl
                  subst hv2_33
                  refine lv_iload_n C.x C.b dX0_laySigns_33 rfl (lv_at hl 3 rfl) ?_
                  refine lv_aload_n C.x C.b dX0_laySigns_34 rfl (lv_at hl 0 rfl) ?_
                  refine x_gi C hX 1 (by decide) rfl q737 (fun _ h => h) (F 1) rfl (b := (0, 24)) rfl dX0_laySigns_35 (fun _ => ?_)
                  refine r_icmp_ge (tgt := 117) C (by omega) (by omega) dX0_laySigns_38 (by decide) (fun c_6 => ?_) (fun c_6 => ?_)
                  · refine lv_goto (tgt := 25) C.x C.b dX0_laySigns_117 (by decide) ?_
                    exact ih25 v2_33 (bI v2_33) rfl m3_33 hL1 (fun q => (show v3 = F 1 by omega) ▸ hQ1 q) (by rw [bI_t (by assumption)] at hm25; have z := hL.sum rF1.1; have z1 := hL1.sum rF1.1; have b1 := bI_e v2_33; have y : v2_33 → isum m3_33 (F 1) < isum m3_25 (F 1) := hS2; rcases b1 with e | e; omega; have := y (bI_1.1 e); omega) H locs ls hX hS (lv_sub hl [0, 1, 2] rfl)
                  · refine r_const C dX0_laySigns_41 ?_
                    refine lv_istore (lv' := [(4, .int (zi 0)), (0, .ref (B 49 0)), (1, .int (zi w)), (2, .int (zi (bI v2_33))), (3, .int (zi v3))]) C.x C.b dX0_laySigns_42 hl (by decide) rfl (fun ls hl => ?_)
                    have L44 : ∀ (fu : Nat) (v2_44 : Prop) (xv2_44 : Int) (hv2_44 : xv2_44 = bI v2_44) (v4 : Int) (m3_44 : Int → Int) (h4 : 0 ≤ v4 ∧ v4 ≤ F 1) (hL2 : LSo (F 1) (M 0) w m3_44) (hQ2 : ¬ v2_44 → LSq (M 0) w m3_44 (F 1) v3 v4) (hS3 : isum m3_44 (F 1) ≤ isum m3_25 (F 1)) (hS4 : v2_44 → isum m3_44 (F 1) < isum m3_25 (F 1)) (hm : Int.toNat (F 1 - v4) < fu) (H : Heap) (locs : List Loc) (ls : Array Slot) (hX : XH E A B F (va_up M 3 m3_44) G T H) (hS : va_S A s.heap H locs) (hl : lv_has ls 5 [(0, .ref (B 49 0)), (1, .int (zi w)), (2, .int (zi xv2_44)), (3, .int (zi v3)), (4, .int (zi v4))]), W p l e rm_X0_laySigns s m args below meth c H locs 0 0 QQ (F0 m 44 ls []) := by
                      intro fu
                      induction fu with
                      | zero => intro v2_44 xv2_44 hv2_44 v4 m3_44 h4 hL2 hQ2 hS3 hS4 hm; exact absurd hm (Nat.not_lt_zero _)
                      | succ fu ih44 =>
                        intro v2_44 xv2_44 hv2_44 v4 m3_44 h4 hL2 hQ2 hS3 hS4 hm H locs ls hX hS hl
                        subst hv2_44
                        refine lv_iload C.x C.b dX0_laySigns_44 (lv_at hl 4 rfl) ?_
                        refine lv_aload_n C.x C.b dX0_laySigns_46 rfl (lv_at hl 0 rfl) ?_
                        refine x_gi C hX 1 (by decide) rfl q737 (fun _ h => h) (F 1) rfl (b := (0, 24)) rfl dX0_laySigns_47 (fun _ => ?_)
                        refine r_icmp_ge (tgt := 111) C (by omega) (by omega) dX0_laySigns_50 (by decide) (fun c_7 => ?_) (fun c_7 => ?_)
                        · refine r_iinc (lv' := [(3, .int (zi (v3 + 1))), (0, .ref (B 49 0)), (1, .int (zi w)), (2, .int (zi (bI v2_44))), (4, .int (zi v4))]) C dX0_laySigns_111 hl (k := 3) rfl (by decide) rfl (fun ls hl => ?_)
                          refine lv_goto (tgt := 33) C.x C.b dX0_laySigns_114 (by decide) ?_
                          exact ih33 v2_44 (bI v2_44) rfl (v3 + 1) m3_44 (by omega) hL2 (fun q => (hQ2 q).row (by omega)) hS3 hS4 (by omega) H locs ls hX hS (lv_sub hl [1, 2, 3, 0] rfl)
                        · have q3a : 0 ≤ m3_44 v4 ∧ m3_44 v4 ≤ 23 := hX.2.2.1 3 (0, 23) rfl _
                          have q3b : 0 ≤ m3_44 v3 ∧ m3_44 v3 ≤ 23 := hX.2.2.1 3 (0, 23) rfl _
                          refine lv_aload_n C.x C.b dX0_laySigns_53 rfl (lv_at hl 0 rfl) ?_
                          refine x_ga C hX 3 (by decide) rfl q739 (fun _ h => h) dX0_laySigns_54 ?_
                          refine lv_iload C.x C.b dX0_laySigns_57 (lv_at hl 4 rfl) ?_
                          refine x_li1 C hX 3 rfl (by decide) rfl (show 0 ≤ v4 ∧ v4 < 24 from (by omega)) (by decide) (m3_44 v4) rfl dX0_laySigns_59 (fun r59 => ?_)
                          have r59 : 0 ≤ m3_44 v4 ∧ m3_44 v4 ≤ 23 := r59 (0, 23) rfl
                          refine lv_aload_n C.x C.b dX0_laySigns_60 rfl (lv_at hl 0 rfl) ?_
                          refine x_ga C hX 3 (by decide) rfl q739 (fun _ h => h) dX0_laySigns_61 ?_
                          refine lv_iload_n C.x C.b dX0_laySigns_64 rfl (lv_at hl 3 rfl) ?_
                          refine x_li1 C hX 3 rfl (by decide) rfl (show 0 ≤ v3 ∧ v3 < 24 from (by omega)) (by decide) (m3_44 v3) rfl dX0_laySigns_65 (fun r65 => ?_)
                          have r65 : 0 ≤ m3_44 v3 ∧ m3_44 v3 ≤ 23 := r65 (0, 23) rfl
                          refine r_icmp_ge (tgt := 105) C (by omega) (by omega) dX0_laySigns_66 (by decide) (fun c_8 => ?_) (fun c_8 => ?_)
                          · refine r_iinc (lv' := [(4, .int (zi (v4 + 1))), (0, .ref (B 49 0)), (1, .int (zi w)), (2, .int (zi (bI v2_44))), (3, .int (zi v3))]) C dX0_laySigns_105 hl (k := 4) rfl (by decide) rfl (fun ls hl => ?_)
                            refine lv_goto (tgt := 44) C.x C.b dX0_laySigns_108 (by decide) ?_
                            exact ih44 v2_44 (bI v2_44) rfl (v4 + 1) m3_44 (by omega) (by first | exact hL2 | exact hL2.st ⟨h3b.1, by omega⟩ ⟨h4.1, by omega⟩ (by omega) (by unfold Near; omega)) (fun q => by first | exact (hQ2 q).go (fun z => absurd z.1 (by omega)) | exact (hQ2 q).go (fun z => absurd z.2 (by unfold Near; omega)) | exact absurd trivial q) (by first | exact hS3 | (rw [isum_fup h3b.1 (by omega)]; omega)) (by first | exact hS4 | exact (fun _ => by rw [isum_fup h3b.1 (by omega)]; omega)) (by omega) H locs ls hX hS (lv_sub hl [1, 2, 3, 4, 0] rfl)
                          · refine lv_aload_n C.x C.b dX0_laySigns_69 rfl (lv_at hl 0 rfl) ?_
                            refine x_ga C hX 0 (by decide) rfl q736 (fun _ h => h) dX0_laySigns_70 ?_
                            refine lv_iload_n C.x C.b dX0_laySigns_73 rfl (lv_at hl 3 rfl) ?_
                            refine x_li1 C hX 0 rfl (by decide) rfl (show 0 ≤ v3 ∧ v3 < 24 from (by omega)) (by decide) (M 0 v3) rfl dX0_laySigns_74 (fun r74 => ?_)
                            have r74 : 0 ≤ M 0 v3 ∧ M 0 v3 ≤ 4095 := r74 (0, 4095) rfl
                            refine lv_aload_n C.x C.b dX0_laySigns_75 rfl (lv_at hl 0 rfl) ?_
                            refine x_ga C hX 0 (by decide) rfl q736 (fun _ h => h) dX0_laySigns_76 ?_
                            refine lv_iload C.x C.b dX0_laySigns_79 (lv_at hl 4 rfl) ?_
                            refine x_li1 C hX 0 rfl (by decide) rfl (show 0 ≤ v4 ∧ v4 < 24 from (by omega)) (by decide) (M 0 v4) rfl dX0_laySigns_81 (fun r81 => ?_)
                            have r81 : 0 ≤ M 0 v4 ∧ M 0 v4 ≤ 4095 := r81 (0, 4095) rfl
                            have hxr := xr_r (hft v3) (hft v4)
                            refine r_ixor (v := xr (M 0 v3) (M 0 v4)) C (zi_xor (by omega) (by omega)) dX0_laySigns_82 ?_
                            refine r_callSi (As := [.int (zi (xr (M 0 v3) (M 0 v4)))]) (rest := []) (cells' := 0) (slots' := 0) C (met_J0_bitCount l E A H (xr (M 0 v3) (M 0 v4)) (show 0 ≤ (xr (M 0 v3) (M 0 v4)) ∧ (xr (M 0 v3) (M 0 v4)) < 16777216 from (by omega))) (lw_S q142 q143 q89 q144) hd_J0_bitCount rfl (by decide) rfl hS hl.1 rfl (Nat.le_of_ble_eq_true rfl) dX0_laySigns_83 rfl rfl ⟨Nat.le_of_ble_eq_true rfl, Nat.le_of_ble_eq_true rfl⟩ (fun rr H locs hp hS => ?_)
                            obtain ⟨hbc, hrr, hH⟩ := hp
                            have hrr : rr = bits (xr (M 0 v3) (M 0 v4)) := hrr
                            subst hrr
                            have hX : XH E A B F (va_up M 3 m3_44) G T H := by rw [hH]; exact hX
                            replace hbc : 0 ≤ bits (xr (M 0 v3) (M 0 v4)) ∧ bits (xr (M 0 v3) (M 0 v4)) ≤ 24 := hbc
                            refine lv_iload_n C.x C.b dX0_laySigns_86 rfl (lv_at hl 1 rfl) ?_
                            refine r_icmp_gt (tgt := 105) C (by omega) (by omega) dX0_laySigns_87 (by decide) (fun c_9 => ?_) (fun c_9 => ?_)
                            · refine r_iinc (lv' := [(4, .int (zi (v4 + 1))), (0, .ref (B 49 0)), (1, .int (zi w)), (2, .int (zi (bI v2_44))), (3, .int (zi v3))]) C dX0_laySigns_105 hl (k := 4) rfl (by decide) rfl (fun ls hl => ?_)
                              refine lv_goto (tgt := 44) C.x C.b dX0_laySigns_108 (by decide) ?_
                              exact ih44 v2_44 (bI v2_44) rfl (v4 + 1) m3_44 (by omega) (by first | exact hL2 | exact hL2.st ⟨h3b.1, by omega⟩ ⟨h4.1, by omega⟩ (by omega) (by unfold Near; omega)) (fun q => by first | exact (hQ2 q).go (fun z => absurd z.1 (by omega)) | exact (hQ2 q).go (fun z => absurd z.2 (by unfold Near; omega)) | exact absurd trivial q) (by first | exact hS3 | (rw [isum_fup h3b.1 (by omega)]; omega)) (by first | exact hS4 | exact (fun _ => by rw [isum_fup h3b.1 (by omega)]; omega)) (by omega) H locs ls hX hS (lv_sub hl [1, 2, 3, 4, 0] rfl)
                            · refine lv_aload_n C.x C.b dX0_laySigns_90 rfl (lv_at hl 0 rfl) ?_
                              refine x_ga C hX 3 (by decide) rfl q739 (fun _ h => h) dX0_laySigns_91 ?_
                              refine lv_iload_n C.x C.b dX0_laySigns_94 rfl (lv_at hl 3 rfl) ?_
                              refine lv_aload_n C.x C.b dX0_laySigns_95 rfl (lv_at hl 0 rfl) ?_
                              refine x_ga C hX 3 (by decide) rfl q739 (fun _ h => h) dX0_laySigns_96 ?_
                              refine lv_iload C.x C.b dX0_laySigns_99 (lv_at hl 4 rfl) ?_
                              refine x_li1 C hX 3 rfl (by decide) rfl (show 0 ≤ v4 ∧ v4 < 24 from (by omega)) (by decide) (m3_44 v4) rfl dX0_laySigns_101 (fun _ => ?_)
                              refine x_si1 C hX hS 3 rfl (by decide) rfl (show 0 ≤ v3 ∧ v3 < 24 from (by omega)) (by decide) (fun b hb => by cases hb; exact (show 0 ≤ m3_44 v4 ∧ m3_44 v4 ≤ 23 from (by omega))) (M' := (va_up M 3 (fup m3_44 v3 (m3_44 v4)))) (up_up _ _ _ _) dX0_laySigns_102 (fun H locs hX hS => ?_)
                              refine r_const C dX0_laySigns_103 ?_
                              refine lv_istore_n (lv' := [(2, .int (zi 1)), (0, .ref (B 49 0)), (1, .int (zi w)), (3, .int (zi v3)), (4, .int (zi v4))]) C.x C.b dX0_laySigns_104 rfl hl (by decide) rfl (fun ls hl => ?_)
                              refine r_iinc (lv' := [(4, .int (zi (v4 + 1))), (2, .int (zi 1)), (0, .ref (B 49 0)), (1, .int (zi w)), (3, .int (zi v3))]) C dX0_laySigns_105 hl (k := 4) rfl (by decide) rfl (fun ls hl => ?_)
                              refine lv_goto (tgt := 44) C.x C.b dX0_laySigns_108 (by decide) ?_
                              exact ih44 True 1 bI_T.symm (v4 + 1) (fup m3_44 v3 (m3_44 v4)) (by omega) (by first | exact hL2 | exact hL2.st ⟨h3b.1, by omega⟩ ⟨h4.1, by omega⟩ (by omega) (by unfold Near; omega)) (fun q => by first | exact (hQ2 q).go (fun z => absurd z.1 (by omega)) | exact (hQ2 q).go (fun z => absurd z.2 (by unfold Near; omega)) | exact absurd trivial q) (by first | exact hS3 | (rw [isum_fup h3b.1 (by omega)]; omega)) (by first | exact hS4 | exact (fun _ => by rw [isum_fup h3b.1 (by omega)]; omega)) (by omega) H locs ls hX hS (lv_sub hl [2, 3, 1, 4, 0] rfl)
                    exact L44 _ v2_33 (bI v2_33) rfl 0 m3_33 (by omega) hL1 hQ1 hS1 hS2 (Nat.lt_succ_self _) H locs ls hX hS (lv_sub hl [1, 2, 3, 4, 0] rfl)
              exact L33 _ False 0 bI_F.symm 0 m3_25 (by omega) hL (fun _ => LSq.zero) (Int.le_refl _) False.elim (Nat.lt_succ_self _) H locs ls hX hS (lv_sub hl [2, 3, 1, 0] rfl)
        exact L25 _ True 1 bI_T.symm m3 (LSo.id (fun j a b => h3 j a (by omega))) (fun q => absurd trivial q) (Nat.lt_succ_self _) H locs ls hX hS (lv_sub hl [1, 2, 0] rfl)
      · refine lv_aload_n C.x C.b dX0_laySigns_10 rfl (lv_at hl 0 rfl) ?_
        refine x_ga C hX 3 (by decide) rfl q739 (fun _ h => h) dX0_laySigns_11 ?_
        refine lv_iload_n C.x C.b dX0_laySigns_14 rfl (lv_at hl 2 rfl) ?_
        refine lv_iload_n C.x C.b dX0_laySigns_15 rfl (lv_at hl 2 rfl) ?_
        refine x_si1 C hX hS 3 rfl (by decide) rfl (show 0 ≤ v2 ∧ v2 < 24 from (by omega)) (by decide) (fun b hb => by cases hb; exact (show 0 ≤ v2 ∧ v2 ≤ 23 from (by omega))) (M' := (va_up M 3 (fup m3 v2 v2))) (up_up _ _ _ _) dX0_laySigns_16 (fun H locs hX hS => ?_)
        refine r_iinc (lv' := [(2, .int (zi (v2 + 1))), (0, .ref (B 49 0)), (1, .int (zi w))]) C dX0_laySigns_17 hl (k := 2) rfl (by decide) rfl (fun ls hl => ?_)
        refine lv_goto (tgt := 2) C.x C.b dX0_laySigns_20 (by decide) ?_
        exact ih2 (v2 + 1) (fup m3 v2 v2) (by omega) (fup_st (P := fun j x => x = j) h3 rfl) (by omega) H locs ls hX hS (lv_sub hl [1, 2, 0] rfl)
  exact L2 _ 0 (M 3) (by omega) (fun j h1 h2 => absurd h1 (by omega)) (Nat.lt_succ_self _) H locs ls (hX.to rfl rfl ((up_id M (k := 3) (a := (M 3)) rfl).symm.trans rfl) rfl rfl) hS (lv_sub hl [1, 2, 0] rfl)

theorem hd_X0_layAll : yX0_layAll.cls = RX0 ∧ yX0_layAll.cls ≠ "java/lang/invoke/MethodHandle" ∧ yX0_layAll.cls ≠ "java/lang/invoke/VarHandle" ∧ (parseMethodDescriptor yX0_layAll.desc).map (fun d => d.parameters.length) = some 0 := by decide +kernel
abbrev rm_X0_layAll : Room := { frames := 2, cells := 0, slots := 0, locals := 44 }
set_option maxHeartbeats 8000000 in
theorem met_X0_layAll (l : Launch) (E : us_E) (A : Nat → Prop) (B : Nat → Int → Nat) (F : Nat → Int) (M : Nat → Int → Int) (G : Nat → Int → Option Nat) (T : x_T) : cMet l yX0_layAll cX0_layAll 1 none rm_X0_layAll A E [.ref (B 49 0)] (fun H => XH E A B F M G T H) (qv A (fun H => ∃ m3 : Int → Int, SgOK (F 1) (M 0) (F 2) m3 ∧ XH E A B F (va_up M 3 m3) G T H)) := by
  refine cMet.of (by decide) (Nat.le_of_ble_eq_true rfl) (fun p e s m args below meth c C hnm hX hS ls hl => ?_)
  have C : Cx p s m args meth c A RX0 cX0_layAll 1 none E := C
  have hX : XH E A B F M G T s.heap := hX
  have hl : lv_has ls 1 [(0, .ref (B 49 0))] := hl
  generalize hH : s.heap = H at hX
  have hS : va_S A s.heap H [] := by rw [← hH]; exact hS
  generalize hlocs : ([] : List Loc) = locs at hS ⊢
  obtain ⟨QQ, hQQ⟩ : ∃ z, MQ below (qv A (fun H => ∃ m3 : Int → Int, SgOK (F 1) (M 0) (F 2) m3 ∧ XH E A B F (va_up M 3 m3) G T H)) args s (rm_X0_layAll).cells (rm_X0_layAll).slots A = z := ⟨_, rfl⟩
  rw [hQQ]
  have rF2 : 0 ≤ F 2 ∧ F 2 ≤ 12 := hX.2.1 2 (0, 12) rfl
  refine lv_aload_n C.x C.b dX0_layAll_0 rfl (lv_at hl 0 rfl) ?_
  refine lv_aload_n C.x C.b dX0_layAll_1 rfl (lv_at hl 0 rfl) ?_
  refine x_gi C hX 2 (by decide) rfl q738 (fun _ h => h) (F 2) rfl (b := (0, 12)) rfl dX0_layAll_2 (fun _ => ?_)
  refine r_callVi (As := [.int (zi (F 2))]) (rest := []) (cells' := 0) (slots' := 0) C (met_X0_laySigns l E A B F M G T (F 2) (show 0 ≤ (F 2) ∧ (F 2) ≤ 24 from (by omega))) (lw_V q138 q140 qs2 q86 q141) hd_X0_laySigns rfl (by decide) (x_this C hX) hX hS hl.1 rfl (Nat.le_of_ble_eq_true rfl) dX0_layAll_5 rfl rfl ⟨Nat.le_of_ble_eq_true rfl, Nat.le_of_ble_eq_true rfl⟩ (fun rr H locs hp hS => ?_)
  obtain ⟨m3_1, hsg, hmr, hrr, hX⟩ := hp
  have hrr : rr = sgn_many ((F 1)) m3_1 := hrr
  subst hrr
  replace hsg : SgOK ((F 1)) ((M 0)) (F 2) m3_1 := hsg
  replace hmr : 0 ≤ sgn_many ((F 1)) m3_1 ∧ sgn_many ((F 1)) m3_1 ≤ (F 1) := hmr
  have hX : XH E A B F (va_up M 3 m3_1) G T H := hX.to rfl rfl rfl rfl rfl
  refine lv_pop C.x C.b dX0_layAll_8 rfl ?_
  rw [← hQQ]
  exact r_vret C hS (Nat.le_of_ble_eq_true rfl) (Nat.le_of_ble_eq_true rfl) dX0_layAll_9 ⟨m3_1, (by first | rfl | assumption | exact (sel_t (by omega)).symm | exact (sel_f (by omega)).symm | omega), hX⟩

theorem hd_X0_sign : yX0_sign.cls = RX0 ∧ yX0_sign.cls ≠ "java/lang/invoke/MethodHandle" ∧ yX0_sign.cls ≠ "java/lang/invoke/VarHandle" ∧ (parseMethodDescriptor yX0_sign.desc).map (fun d => d.parameters.length) = some 1 := by decide +kernel
abbrev rm_X0_sign : Room := { frames := 3, cells := 0, slots := 0, locals := 64 }
set_option maxHeartbeats 8000000 in
theorem met_X0_sign (l : Launch) (E : us_E) (A : Nat → Prop) (B : Nat → Int → Nat) (F : Nat → Int) (M : Nat → Int → Int) (G : Nat → Int → Option Nat) (T : x_T) (f : Int) (hf : -2147483648 ≤ f ∧ f < 2147483648) : cMet l yX0_sign cX0_sign 2 (some .int) rm_X0_sign A E [.ref (B 49 0), .int (zi f)] (fun H => XH E A B F M G T H) (qi A (fun r H => ∃ m3 : Int → Int, ((0 ≤ f ∧ f < F 1) → SgOK (F 1) (M 0) (F 2) m3) ∧ (r = sel (0 ≤ f ∧ f < F 1) (m3 f) (-1)) ∧ XH E A B F (va_up M 3 m3) G T H)) := by
  refine cMet.of (by decide) (Nat.le_of_ble_eq_true rfl) (fun p e s m args below meth c C hnm hX hS ls hl => ?_)
  have C : Cx p s m args meth c A RX0 cX0_sign 2 (some .int) E := C
  have hX : XH E A B F M G T s.heap := hX
  have hl : lv_has ls 2 [(0, .ref (B 49 0)), (1, .int (zi f))] := hl
  generalize hH : s.heap = H at hX
  have hS : va_S A s.heap H [] := by rw [← hH]; exact hS
  generalize hlocs : ([] : List Loc) = locs at hS ⊢
  obtain ⟨QQ, hQQ⟩ : ∃ z, MQ below (qi A (fun r H => ∃ m3 : Int → Int, ((0 ≤ f ∧ f < F 1) → SgOK (F 1) (M 0) (F 2) m3) ∧ (r = sel (0 ≤ f ∧ f < F 1) (m3 f) (-1)) ∧ XH E A B F (va_up M 3 m3) G T H)) args s (rm_X0_sign).cells (rm_X0_sign).slots A = z := ⟨_, rfl⟩
  rw [hQQ]
  have rF1 : 0 ≤ F 1 ∧ F 1 ≤ 24 := hX.2.1 1 (0, 24) rfl
  refine lv_aload_n C.x C.b dX0_sign_0 rfl (lv_at hl 0 rfl) ?_
  refine lv_iload_n C.x C.b dX0_sign_1 rfl (lv_at hl 1 rfl) ?_
  refine r_callVi (As := [.int (zi f)]) (rest := []) (cells' := 0) (slots' := 0) C (met_X0_isForm l E A B F M G T f (show -2147483648 ≤ f ∧ f < 2147483648 from (by omega))) (lw_V q129 q131 qs0 q86 q133) hd_X0_isForm rfl (by decide) (x_this C hX) hX hS hl.1 rfl (Nat.le_of_ble_eq_true rfl) dX0_sign_2 rfl rfl ⟨Nat.le_of_ble_eq_true rfl, Nat.le_of_ble_eq_true rfl⟩ (fun rr H locs hp hS => ?_)
  obtain ⟨hrr, hX⟩ := hp
  have hrr : rr = bI (0 ≤ f ∧ f < (F 1)) := hrr
  subst hrr
  refine r_if_ne_b (tgt := 10) C dX0_sign_5 (by decide) (fun c_1 => ?_) (fun c_1 => ?_)
  · refine lv_aload_n C.x C.b dX0_sign_10 rfl (lv_at hl 0 rfl) ?_
    refine r_callVv (As := []) (rest := []) (cells' := 0) (slots' := 0) C (met_X0_layAll l E A B F M G T) (lw_V q134 q136 qs1 q86 q137) hd_X0_layAll rfl (by decide) (x_this C hX) hX hS hl.1 rfl (Nat.le_of_ble_eq_true rfl) dX0_sign_11 rfl rfl ⟨Nat.le_of_ble_eq_true rfl, Nat.le_of_ble_eq_true rfl⟩ (fun H locs hp hS => ?_)
    obtain ⟨m3_2, hsg, hX⟩ := hp
    replace hsg : SgOK ((F 1)) ((M 0)) ((F 2)) m3_2 := hsg
    have hX : XH E A B F (va_up M 3 m3_2) G T H := hX.to rfl rfl rfl rfl rfl
    refine lv_aload_n C.x C.b dX0_sign_14 rfl (lv_at hl 0 rfl) ?_
    refine x_ga C hX 3 (by decide) rfl q739 (fun _ h => h) dX0_sign_15 ?_
    refine lv_iload_n C.x C.b dX0_sign_18 rfl (lv_at hl 1 rfl) ?_
    refine x_li1 C hX 3 rfl (by decide) rfl (show 0 ≤ f ∧ f < 24 from (by omega)) (by decide) (m3_2 f) rfl dX0_sign_19 (fun r19 => ?_)
    have r19 : 0 ≤ m3_2 f ∧ m3_2 f ≤ 23 := r19 (0, 23) rfl
    rw [← hQQ]
    exact r_iret C hS (Nat.le_of_ble_eq_true rfl) (Nat.le_of_ble_eq_true rfl) dX0_sign_20 ⟨m3_2, (fun q => by first | exact hsg | exact absurd q (by assumption)), (by first | rfl | exact (sel_t (by omega)).symm | exact (sel_f (by omega)).symm | omega), hX⟩
  · refine r_const C dX0_sign_8 ?_
    rw [← hQQ]
    exact r_iret C hS (Nat.le_of_ble_eq_true rfl) (Nat.le_of_ble_eq_true rfl) dX0_sign_9 ⟨(M 3), (fun q => by first | exact hsg | exact absurd q (by assumption)), (by first | rfl | exact (sel_t (by omega)).symm | exact (sel_f (by omega)).symm | omega), (hX.to rfl rfl ((up_id M (k := 3) (a := (M 3)) rfl).symm.trans rfl) rfl rfl)⟩

theorem hd_X0_counted : yX0_counted.cls = RX0 ∧ yX0_counted.cls ≠ "java/lang/invoke/MethodHandle" ∧ yX0_counted.cls ≠ "java/lang/invoke/VarHandle" ∧ (parseMethodDescriptor yX0_counted.desc).map (fun d => d.parameters.length) = some 1 := by decide +kernel
abbrev rm_X0_counted : Room := { frames := 3, cells := 0, slots := 0, locals := 67 }
set_option maxHeartbeats 8000000 in
theorem met_X0_counted (l : Launch) (E : us_E) (A : Nat → Prop) (B : Nat → Int → Nat) (F : Nat → Int) (M : Nat → Int → Int) (G : Nat → Int → Option Nat) (T : x_T) (k : Int) (hk : -2147483648 ≤ k ∧ k < 2147483648) : cMet l yX0_counted cX0_counted 2 (some .int) rm_X0_counted A E [.ref (B 49 0), .int (zi k)] (fun H => XH E A B F M G T H) (qi A (fun r H => ∃ m3 : Int → Int, SgOK (F 1) (M 0) (F 2) m3 ∧ (r = sel ((0 ≤ k ∧ k < F 1) ∧ m3 k = k) (cnt m3 (mtc (M 56)) (M 200) (F 6) k) (-1)) ∧ XH E A B F (va_up M 3 m3) G T H)) := by
  refine cMet.of (by decide) (Nat.le_of_ble_eq_true rfl) (fun p e s m args below meth c C hnm hX hS ls hl => ?_)
  have C : Cx p s m args meth c A RX0 cX0_counted 2 (some .int) E := C
  have hX : XH E A B F M G T s.heap := hX
  have hl : lv_has ls 2 [(0, .ref (B 49 0)), (1, .int (zi k))] := hl
  generalize hH : s.heap = H at hX
  have hS : va_S A s.heap H [] := by rw [← hH]; exact hS
  generalize hlocs : ([] : List Loc) = locs at hS ⊢
  obtain ⟨QQ, hQQ⟩ : ∃ z, MQ below (qi A (fun r H => ∃ m3 : Int → Int, SgOK (F 1) (M 0) (F 2) m3 ∧ (r = sel ((0 ≤ k ∧ k < F 1) ∧ m3 k = k) (cnt m3 (mtc (M 56)) (M 200) (F 6) k) (-1)) ∧ XH E A B F (va_up M 3 m3) G T H)) args s (rm_X0_counted).cells (rm_X0_counted).slots A = z := ⟨_, rfl⟩
  rw [hQQ]
  refine lv_aload_n C.x C.b dX0_counted_0 rfl (lv_at hl 0 rfl) ?_
  refine r_callVv (As := []) (rest := []) (cells' := 0) (slots' := 0) C (met_X0_layAll l E A B F M G T) (lw_V q134 q136 qs1 q86 q137) hd_X0_layAll rfl (by decide) (x_this C hX) hX hS hl.1 rfl (Nat.le_of_ble_eq_true rfl) dX0_counted_1 rfl rfl ⟨Nat.le_of_ble_eq_true rfl, Nat.le_of_ble_eq_true rfl⟩ (fun H locs hp hS => ?_)
  obtain ⟨m3_1, hsg, hX⟩ := hp
  replace hsg : SgOK ((F 1)) ((M 0)) ((F 2)) m3_1 := hsg
  have hX : XH E A B F (va_up M 3 m3_1) G T H := hX.to rfl rfl rfl rfl rfl
  refine lv_aload_n C.x C.b dX0_counted_4 rfl (lv_at hl 0 rfl) ?_
  refine lv_iload_n C.x C.b dX0_counted_5 rfl (lv_at hl 1 rfl) ?_
  refine r_callVi (As := [.int (zi k)]) (rest := []) (cells' := 0) (slots' := 0) C (met_X0_isSign l E A B F (va_up M 3 m3_1) G T k (show -2147483648 ≤ k ∧ k < 2147483648 from (by omega))) (lw_V q153 q155 qs3 q86 q156) hd_X0_isSign rfl (by decide) (x_this C hX) hX hS hl.1 rfl (Nat.le_of_ble_eq_true rfl) dX0_counted_6 rfl rfl ⟨Nat.le_of_ble_eq_true rfl, Nat.le_of_ble_eq_true rfl⟩ (fun rr H locs hp hS => ?_)
  obtain ⟨hrr, hX⟩ := hp
  have hrr : rr = bI ((0 ≤ k ∧ k < (F 1)) ∧ m3_1 k = k) := hrr
  subst hrr
  have J21_2 : ∀ (t0 : Int) (ht0 : t0 = sel ((0 ≤ k ∧ k < (F 1)) ∧ m3_1 k = k) (cnt (m3_1) (mtc ((M 56))) ((M 200)) ((F 6)) k) (-1)) (H : Heap) (locs : List Loc) (ls : Array Slot) (hX : XH E A B F (va_up M 3 m3_1) G T H) (hS : va_S A s.heap H locs) (hl : lv_has ls 2 [(0, .ref (B 49 0)), (1, .int (zi k))]), W p l e rm_X0_counted s m args below meth c H locs 0 0 QQ (F0 m 21 ls [.int (zi t0)]) := by
    intro t0 ht0 H locs ls hX hS hl
    subst ht0
    rw [← hQQ]
    exact r_iret C hS (Nat.le_of_ble_eq_true rfl) (Nat.le_of_ble_eq_true rfl) dX0_counted_21 ⟨m3_1, (by first | rfl | assumption | exact (sel_t (by omega)).symm | exact (sel_f (by omega)).symm | omega), (by first | rfl | exact (sel_t (by omega)).symm | exact (sel_f (by omega)).symm | omega), hX⟩
  refine r_if_eq_b (tgt := 20) C dX0_counted_9 (by decide) (fun c_3 => ?_) (fun c_3 => ?_)
  · refine r_const C dX0_counted_20 ?_
    exact J21_2 (-1) ((sel_f c_3).symm) H locs ls hX hS hl
  · refine lv_aload_n C.x C.b dX0_counted_12 rfl (lv_at hl 0 rfl) ?_
    refine lv_iload_n C.x C.b dX0_counted_13 rfl (lv_at hl 1 rfl) ?_
    refine r_callVi (As := [.int (zi k)]) (rest := []) (cells' := 0) (slots' := 0) C (met_X0_countOf l E A B F (va_up M 3 m3_1) G T k (show -2147483648 ≤ k ∧ k < 2147483648 from (by omega))) (lw_V q197 q199 qs7 q86 q200) hd_X0_countOf rfl (by decide) (x_this C hX) hX hS hl.1 rfl (Nat.le_of_ble_eq_true rfl) dX0_counted_14 rfl rfl ⟨Nat.le_of_ble_eq_true rfl, Nat.le_of_ble_eq_true rfl⟩ (fun rr H locs hp hS => ?_)
    obtain ⟨hcn, hrr, hX⟩ := hp
    have hrr : rr = cnt (m3_1) (mtc ((M 56))) ((M 200)) ((F 6)) k := hrr
    subst hrr
    replace hcn : 0 ≤ cnt (m3_1) (mtc ((M 56))) ((M 200)) ((F 6)) k ∧ cnt (m3_1) (mtc ((M 56))) ((M 200)) ((F 6)) k ≤ 192 := hcn
    refine lv_goto (tgt := 21) C.x C.b dX0_counted_17 (by decide) ?_
    exact J21_2 (cnt (m3_1) (mtc ((M 56))) ((M 200)) ((F 6)) k) ((sel_t c_3).symm) H locs ls hX hS hl

theorem hd_X0_besideOf : yX0_besideOf.cls = RX0 ∧ yX0_besideOf.cls ≠ "java/lang/invoke/MethodHandle" ∧ yX0_besideOf.cls ≠ "java/lang/invoke/VarHandle" ∧ (parseMethodDescriptor yX0_besideOf.desc).map (fun d => d.parameters.length) = some 2 := by decide +kernel
abbrev rm_X0_besideOf : Room := { frames := 1, cells := 0, slots := 0, locals := 22 }
set_option maxHeartbeats 8000000 in
theorem met_X0_besideOf (l : Launch) (E : us_E) (A : Nat → Prop) (B : Nat → Int → Nat) (F : Nat → Int) (M : Nat → Int → Int) (G : Nat → Int → Option Nat) (T : x_T) (a : Int) (b : Int) (ha : -2147483648 ≤ a ∧ a < 2147483648) (hb : -2147483648 ≤ b ∧ b < 2147483648) : cMet l yX0_besideOf cX0_besideOf 8 (some .int) rm_X0_besideOf A E [.ref (B 49 0), .int (zi a), .int (zi b)] (fun H => XH E A B F M G T H) (qi A (fun r H => (0 ≤ bes (M 3) (mtc (M 56)) (M 200) (F 6) a b ∧ bes (M 3) (mtc (M 56)) (M 200) (F 6) a b ≤ 192) ∧ (r = bes (M 3) (mtc (M 56)) (M 200) (F 6) a b) ∧ XH E A B F M G T H)) := by
  refine cMet.of (by decide) (Nat.le_of_ble_eq_true rfl) (fun p e s m args below meth c C hnm hX hS ls hl => ?_)
  have C : Cx p s m args meth c A RX0 cX0_besideOf 8 (some .int) E := C
  have hX : XH E A B F M G T s.heap := hX
  have hl : lv_has ls 8 [(0, .ref (B 49 0)), (1, .int (zi a)), (2, .int (zi b))] := hl
  generalize hH : s.heap = H at hX
  have hS : va_S A s.heap H [] := by rw [← hH]; exact hS
  generalize hlocs : ([] : List Loc) = locs at hS ⊢
  obtain ⟨QQ, hQQ⟩ : ∃ z, MQ below (qi A (fun r H => (0 ≤ bes (M 3) (mtc (M 56)) (M 200) (F 6) a b ∧ bes (M 3) (mtc (M 56)) (M 200) (F 6) a b ≤ 192) ∧ (r = bes (M 3) (mtc (M 56)) (M 200) (F 6) a b) ∧ XH E A B F M G T H)) args s (rm_X0_besideOf).cells (rm_X0_besideOf).slots A = z := ⟨_, rfl⟩
  rw [hQQ]
  have rF6 : 0 ≤ F 6 ∧ F 6 ≤ 8 := hX.2.1 6 (0, 8) rfl
  have h24 : ∀ t, 0 ≤ M 200 t ∧ M 200 t ≤ 24 := fun t => hX.2.2.1 200 (0, 24) rfl t
  have hcl : ∀ q, -2 ≤ M 56 q ∧ M 56 q ≤ 23 := fun q => hX.2.2.1 56 (-2, 23) rfl q
  have hs3 : ∀ q, 0 ≤ M 3 q ∧ M 3 q ≤ 23 := fun q => hX.2.2.1 3 (0, 23) rfl q
  refine r_const C dX0_besideOf_0 ?_
  refine lv_istore_n (lv' := [(3, .int (zi 0)), (0, .ref (B 49 0)), (1, .int (zi a)), (2, .int (zi b))]) C.x C.b dX0_besideOf_1 rfl hl (by decide) rfl (fun ls hl => ?_)
  refine r_const C dX0_besideOf_2 ?_
  refine lv_istore (lv' := [(4, .int (zi 0)), (3, .int (zi 0)), (0, .ref (B 49 0)), (1, .int (zi a)), (2, .int (zi b))]) C.x C.b dX0_besideOf_3 hl (by decide) rfl (fun ls hl => ?_)
  have L5 : ∀ (fu : Nat) (v3 : Int) (v4 : Int) (ht : 0 ≤ v4 ∧ v4 ≤ F 6) (ha_ : v3 = isum (fun t => isum1 (fun i => bI ((¬ sa (M 3) ((mtc (M 56)) t (i - 1)) < 0) ∧ (¬ sa (M 3) ((mtc (M 56)) t i) < 0) ∧ (a < 0 ∨ (sa (M 3) ((mtc (M 56)) t (i - 1)) = a ∧ sa (M 3) ((mtc (M 56)) t i) = b)))) (M 200 t)) v4) (hm : Int.toNat (F 6 - v4) < fu) (H : Heap) (locs : List Loc) (ls : Array Slot) (hX : XH E A B F M G T H) (hS : va_S A s.heap H locs) (hl : lv_has ls 8 [(0, .ref (B 49 0)), (1, .int (zi a)), (2, .int (zi b)), (3, .int (zi v3)), (4, .int (zi v4))]), W p l e rm_X0_besideOf s m args below meth c H locs 0 0 QQ (F0 m 5 ls []) := by
    intro fu
    induction fu with
    | zero => intro v3 v4 ht ha_ hm; exact absurd hm (Nat.not_lt_zero _)
    | succ fu ih5 =>
      intro v3 v4 ht ha_ hm H locs ls hX hS hl
      refine lv_iload C.x C.b dX0_besideOf_5 (lv_at hl 4 rfl) ?_
      refine lv_aload_n C.x C.b dX0_besideOf_7 rfl (lv_at hl 0 rfl) ?_
      refine x_gi C hX 6 (by decide) rfl q742 (fun _ h => h) (F 6) rfl (b := (0, 8)) rfl dX0_besideOf_8 (fun _ => ?_)
      refine r_icmp_ge (tgt := 110) C (by omega) (by omega) dX0_besideOf_11 (by decide) (fun c_1 => ?_) (fun c_1 => ?_)
      · refine lv_iload_n C.x C.b dX0_besideOf_110 rfl (lv_at hl 3 rfl) ?_
        rw [← hQQ]
        exact r_iret C hS (Nat.le_of_ble_eq_true rfl) (Nat.le_of_ble_eq_true rfl) dX0_besideOf_111 ⟨(bes_r rF6 h24), (by rw [ha_, show v4 = F 6 by omega]; rfl), hX⟩
      · refine r_const C dX0_besideOf_14 ?_
        refine lv_istore (lv' := [(5, .int (zi 1)), (0, .ref (B 49 0)), (1, .int (zi a)), (2, .int (zi b)), (3, .int (zi v3)), (4, .int (zi v4))]) C.x C.b dX0_besideOf_15 hl (by decide) rfl (fun ls hl => ?_)
        have L17 : ∀ (fu : Nat) (v3 : Int) (v5 : Int) (hi : 1 ≤ v5 ∧ (v5 ≤ M 200 v4 ∨ v5 = 1)) (hb_ : v3 = isum (fun t => isum1 (fun i => bI ((¬ sa (M 3) ((mtc (M 56)) t (i - 1)) < 0) ∧ (¬ sa (M 3) ((mtc (M 56)) t i) < 0) ∧ (a < 0 ∨ (sa (M 3) ((mtc (M 56)) t (i - 1)) = a ∧ sa (M 3) ((mtc (M 56)) t i) = b)))) (M 200 t)) v4 + isum1 (fun i => bI ((¬ sa (M 3) ((mtc (M 56)) v4 (i - 1)) < 0) ∧ (¬ sa (M 3) ((mtc (M 56)) v4 i) < 0) ∧ (a < 0 ∨ (sa (M 3) ((mtc (M 56)) v4 (i - 1)) = a ∧ sa (M 3) ((mtc (M 56)) v4 i) = b)))) v5) (hm : Int.toNat (M 200 v4 - v5) < fu) (H : Heap) (locs : List Loc) (ls : Array Slot) (hX : XH E A B F M G T H) (hS : va_S A s.heap H locs) (hl : lv_has ls 8 [(0, .ref (B 49 0)), (1, .int (zi a)), (2, .int (zi b)), (3, .int (zi v3)), (4, .int (zi v4)), (5, .int (zi v5))]), W p l e rm_X0_besideOf s m args below meth c H locs 0 0 QQ (F0 m 17 ls []) := by
          intro fu
          induction fu with
          | zero => intro v3 v5 hi hb_ hm; exact absurd hm (Nat.not_lt_zero _)
          | succ fu ih17 =>
            intro v3 v5 hi hb_ hm H locs ls hX hS hl
            refine lv_iload C.x C.b dX0_besideOf_17 (lv_at hl 5 rfl) ?_
            refine lv_aload_n C.x C.b dX0_besideOf_19 rfl (lv_at hl 0 rfl) ?_
            refine x_ga C hX 5 (by decide) rfl q741 (fun _ h => h) dX0_besideOf_20 ?_
            refine lv_iload C.x C.b dX0_besideOf_23 (lv_at hl 4 rfl) ?_
            refine x_la C hX 5 rfl rfl rfl (by decide) rfl rfl (show 0 ≤ v4 ∧ v4 < F 6 from (by omega)) (by omega) (by decide) dX0_besideOf_25 ?_
            refine r_callVi (As := []) (rest := [.int (zi v5)]) (cells' := 0) (slots' := 0) C (met_X3_size l E A B F M G T v4 (show 0 ≤ v4 ∧ v4 < (F 6) from (by omega))) (lw_V q174 q175 q176 q98 q177) hd_X3_size rfl (by decide) (x_recv C hX (f := 55) (i := v4) (by decide) (show 0 ≤ v4 ∧ v4 < F 6 from (by omega)).1 (xK_55 (show 0 ≤ v4 ∧ v4 < F 6 from (by omega))) (q := (RX3, TX3, 1)) rfl) hX hS hl.1 rfl (Nat.le_of_ble_eq_true rfl) dX0_besideOf_26 rfl rfl ⟨Nat.le_of_ble_eq_true rfl, Nat.le_of_ble_eq_true rfl⟩ (fun rr H locs hp hS => ?_)
            obtain ⟨hsz, hrr, hX⟩ := hp
            have hrr : rr = (M 200) v4 := hrr
            subst hrr
            replace hsz : 0 ≤ (M 200) v4 ∧ (M 200) v4 ≤ 24 := hsz
            refine r_icmp_ge (tgt := 104) C (by omega) (by omega) dX0_besideOf_29 (by decide) (fun c_2 => ?_) (fun c_2 => ?_)
            · refine r_iinc (lv' := [(4, .int (zi (v4 + 1))), (0, .ref (B 49 0)), (1, .int (zi a)), (2, .int (zi b)), (3, .int (zi v3)), (5, .int (zi v5))]) C dX0_besideOf_104 hl (k := 4) rfl (by decide) rfl (fun ls hl => ?_)
              refine lv_goto (tgt := 5) C.x C.b dX0_besideOf_107 (by decide) ?_
              exact ih5 v3 (v4 + 1) (by omega) (isum1_out (f := fun i => bI ((¬ sa (M 3) ((mtc (M 56)) v4 (i - 1)) < 0) ∧ (¬ sa (M 3) ((mtc (M 56)) v4 i) < 0) ∧ (a < 0 ∨ (sa (M 3) ((mtc (M 56)) v4 (i - 1)) = a ∧ sa (M 3) ((mtc (M 56)) v4 i) = b)))) (N := M 200 v4) (by omega) hb_ (by omega) rfl) (by omega) H locs ls hX hS (lv_sub hl [1, 2, 3, 4, 0] rfl)
            · refine lv_aload_n C.x C.b dX0_besideOf_32 rfl (lv_at hl 0 rfl) ?_
              refine lv_aload_n C.x C.b dX0_besideOf_33 rfl (lv_at hl 0 rfl) ?_
              refine x_ga C hX 5 (by decide) rfl q741 (fun _ h => h) dX0_besideOf_34 ?_
              refine lv_iload C.x C.b dX0_besideOf_37 (lv_at hl 4 rfl) ?_
              refine x_la C hX 5 rfl rfl rfl (by decide) rfl rfl (show 0 ≤ v4 ∧ v4 < F 6 from (by omega)) (by omega) (by decide) dX0_besideOf_39 ?_
              refine lv_iload C.x C.b dX0_besideOf_40 (lv_at hl 5 rfl) ?_
              refine r_const C dX0_besideOf_42 ?_
              refine r_isub C dX0_besideOf_43 ?_
              refine r_callVi (As := [.ref (B 55 v4), .int (zi (v5 - 1))]) (rest := []) (cells' := 0) (slots' := 0) C (met_X0_signAt l E A B F M G T v4 (v5 - 1) (show 0 ≤ v4 ∧ v4 < (F 6) from (by omega)) (show 0 ≤ (v5 - 1) ∧ (v5 - 1) < (M 200) v4 from (by omega))) (lw_V q178 q180 qs6 q86 q181) hd_X0_signAt rfl (by decide) (x_this C hX) hX hS hl.1 rfl (Nat.le_of_ble_eq_true rfl) dX0_besideOf_44 rfl rfl ⟨Nat.le_of_ble_eq_true rfl, Nat.le_of_ble_eq_true rfl⟩ (fun rr H locs hp hS => ?_)
              obtain ⟨hat, hrr, hX⟩ := hp
              have hrr : rr = sa ((M 3)) ((M 56) (24 * v4 + (v5 - 1))) := hrr
              subst hrr
              replace hat : -2 ≤ sa ((M 3)) ((M 56) (24 * v4 + (v5 - 1))) ∧ sa ((M 3)) ((M 56) (24 * v4 + (v5 - 1))) ≤ 23 := hat
              refine lv_istore (lv' := [(6, .int (zi (sa ((M 3)) ((M 56) (24 * v4 + (v5 - 1)))))), (0, .ref (B 49 0)), (1, .int (zi a)), (2, .int (zi b)), (3, .int (zi v3)), (4, .int (zi v4)), (5, .int (zi v5))]) C.x C.b dX0_besideOf_47 hl (by decide) rfl (fun ls hl => ?_)
              refine lv_aload_n C.x C.b dX0_besideOf_49 rfl (lv_at hl 1 rfl) ?_
              refine lv_aload_n C.x C.b dX0_besideOf_50 rfl (lv_at hl 1 rfl) ?_
              refine x_ga C hX 5 (by decide) rfl q741 (fun _ h => h) dX0_besideOf_51 ?_
              refine lv_iload C.x C.b dX0_besideOf_54 (lv_at hl 5 rfl) ?_
              refine x_la C hX 5 rfl rfl rfl (by decide) rfl rfl (show 0 ≤ v4 ∧ v4 < F 6 from (by omega)) (by omega) (by decide) dX0_besideOf_56 ?_
              refine lv_iload C.x C.b dX0_besideOf_57 (lv_at hl 6 rfl) ?_
              refine r_callVi (As := [.ref (B 55 v4), .int (zi v5)]) (rest := []) (cells' := 0) (slots' := 0) C (met_X0_signAt l E A B F M G T v4 v5 (show 0 ≤ v4 ∧ v4 < (F 6) from (by omega)) (show 0 ≤ v5 ∧ v5 < (M 200) v4 from (by omega))) (lw_V q178 q180 qs6 q86 q181) hd_X0_signAt rfl (by decide) (x_this C hX) hX hS hl.1 rfl (Nat.le_of_ble_eq_true rfl) dX0_besideOf_59 rfl rfl ⟨Nat.le_of_ble_eq_true rfl, Nat.le_of_ble_eq_true rfl⟩ (fun rr H locs hp hS => ?_)
              obtain ⟨hat, hrr, hX⟩ := hp
              have hrr : rr = sa ((M 3)) ((M 56) (24 * v4 + v5)) := hrr
              subst hrr
              replace hat : -2 ≤ sa ((M 3)) ((M 56) (24 * v4 + v5)) ∧ sa ((M 3)) ((M 56) (24 * v4 + v5)) ≤ 23 := hat
              refine lv_istore (lv' := [(7, .int (zi (sa ((M 3)) ((M 56) (24 * v4 + v5))))), (6, .int (zi (sa ((M 3)) ((M 56) (24 * v4 + (v5 - 1)))))), (0, .ref (B 49 0)), (1, .int (zi a)), (2, .int (zi b)), (3, .int (zi v3)), (4, .int (zi v4)), (5, .int (zi v5))]) C.x C.b dX0_besideOf_62 hl (by decide) rfl (fun ls hl => ?_)
              refine lv_iload_n C.x C.b dX0_besideOf_64 rfl (lv_at hl 5 rfl) ?_
              refine lv_iload C.x C.b dX0_besideOf_65 (lv_at hl 1 rfl) ?_
              have J96_3 : ∀ (t1 : Int) (ht1 : t1 = bI ((¬ ((sa ((M 3)) ((M 56) (24 * v4 + (v5 - 1)))) < 0)) ∧ ((¬ ((sa ((M 3)) ((M 56) (24 * v4 + v5))) < 0)) ∧ ((a < 0) ∨ (((sa ((M 3)) ((M 56) (24 * v4 + (v5 - 1)))) = a) ∧ ((sa ((M 3)) ((M 56) (24 * v4 + v5))) = b)))))) (H : Heap) (locs : List Loc) (ls : Array Slot) (hX : XH E A B F M G T H) (hS : va_S A s.heap H locs) (hl : lv_has ls 8 [(7, .int (zi (sa ((M 3)) ((M 56) (24 * v4 + v5))))), (6, .int (zi (sa ((M 3)) ((M 56) (24 * v4 + (v5 - 1)))))), (0, .ref (B 49 0)), (1, .int (zi a)), (2, .int (zi b)), (3, .int (zi v3)), (4, .int (zi v4)), (5, .int (zi v5))]), W p l e rm_X0_besideOf s m args below meth c H locs 0 0 QQ (F0 m 96 ls [.int (zi t1), .int (zi v3)]) := by
                intro t1 ht1 H locs ls hX hS hl
                subst ht1
                refine r_iadd C dX0_besideOf_96 ?_
                refine lv_istore_n (lv' := [(3, .int (zi (v3 + (bI ((¬ ((sa ((M 3)) ((M 56) (24 * v4 + (v5 - 1)))) < 0)) ∧ ((¬ ((sa ((M 3)) ((M 56) (24 * v4 + v5))) < 0)) ∧ ((a < 0) ∨ (((sa ((M 3)) ((M 56) (24 * v4 + (v5 - 1)))) = a) ∧ ((sa ((M 3)) ((M 56) (24 * v4 + v5))) = b))))))))), (7, .int (zi (sa ((M 3)) ((M 56) (24 * v4 + v5))))), (6, .int (zi (sa ((M 3)) ((M 56) (24 * v4 + (v5 - 1)))))), (0, .ref (B 49 0)), (1, .int (zi a)), (2, .int (zi b)), (4, .int (zi v4)), (5, .int (zi v5))]) C.x C.b dX0_besideOf_97 rfl hl (by decide) rfl (fun ls hl => ?_)
                refine r_iinc (lv' := [(5, .int (zi (v5 + 1))), (3, .int (zi (v3 + (bI ((¬ ((sa ((M 3)) ((M 56) (24 * v4 + (v5 - 1)))) < 0)) ∧ ((¬ ((sa ((M 3)) ((M 56) (24 * v4 + v5))) < 0)) ∧ ((a < 0) ∨ (((sa ((M 3)) ((M 56) (24 * v4 + (v5 - 1)))) = a) ∧ ((sa ((M 3)) ((M 56) (24 * v4 + v5))) = b))))))))), (7, .int (zi (sa ((M 3)) ((M 56) (24 * v4 + v5))))), (6, .int (zi (sa ((M 3)) ((M 56) (24 * v4 + (v5 - 1)))))), (0, .ref (B 49 0)), (1, .int (zi a)), (2, .int (zi b)), (4, .int (zi v4))]) C dX0_besideOf_98 hl (k := 7) rfl (by decide) rfl (fun ls hl => ?_)
                refine lv_goto (tgt := 17) C.x C.b dX0_besideOf_101 (by decide) ?_
                exact ih17 (v3 + (bI ((¬ ((sa ((M 3)) ((M 56) (24 * v4 + (v5 - 1)))) < 0)) ∧ ((¬ ((sa ((M 3)) ((M 56) (24 * v4 + v5))) < 0)) ∧ ((a < 0) ∨ (((sa ((M 3)) ((M 56) (24 * v4 + (v5 - 1)))) = a) ∧ ((sa ((M 3)) ((M 56) (24 * v4 + v5))) = b))))))) (v5 + 1) (by omega) (isum1_st2 (by omega) hb_ rfl) (by omega) H locs ls hX hS (lv_sub hl [4, 5, 6, 1, 7, 0] rfl)
              refine r_if_lt (tgt := 95) C (by omega) dX0_besideOf_67 (by decide) (fun c_4 => ?_) (fun c_4 => ?_)
              · refine r_const C dX0_besideOf_95 ?_
                exact J96_3 0 ((bI_f (fun q => (fun q => q c_4) q.1)).symm) H locs ls hX hS hl
              · refine lv_iload C.x C.b dX0_besideOf_70 (lv_at hl 0 rfl) ?_
                refine r_if_lt (tgt := 95) C (by omega) dX0_besideOf_72 (by decide) (fun c_5 => ?_) (fun c_5 => ?_)
                · refine r_const C dX0_besideOf_95 ?_
                  exact J96_3 0 ((bI_f (fun q => (fun q => (fun q => q c_5) q.1) q.2)).symm) H locs ls hX hS hl
                · refine lv_iload_n C.x C.b dX0_besideOf_75 rfl (lv_at hl 3 rfl) ?_
                  refine r_if_lt (tgt := 91) C (by omega) dX0_besideOf_76 (by decide) (fun c_6 => ?_) (fun c_6 => ?_)
                  · refine r_const C dX0_besideOf_91 ?_
                    refine lv_goto (tgt := 96) C.x C.b dX0_besideOf_92 (by decide) ?_
                    exact J96_3 1 ((bI_t ⟨c_4, ⟨c_5, (Or.inl c_6)⟩⟩).symm) H locs ls hX hS hl
                  · refine lv_iload C.x C.b dX0_besideOf_79 (lv_at hl 1 rfl) ?_
                    refine lv_iload_n C.x C.b dX0_besideOf_81 rfl (lv_at hl 3 rfl) ?_
                    refine r_icmp_ne (tgt := 95) C (by omega) (by omega) dX0_besideOf_82 (by decide) (fun c_7 => ?_) (fun c_7 => ?_)
                    · refine r_const C dX0_besideOf_95 ?_
                      exact J96_3 0 ((bI_f (fun q => (fun q => (fun q => q.elim c_6 (fun q => c_7 q.1)) q.2) q.2)).symm) H locs ls hX hS hl
                    · refine lv_iload C.x C.b dX0_besideOf_85 (lv_at hl 0 rfl) ?_
                      refine lv_iload_n C.x C.b dX0_besideOf_87 rfl (lv_at hl 4 rfl) ?_
                      refine r_icmp_ne (tgt := 95) C (by omega) (by omega) dX0_besideOf_88 (by decide) (fun c_8 => ?_) (fun c_8 => ?_)
                      · refine r_const C dX0_besideOf_95 ?_
                        exact J96_3 0 ((bI_f (fun q => (fun q => (fun q => q.elim c_6 (fun q => c_8 q.2)) q.2) q.2)).symm) H locs ls hX hS hl
                      · refine r_const C dX0_besideOf_91 ?_
                        refine lv_goto (tgt := 96) C.x C.b dX0_besideOf_92 (by decide) ?_
                        exact J96_3 1 ((bI_t ⟨c_4, ⟨c_5, (Or.inr ⟨c_7, c_8⟩)⟩⟩).symm) H locs ls hX hS hl
        have r5 := h24 v4
        exact L17 _ v3 1 (by omega) (by rw [ha_]; exact (Int.add_zero _).symm) (Nat.lt_succ_self _) H locs ls hX hS (lv_sub hl [1, 2, 3, 4, 5, 0] rfl)
  exact L5 _ 0 0 (by omega) rfl (Nat.lt_succ_self _) H locs ls hX hS (lv_sub hl [2, 3, 4, 1, 0] rfl)

theorem hd_X0_beside : yX0_beside.cls = RX0 ∧ yX0_beside.cls ≠ "java/lang/invoke/MethodHandle" ∧ yX0_beside.cls ≠ "java/lang/invoke/VarHandle" ∧ (parseMethodDescriptor yX0_beside.desc).map (fun d => d.parameters.length) = some 2 := by decide +kernel
abbrev rm_X0_beside : Room := { frames := 3, cells := 0, slots := 0, locals := 67 }
set_option maxHeartbeats 8000000 in
theorem met_X0_beside (l : Launch) (E : us_E) (A : Nat → Prop) (B : Nat → Int → Nat) (F : Nat → Int) (M : Nat → Int → Int) (G : Nat → Int → Option Nat) (T : x_T) (a : Int) (b : Int) (ha : -2147483648 ≤ a ∧ a < 2147483648) (hb : -2147483648 ≤ b ∧ b < 2147483648) : cMet l yX0_beside cX0_beside 3 (some .int) rm_X0_beside A E [.ref (B 49 0), .int (zi a), .int (zi b)] (fun H => XH E A B F M G T H) (qi A (fun r H => ∃ m3 : Int → Int, SgOK (F 1) (M 0) (F 2) m3 ∧ (r = sel (((0 ≤ a ∧ a < F 1) ∧ m3 a = a) ∧ ((0 ≤ b ∧ b < F 1) ∧ m3 b = b)) (bes m3 (mtc (M 56)) (M 200) (F 6) a b) (-1)) ∧ XH E A B F (va_up M 3 m3) G T H)) := by
  refine cMet.of (by decide) (Nat.le_of_ble_eq_true rfl) (fun p e s m args below meth c C hnm hX hS ls hl => ?_)
  have C : Cx p s m args meth c A RX0 cX0_beside 3 (some .int) E := C
  have hX : XH E A B F M G T s.heap := hX
  have hl : lv_has ls 3 [(0, .ref (B 49 0)), (1, .int (zi a)), (2, .int (zi b))] := hl
  generalize hH : s.heap = H at hX
  have hS : va_S A s.heap H [] := by rw [← hH]; exact hS
  generalize hlocs : ([] : List Loc) = locs at hS ⊢
  obtain ⟨QQ, hQQ⟩ : ∃ z, MQ below (qi A (fun r H => ∃ m3 : Int → Int, SgOK (F 1) (M 0) (F 2) m3 ∧ (r = sel (((0 ≤ a ∧ a < F 1) ∧ m3 a = a) ∧ ((0 ≤ b ∧ b < F 1) ∧ m3 b = b)) (bes m3 (mtc (M 56)) (M 200) (F 6) a b) (-1)) ∧ XH E A B F (va_up M 3 m3) G T H)) args s (rm_X0_beside).cells (rm_X0_beside).slots A = z := ⟨_, rfl⟩
  rw [hQQ]
  refine lv_aload_n C.x C.b dX0_beside_0 rfl (lv_at hl 0 rfl) ?_
  refine r_callVv (As := []) (rest := []) (cells' := 0) (slots' := 0) C (met_X0_layAll l E A B F M G T) (lw_V q134 q136 qs1 q86 q137) hd_X0_layAll rfl (by decide) (x_this C hX) hX hS hl.1 rfl (Nat.le_of_ble_eq_true rfl) dX0_beside_1 rfl rfl ⟨Nat.le_of_ble_eq_true rfl, Nat.le_of_ble_eq_true rfl⟩ (fun H locs hp hS => ?_)
  obtain ⟨m3_1, hsg, hX⟩ := hp
  replace hsg : SgOK ((F 1)) ((M 0)) ((F 2)) m3_1 := hsg
  have hX : XH E A B F (va_up M 3 m3_1) G T H := hX.to rfl rfl rfl rfl rfl
  refine lv_aload_n C.x C.b dX0_beside_4 rfl (lv_at hl 0 rfl) ?_
  refine lv_iload_n C.x C.b dX0_beside_5 rfl (lv_at hl 1 rfl) ?_
  refine r_callVi (As := [.int (zi a)]) (rest := []) (cells' := 0) (slots' := 0) C (met_X0_isSign l E A B F (va_up M 3 m3_1) G T a (show -2147483648 ≤ a ∧ a < 2147483648 from (by omega))) (lw_V q153 q155 qs3 q86 q156) hd_X0_isSign rfl (by decide) (x_this C hX) hX hS hl.1 rfl (Nat.le_of_ble_eq_true rfl) dX0_beside_6 rfl rfl ⟨Nat.le_of_ble_eq_true rfl, Nat.le_of_ble_eq_true rfl⟩ (fun rr H locs hp hS => ?_)
  obtain ⟨hrr, hX⟩ := hp
  have hrr : rr = bI ((0 ≤ a ∧ a < (F 1)) ∧ m3_1 a = a) := hrr
  subst hrr
  refine r_if_eq_b (tgt := 29) C dX0_beside_9 (by decide) (fun c_2 => ?_) (fun c_2 => ?_)
  · refine r_const C dX0_beside_29 ?_
    rw [← hQQ]
    exact r_iret C hS (Nat.le_of_ble_eq_true rfl) (Nat.le_of_ble_eq_true rfl) dX0_beside_30 ⟨m3_1, (by first | rfl | assumption | exact (sel_t (by omega)).symm | exact (sel_f (by omega)).symm | omega), (by first | exact Eq.symm (sel_t ⟨by assumption, by assumption⟩) | exact Eq.symm (sel_f (fun q => absurd q.1 (by assumption))) | exact Eq.symm (sel_f (fun q => absurd q.2 (by assumption)))), hX⟩
  · refine lv_aload_n C.x C.b dX0_beside_12 rfl (lv_at hl 0 rfl) ?_
    refine lv_iload_n C.x C.b dX0_beside_13 rfl (lv_at hl 2 rfl) ?_
    refine r_callVi (As := [.int (zi b)]) (rest := []) (cells' := 0) (slots' := 0) C (met_X0_isSign l E A B F (va_up M 3 m3_1) G T b (show -2147483648 ≤ b ∧ b < 2147483648 from (by omega))) (lw_V q153 q155 qs3 q86 q156) hd_X0_isSign rfl (by decide) (x_this C hX) hX hS hl.1 rfl (Nat.le_of_ble_eq_true rfl) dX0_beside_14 rfl rfl ⟨Nat.le_of_ble_eq_true rfl, Nat.le_of_ble_eq_true rfl⟩ (fun rr H locs hp hS => ?_)
    obtain ⟨hrr, hX⟩ := hp
    have hrr : rr = bI ((0 ≤ b ∧ b < (F 1)) ∧ m3_1 b = b) := hrr
    subst hrr
    refine r_if_eq_b (tgt := 29) C dX0_beside_17 (by decide) (fun c_3 => ?_) (fun c_3 => ?_)
    · refine r_const C dX0_beside_29 ?_
      rw [← hQQ]
      exact r_iret C hS (Nat.le_of_ble_eq_true rfl) (Nat.le_of_ble_eq_true rfl) dX0_beside_30 ⟨m3_1, (by first | rfl | assumption | exact (sel_t (by omega)).symm | exact (sel_f (by omega)).symm | omega), (by first | exact Eq.symm (sel_t ⟨by assumption, by assumption⟩) | exact Eq.symm (sel_f (fun q => absurd q.1 (by assumption))) | exact Eq.symm (sel_f (fun q => absurd q.2 (by assumption)))), hX⟩
    · refine lv_aload_n C.x C.b dX0_beside_20 rfl (lv_at hl 0 rfl) ?_
      refine lv_iload_n C.x C.b dX0_beside_21 rfl (lv_at hl 1 rfl) ?_
      refine lv_iload_n C.x C.b dX0_beside_22 rfl (lv_at hl 2 rfl) ?_
      refine r_callVi (As := [.int (zi a), .int (zi b)]) (rest := []) (cells' := 0) (slots' := 0) C (met_X0_besideOf l E A B F (va_up M 3 m3_1) G T a b (show -2147483648 ≤ a ∧ a < 2147483648 from (by omega)) (show -2147483648 ≤ b ∧ b < 2147483648 from (by omega))) (lw_V q205 q207 qs8 q86 q208) hd_X0_besideOf rfl (by decide) (x_this C hX) hX hS hl.1 rfl (Nat.le_of_ble_eq_true rfl) dX0_beside_23 rfl rfl ⟨Nat.le_of_ble_eq_true rfl, Nat.le_of_ble_eq_true rfl⟩ (fun rr H locs hp hS => ?_)
      obtain ⟨hbs, hrr, hX⟩ := hp
      have hrr : rr = bes (m3_1) (mtc ((M 56))) ((M 200)) ((F 6)) a b := hrr
      subst hrr
      replace hbs : 0 ≤ bes (m3_1) (mtc ((M 56))) ((M 200)) ((F 6)) a b ∧ bes (m3_1) (mtc ((M 56))) ((M 200)) ((F 6)) a b ≤ 192 := hbs
      refine lv_goto (tgt := 30) C.x C.b dX0_beside_26 (by decide) ?_
      rw [← hQQ]
      exact r_iret C hS (Nat.le_of_ble_eq_true rfl) (Nat.le_of_ble_eq_true rfl) dX0_beside_30 ⟨m3_1, (by first | rfl | assumption | exact (sel_t (by omega)).symm | exact (sel_f (by omega)).symm | omega), (by first | exact Eq.symm (sel_t ⟨by assumption, by assumption⟩) | exact Eq.symm (sel_f (fun q => absurd q.1 (by assumption))) | exact Eq.symm (sel_f (fun q => absurd q.2 (by assumption)))), hX⟩
