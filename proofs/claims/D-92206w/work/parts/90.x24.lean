set_option maxRecDepth 100000

theorem zi_wr {z : Int} (h : -2147483648 ≤ z ∧ z < 4294967296) : ∃ w : Int, zi z = zi w ∧ (-2147483648 ≤ w ∧ w < 2147483648) ∧ (w = z ∨ (w < 0 ∧ 2147483648 ≤ z)) := by
  rcases Int.lt_or_le z 2147483648 with q | q
  · exact ⟨z, rfl, ⟨h.1, q⟩, Or.inl rfl⟩
  · refine ⟨z - 4294967296, ?_, by omega, Or.inr ⟨by omega, q⟩⟩
    apply Int32.toInt_inj.1
    have h1 : (zi z).toInt = Int.bmod z (2 ^ 32) := Int32.toInt_ofInt
    have h2 : (zi (z - 4294967296)).toInt = Int.bmod (z - 4294967296) (2 ^ 32) := Int32.toInt_ofInt
    rw [h1, h2]
    simp only [Int.bmod_def]
    omega

theorem hd_X0_cell : yX0_cell.cls ≠ "java/lang/invoke/MethodHandle" ∧ yX0_cell.cls ≠ "java/lang/invoke/VarHandle" ∧ (parseMethodDescriptor yX0_cell.desc).map (fun d => d.parameters.length) = some 3 := by decide +kernel
abbrev rm_X0_cell : Room := { frames := 8, cells := 3, slots := 610, locals := 10260 }
set_option maxHeartbeats 8000000 in
theorem met_X0_cell (l : Launch) (E : us_E) (A : Nat → Prop) (B : Nat → Int → Nat) (F : Nat → Int) (M : Nat → Int → Int) (G : Nat → Int → Option Nat) (T : x_T) (k : Int) (y : Int) (i : Int) (hl0 : l.stackTraces = false) (h203 : ∀ j : Int, M 203 j = -4 ∨ 0 ≤ M 203 j) (hk : 0 ≤ k ∧ k < 4) (hy : 0 ≤ y ∧ y ≤ 2) (hi : -2147483648 ≤ i ∧ i < 2147483648) : cMetX l yX0_cell cX0_cell 3 (some .int) rm_X0_cell A E [(if M 203 k = -4 then .null else .ref (B 61 k)), .int (zi y), .int (zi i)] (fun H => XH E A B F M G T H) (qi A (fun r H => (M 203 k = y ∧ 0 ≤ i ∧ i < M 204 k) ∧ (r = M 61 (60 * k + i)) ∧ XH E A B F M G T H)) (fun qf En H => ((En = "java/lang/NullPointerException" ∧ M 203 k = -4) ∨ (En = "java/lang/ClassCastException" ∧ ¬ M 203 k = -4 ∧ ¬ M 203 k = y) ∨ (En = "java/lang/ArrayIndexOutOfBoundsException" ∧ M 203 k = y ∧ ¬ (0 ≤ i ∧ i < M 204 k))) ∧ XH E A B F M G T H) := by
  refine cMetX.of (by decide) (by by_cases q : M 203 k = -4; rw [if_pos q]; exact Nat.le_of_ble_eq_true rfl; rw [if_neg q]; exact Nat.le_of_ble_eq_true rfl) (fun p e s m args below meth c C hnm hnt hX hS ls hl => ?_)
  have C : Cx p s m args meth c A RX0 cX0_cell 3 (some .int) E := C
  have hX : XH E A B F M G T s.heap := hX
  have hl : lv_has ls 3 [(0, (if M 203 k = -4 then .null else .ref (B 61 k))), (1, .int (zi y)), (2, .int (zi i))] := (by by_cases q : M 203 k = -4; rw [if_pos q] at hl ⊢; exact hl; rw [if_neg q] at hl ⊢; exact hl)
  generalize hH : s.heap = H at hX
  have hS : va_S A s.heap H [] := by rw [← hH]; exact hS
  generalize hlocs : ([] : List Loc) = locs at hS ⊢
  obtain ⟨QQ, hQQ⟩ : ∃ zQQ, vq_MQ below (qi A (fun r H => (M 203 k = y ∧ 0 ≤ i ∧ i < M 204 k) ∧ (r = M 61 (60 * k + i)) ∧ XH E A B F M G T H)) (qx A (fun qf En H => ((En = "java/lang/NullPointerException" ∧ M 203 k = -4) ∨ (En = "java/lang/ClassCastException" ∧ ¬ M 203 k = -4 ∧ ¬ M 203 k = y) ∨ (En = "java/lang/ArrayIndexOutOfBoundsException" ∧ M 203 k = y ∧ ¬ (0 ≤ i ∧ i < M 204 k))) ∧ XH E A B F M G T H)) args s (rm_X0_cell).cells (rm_X0_cell).slots A = zQQ := ⟨_, rfl⟩
  rw [hQQ]
  have r203 : -4 ≤ M 203 k ∧ M 203 k ≤ 2 := hX.2.2.1 203 (-4, 2) rfl k
  have r204 : 0 ≤ M 204 k ∧ M 204 k ≤ 60 := hX.2.2.1 204 (0, 60) rfl k
  have hm203 := h203 k
  by_cases hzn : M 203 k = -4
  · rw [if_pos hzn] at hl
    refine lv_iload_n C.x C.b dX0_cell_0 rfl (lv_at hl 1 rfl) ?_
    refine r_if_ne (tgt := 13) C (by omega) dX0_cell_1 (by decide) (fun c_1 => ?_) (fun c_1 => ?_)
    · refine lv_iload_n C.x C.b dX0_cell_13 rfl (lv_at hl 1 rfl) ?_
      refine r_const C dX0_cell_14 ?_
      refine r_icmp_ne (tgt := 27) C (by omega) (by decide) dX0_cell_15 (by decide) (fun c_2 => ?_) (fun c_2 => ?_)
      · refine lv_aload_nN C.x C.b dX0_cell_27 rfl (lv_at hl 0 rfl) ?_
        refine lv_castN C.x C.b dX0_cell_28 ?_
        refine lv_iload_n C.x C.b dX0_cell_31 rfl (lv_at hl 2 rfl) ?_
        refine vx_ialoadN C.x C.b dX0_cell_32 (r_npe C hX hS hl0 hl.1 (Nat.le_of_ble_eq_true rfl) (Nat.le_of_ble_eq_true rfl) (Nat.le_of_ble_eq_true rfl) (Nat.le_of_ble_eq_true rfl) (fun q9 ce H hX hS hx1 hx2 hx3 => ?_))
        rw [← hQQ]
        exact r_xout C hnt hS (Nat.le_of_ble_eq_true rfl) (Nat.le_of_ble_eq_true rfl) hx1 hx2 hx3 ⟨(Or.inl ⟨rfl, hzn⟩), hX⟩
      · refine lv_aload_nN C.x C.b dX0_cell_18 rfl (lv_at hl 0 rfl) ?_
        refine lv_castN C.x C.b dX0_cell_19 ?_
        refine lv_iload_n C.x C.b dX0_cell_22 rfl (lv_at hl 2 rfl) ?_
        refine vx_saloadN C.x C.b dX0_cell_23 (r_npe C hX hS hl0 hl.1 (Nat.le_of_ble_eq_true rfl) (Nat.le_of_ble_eq_true rfl) (Nat.le_of_ble_eq_true rfl) (Nat.le_of_ble_eq_true rfl) (fun q9 ce H hX hS hx1 hx2 hx3 => ?_))
        rw [← hQQ]
        exact r_xout C hnt hS (Nat.le_of_ble_eq_true rfl) (Nat.le_of_ble_eq_true rfl) hx1 hx2 hx3 ⟨(Or.inl ⟨rfl, hzn⟩), hX⟩
    · refine lv_aload_nN C.x C.b dX0_cell_4 rfl (lv_at hl 0 rfl) ?_
      refine lv_castN C.x C.b dX0_cell_5 ?_
      refine lv_iload_n C.x C.b dX0_cell_8 rfl (lv_at hl 2 rfl) ?_
      refine vx_baloadN C.x C.b dX0_cell_9 (r_npe C hX hS hl0 hl.1 (Nat.le_of_ble_eq_true rfl) (Nat.le_of_ble_eq_true rfl) (Nat.le_of_ble_eq_true rfl) (Nat.le_of_ble_eq_true rfl) (fun q9 ce H hX hS hx1 hx2 hx3 => ?_))
      rw [← hQQ]
      exact r_xout C hnt hS (Nat.le_of_ble_eq_true rfl) (Nat.le_of_ble_eq_true rfl) hx1 hx2 hx3 ⟨(Or.inl ⟨rfl, hzn⟩), hX⟩
  · rw [if_neg hzn] at hl
    refine lv_iload_n C.x C.b dX0_cell_0 rfl (lv_at hl 1 rfl) ?_
    refine r_if_ne (tgt := 13) C (by omega) dX0_cell_1 (by decide) (fun c_3 => ?_) (fun c_3 => ?_)
    · refine lv_iload_n C.x C.b dX0_cell_13 rfl (lv_at hl 1 rfl) ?_
      refine r_const C dX0_cell_14 ?_
      refine r_icmp_ne (tgt := 27) C (by omega) (by decide) dX0_cell_15 (by decide) (fun c_4 => ?_) (fun c_4 => ?_)
      · refine lv_aload_n C.x C.b dX0_cell_27 rfl (lv_at hl 0 rfl) ?_
        rcases (show M 203 k = 0 ∨ M 203 k = 1 ∨ M 203 k = 2 by omega) with hr_5 | hr_5 | hr_5
        · refine x_castNo C hX (show 0 ≤ k ∧ k < 4 from by omega) hzn (show s.vm.findClass "[B" = some (E.2 (rty (M 203 k))) from by rw [show rty (M 203 k) = 1 from (if_pos hr_5)]; exact an_B C) (t2 := 0) rfl (an_I C) (by decide +kernel) (by decide +kernel) (by decide +kernel) (by decide +kernel) q718 dX0_cell_28 (fun tx htx => ?_)
          refine r_vmCC C hX hS hl0 hl.1 htx (Nat.le_of_ble_eq_true rfl) (Nat.le_of_ble_eq_true rfl) (Nat.le_of_ble_eq_true rfl) (Nat.le_of_ble_eq_true rfl) (fun q9 ce H hX hS hx1 hx2 hx3 => ?_)
          rw [← hQQ]
          exact r_xout C hnt hS (Nat.le_of_ble_eq_true rfl) (Nat.le_of_ble_eq_true rfl) hx1 hx2 hx3 ⟨(Or.inr (Or.inl ⟨rfl, hzn, by omega⟩)), hX⟩
        · refine x_castNo C hX (show 0 ≤ k ∧ k < 4 from by omega) hzn (show s.vm.findClass "[S" = some (E.2 (rty (M 203 k))) from by rw [show rty (M 203 k) = 2 from ((if_neg (by omega)).trans (if_pos hr_5))]; exact an_S C) (t2 := 0) rfl (an_I C) (by decide +kernel) (by decide +kernel) (by decide +kernel) (by decide +kernel) q718 dX0_cell_28 (fun tx htx => ?_)
          refine r_vmCC C hX hS hl0 hl.1 htx (Nat.le_of_ble_eq_true rfl) (Nat.le_of_ble_eq_true rfl) (Nat.le_of_ble_eq_true rfl) (Nat.le_of_ble_eq_true rfl) (fun q9 ce H hX hS hx1 hx2 hx3 => ?_)
          rw [← hQQ]
          exact r_xout C hnt hS (Nat.le_of_ble_eq_true rfl) (Nat.le_of_ble_eq_true rfl) hx1 hx2 hx3 ⟨(Or.inr (Or.inl ⟨rfl, hzn, by omega⟩)), hX⟩
        · refine x_cast C hX (show 0 ≤ k ∧ k < 4 from by omega) hzn (show s.vm.findClass "[I" = some (E.2 (rty (M 203 k))) from by rw [show rty (M 203 k) = 0 from ((if_neg (by omega)).trans (if_neg (by omega)))]; exact an_I C) q718 dX0_cell_28 ?_
          refine lv_iload_n C.x C.b dX0_cell_31 rfl (lv_at hl 2 rfl) ?_
          by_cases hi_6 : 0 ≤ i ∧ i < M 204 k
          · refine x_li61 C hX (show 0 ≤ k ∧ k < 4 from by omega) hzn ⟨by omega, by omega⟩ hi_6 dX0_cell_32 ?_
            rw [← hQQ]
            refine vq_ret ?_
            exact r_iret C hS (Nat.le_of_ble_eq_true rfl) (Nat.le_of_ble_eq_true rfl) dX0_cell_33 ⟨(by omega), (by first | rfl | exact (sel_t (by omega)).symm | exact (sel_f (by omega)).symm | omega), hX⟩
          · refine x_li61Z C hX (show 0 ≤ k ∧ k < 4 from by omega) hzn ⟨by omega, by omega⟩ (by omega) hi_6 dX0_cell_32 (fun tx htx => ?_)
            refine r_vmAI C hX hS hl0 hl.1 htx (Nat.le_of_ble_eq_true rfl) (Nat.le_of_ble_eq_true rfl) (Nat.le_of_ble_eq_true rfl) (Nat.le_of_ble_eq_true rfl) (fun q9 ce H hX hS hx1 hx2 hx3 => ?_)
            rw [← hQQ]
            exact r_xout C hnt hS (Nat.le_of_ble_eq_true rfl) (Nat.le_of_ble_eq_true rfl) hx1 hx2 hx3 ⟨(Or.inr (Or.inr ⟨rfl, by omega, by assumption⟩)), hX⟩
      · refine lv_aload_n C.x C.b dX0_cell_18 rfl (lv_at hl 0 rfl) ?_
        rcases (show M 203 k = 0 ∨ M 203 k = 1 ∨ M 203 k = 2 by omega) with hr_7 | hr_7 | hr_7
        · refine x_castNo C hX (show 0 ≤ k ∧ k < 4 from by omega) hzn (show s.vm.findClass "[B" = some (E.2 (rty (M 203 k))) from by rw [show rty (M 203 k) = 1 from (if_pos hr_7)]; exact an_B C) (t2 := 2) rfl (an_S C) (by decide +kernel) (by decide +kernel) (by decide +kernel) (by decide +kernel) q971 dX0_cell_19 (fun tx htx => ?_)
          refine r_vmCC C hX hS hl0 hl.1 htx (Nat.le_of_ble_eq_true rfl) (Nat.le_of_ble_eq_true rfl) (Nat.le_of_ble_eq_true rfl) (Nat.le_of_ble_eq_true rfl) (fun q9 ce H hX hS hx1 hx2 hx3 => ?_)
          rw [← hQQ]
          exact r_xout C hnt hS (Nat.le_of_ble_eq_true rfl) (Nat.le_of_ble_eq_true rfl) hx1 hx2 hx3 ⟨(Or.inr (Or.inl ⟨rfl, hzn, by omega⟩)), hX⟩
        · refine x_cast C hX (show 0 ≤ k ∧ k < 4 from by omega) hzn (show s.vm.findClass "[S" = some (E.2 (rty (M 203 k))) from by rw [show rty (M 203 k) = 2 from ((if_neg (by omega)).trans (if_pos hr_7))]; exact an_S C) q971 dX0_cell_19 ?_
          refine lv_iload_n C.x C.b dX0_cell_22 rfl (lv_at hl 2 rfl) ?_
          by_cases hi_8 : 0 ≤ i ∧ i < M 204 k
          · refine x_ls61 C hX (show 0 ≤ k ∧ k < 4 from by omega) hzn hr_7 hi_8 dX0_cell_23 ?_
            refine lv_goto (tgt := 33) C.x C.b dX0_cell_24 (by decide) ?_
            rw [← hQQ]
            refine vq_ret ?_
            exact r_iret C hS (Nat.le_of_ble_eq_true rfl) (Nat.le_of_ble_eq_true rfl) dX0_cell_33 ⟨(by omega), (by first | rfl | exact (sel_t (by omega)).symm | exact (sel_f (by omega)).symm | omega), hX⟩
          · refine x_ls61Z C hX (show 0 ≤ k ∧ k < 4 from by omega) hzn hr_7 (by omega) hi_8 dX0_cell_23 (fun tx htx => ?_)
            refine r_vmAI C hX hS hl0 hl.1 htx (Nat.le_of_ble_eq_true rfl) (Nat.le_of_ble_eq_true rfl) (Nat.le_of_ble_eq_true rfl) (Nat.le_of_ble_eq_true rfl) (fun q9 ce H hX hS hx1 hx2 hx3 => ?_)
            rw [← hQQ]
            exact r_xout C hnt hS (Nat.le_of_ble_eq_true rfl) (Nat.le_of_ble_eq_true rfl) hx1 hx2 hx3 ⟨(Or.inr (Or.inr ⟨rfl, by omega, by assumption⟩)), hX⟩
        · refine x_castNo C hX (show 0 ≤ k ∧ k < 4 from by omega) hzn (show s.vm.findClass "[I" = some (E.2 (rty (M 203 k))) from by rw [show rty (M 203 k) = 0 from ((if_neg (by omega)).trans (if_neg (by omega)))]; exact an_I C) (t2 := 2) rfl (an_S C) (by decide +kernel) (by decide +kernel) (by decide +kernel) (by decide +kernel) q971 dX0_cell_19 (fun tx htx => ?_)
          refine r_vmCC C hX hS hl0 hl.1 htx (Nat.le_of_ble_eq_true rfl) (Nat.le_of_ble_eq_true rfl) (Nat.le_of_ble_eq_true rfl) (Nat.le_of_ble_eq_true rfl) (fun q9 ce H hX hS hx1 hx2 hx3 => ?_)
          rw [← hQQ]
          exact r_xout C hnt hS (Nat.le_of_ble_eq_true rfl) (Nat.le_of_ble_eq_true rfl) hx1 hx2 hx3 ⟨(Or.inr (Or.inl ⟨rfl, hzn, by omega⟩)), hX⟩
    · refine lv_aload_n C.x C.b dX0_cell_4 rfl (lv_at hl 0 rfl) ?_
      rcases (show M 203 k = 0 ∨ M 203 k = 1 ∨ M 203 k = 2 by omega) with hr_9 | hr_9 | hr_9
      · refine x_cast C hX (show 0 ≤ k ∧ k < 4 from by omega) hzn (show s.vm.findClass "[B" = some (E.2 (rty (M 203 k))) from by rw [show rty (M 203 k) = 1 from (if_pos hr_9)]; exact an_B C) q970 dX0_cell_5 ?_
        refine lv_iload_n C.x C.b dX0_cell_8 rfl (lv_at hl 2 rfl) ?_
        by_cases hi_10 : 0 ≤ i ∧ i < M 204 k
        · refine x_lb61 C hX (show 0 ≤ k ∧ k < 4 from by omega) hzn hr_9 hi_10 dX0_cell_9 ?_
          refine lv_goto (tgt := 33) C.x C.b dX0_cell_10 (by decide) ?_
          rw [← hQQ]
          refine vq_ret ?_
          exact r_iret C hS (Nat.le_of_ble_eq_true rfl) (Nat.le_of_ble_eq_true rfl) dX0_cell_33 ⟨(by omega), (by first | rfl | exact (sel_t (by omega)).symm | exact (sel_f (by omega)).symm | omega), hX⟩
        · refine x_lb61Z C hX (show 0 ≤ k ∧ k < 4 from by omega) hzn hr_9 (by omega) hi_10 dX0_cell_9 (fun tx htx => ?_)
          refine r_vmAI C hX hS hl0 hl.1 htx (Nat.le_of_ble_eq_true rfl) (Nat.le_of_ble_eq_true rfl) (Nat.le_of_ble_eq_true rfl) (Nat.le_of_ble_eq_true rfl) (fun q9 ce H hX hS hx1 hx2 hx3 => ?_)
          rw [← hQQ]
          exact r_xout C hnt hS (Nat.le_of_ble_eq_true rfl) (Nat.le_of_ble_eq_true rfl) hx1 hx2 hx3 ⟨(Or.inr (Or.inr ⟨rfl, by omega, by assumption⟩)), hX⟩
      · refine x_castNo C hX (show 0 ≤ k ∧ k < 4 from by omega) hzn (show s.vm.findClass "[S" = some (E.2 (rty (M 203 k))) from by rw [show rty (M 203 k) = 2 from ((if_neg (by omega)).trans (if_pos hr_9))]; exact an_S C) (t2 := 1) rfl (an_B C) (by decide +kernel) (by decide +kernel) (by decide +kernel) (by decide +kernel) q970 dX0_cell_5 (fun tx htx => ?_)
        refine r_vmCC C hX hS hl0 hl.1 htx (Nat.le_of_ble_eq_true rfl) (Nat.le_of_ble_eq_true rfl) (Nat.le_of_ble_eq_true rfl) (Nat.le_of_ble_eq_true rfl) (fun q9 ce H hX hS hx1 hx2 hx3 => ?_)
        rw [← hQQ]
        exact r_xout C hnt hS (Nat.le_of_ble_eq_true rfl) (Nat.le_of_ble_eq_true rfl) hx1 hx2 hx3 ⟨(Or.inr (Or.inl ⟨rfl, hzn, by omega⟩)), hX⟩
      · refine x_castNo C hX (show 0 ≤ k ∧ k < 4 from by omega) hzn (show s.vm.findClass "[I" = some (E.2 (rty (M 203 k))) from by rw [show rty (M 203 k) = 0 from ((if_neg (by omega)).trans (if_neg (by omega)))]; exact an_I C) (t2 := 1) rfl (an_B C) (by decide +kernel) (by decide +kernel) (by decide +kernel) (by decide +kernel) q970 dX0_cell_5 (fun tx htx => ?_)
        refine r_vmCC C hX hS hl0 hl.1 htx (Nat.le_of_ble_eq_true rfl) (Nat.le_of_ble_eq_true rfl) (Nat.le_of_ble_eq_true rfl) (Nat.le_of_ble_eq_true rfl) (fun q9 ce H hX hS hx1 hx2 hx3 => ?_)
        rw [← hQQ]
        exact r_xout C hnt hS (Nat.le_of_ble_eq_true rfl) (Nat.le_of_ble_eq_true rfl) hx1 hx2 hx3 ⟨(Or.inr (Or.inl ⟨rfl, hzn, by omega⟩)), hX⟩

theorem hd_X0_lay : yX0_lay.cls = RX0 ∧ yX0_lay.cls ≠ "java/lang/invoke/MethodHandle" ∧ yX0_lay.cls ≠ "java/lang/invoke/VarHandle" ∧ (parseMethodDescriptor yX0_lay.desc).map (fun d => d.parameters.length) = some 3 := by decide +kernel
abbrev rm_X0_lay : Room := { frames := 8, cells := 3, slots := 610, locals := 10260 }
set_option maxHeartbeats 8000000 in
theorem met_X0_lay (l : Launch) (E : us_E) (A : Nat → Prop) (B : Nat → Int → Nat) (F : Nat → Int) (M : Nat → Int → Int) (G : Nat → Int → Option Nat) (T : x_T) (k : Int) (i : Int) (v : Int) (hl0 : l.stackTraces = false) (h203 : ∀ j : Int, M 203 j = -4 ∨ 0 ≤ M 203 j) (hk : -2147483648 ≤ k ∧ k < 2147483648) (hi : -2147483648 ≤ i ∧ i < 2147483648) (hv : -2147483648 ≤ v ∧ v < 2147483648) : cMetH l yX0_lay cX0_lay 6 (some .int) [((25 : Nat), (74 : Nat), (75 : Nat), (424 : Nat)), ((25 : Nat), (74 : Nat), (80 : Nat), (426 : Nat))] rm_X0_lay A E [.ref (B 49 0), .int (zi k), .int (zi i), .int (zi v)] (fun H => XH E A B F M G T H) (qi A (fun r H => ∃ m61 : Int → Int, (m61 = sel (((0 ≤ k ∧ k ≤ 3) ∧ ¬ M 203 k = -4) ∧ (0 ≤ i ∧ i ≤ M 204 k - 1)) (fup (M 61) (60 * k + i) (nrw (M 203 k) v)) (M 61)) ∧ (r = sel (0 ≤ k ∧ k ≤ 3) (sel (M 203 k = -4) (-11) (sel (0 ≤ i ∧ i ≤ M 204 k - 1) 1 (-12))) (-1)) ∧ XH E A B F (va_up M 61 m61) G T H)) := by
  refine cMetH.of (by decide) (Nat.le_of_ble_eq_true rfl) (fun p e s m args below meth c C hnm htab hX hS ls hl => ?_)
  have C : Cx p s m args meth c A RX0 cX0_lay 6 (some .int) E := C
  have hX : XH E A B F M G T s.heap := hX
  have hl : lv_has ls 6 [(0, .ref (B 49 0)), (1, .int (zi k)), (2, .int (zi i)), (3, .int (zi v))] := hl
  generalize hH : s.heap = H at hX
  have hS : va_S A s.heap H [] := by rw [← hH]; exact hS
  generalize hlocs : ([] : List Loc) = locs at hS ⊢
  obtain ⟨QQ, hQQ⟩ : ∃ zQQ, MQ below (qi A (fun r H => ∃ m61 : Int → Int, (m61 = sel (((0 ≤ k ∧ k ≤ 3) ∧ ¬ M 203 k = -4) ∧ (0 ≤ i ∧ i ≤ M 204 k - 1)) (fup (M 61) (60 * k + i) (nrw (M 203 k) v)) (M 61)) ∧ (r = sel (0 ≤ k ∧ k ≤ 3) (sel (M 203 k = -4) (-11) (sel (0 ≤ i ∧ i ≤ M 204 k - 1) 1 (-12))) (-1)) ∧ XH E A B F (va_up M 61 m61) G T H)) args s (rm_X0_lay).cells (rm_X0_lay).slots A = zQQ := ⟨_, rfl⟩
  rw [hQQ]
  have r203 : -4 ≤ M 203 k ∧ M 203 k ≤ 2 := hX.2.2.1 203 (-4, 2) rfl k
  have r204 : 0 ≤ M 204 k ∧ M 204 k ≤ 60 := hX.2.2.1 204 (0, 60) rfl k
  have hm203 := h203 k
  have hsb := sb_r v
  have hss := ss_r v
  refine lv_iload_n C.x C.b dX0_lay_0 rfl (lv_at hl 1 rfl) ?_
  refine r_i2l C (by omega) dX0_lay_1 ?_
  refine r_lconst C 0 rfl dX0_lay_2 ?_
  refine r_ldc2 C 3 (by decide) q152 dX0_lay_3 ?_
  refine r_callSi (As := [.long (zl k), .long (zl 0), .long (zl 3)]) (rest := []) (cells' := 0) (slots' := 0) C (met_X0_isIn l E A H k 0 3 (show -9223372036854775808 ≤ k ∧ k < 9223372036854775808 from (by omega)) (show -9223372036854775808 ≤ (0 : Int) ∧ (0 : Int) < 9223372036854775808 from (by omega)) (show -9223372036854775808 ≤ (3 : Int) ∧ (3 : Int) < 9223372036854775808 from (by omega))) (lw_S q117 q118 q86 q119) hd_X0_isIn rfl (by decide) rfl hS hl.1 rfl (Nat.le_of_ble_eq_true rfl) dX0_lay_6 rfl rfl ⟨Nat.le_of_ble_eq_true rfl, Nat.le_of_ble_eq_true rfl⟩ (fun rr H locs hp hS => ?_)
  obtain ⟨hrr, hH⟩ := hp
  have hrr : rr = bI ((0 : Int) ≤ k ∧ k ≤ (3 : Int)) := hrr
  subst hrr
  have hX : XH E A B F M G T H := by rw [hH]; exact hX
  refine r_if_ne_b (tgt := 14) C dX0_lay_9 (by decide) (fun c_1 => ?_) (fun c_1 => ?_)
  · have hk3 : 0 ≤ k ∧ k ≤ 3 := by omega
    refine lv_aload_n C.x C.b dX0_lay_14 rfl (lv_at hl 0 rfl) ?_
    refine x_ga C hX 48 (by decide) rfl q787 (fun _ h => h) dX0_lay_15 ?_
    refine lv_iload_n C.x C.b dX0_lay_18 rfl (lv_at hl 1 rfl) ?_
    refine x_la C hX 48 rfl rfl rfl (by decide) rfl rfl (show 0 ≤ k ∧ k < 4 from (by omega)) (by omega) (by decide) dX0_lay_19 ?_
    refine x_goN C hX 60 (by decide) (show 0 ≤ k ∧ k < 4 from (by omega)).1 (xK_60 (show 0 ≤ k ∧ k < 4 from (by omega))) rfl in_X1 0 (by decide) (List.mem_of_getElem? (i := 7) rfl) (fun _ h => h) ((if M 203 k = -4 then .null else .ref (B 61 k))) rfl dX0_lay_20 ?_
    by_cases hzn : M 203 k = -4
    · rw [if_pos hzn]
      refine lv_astoreN (lv' := [(4, .null), (0, .ref (B 49 0)), (1, .int (zi k)), (2, .int (zi i)), (3, .int (zi v))]) C.x C.b dX0_lay_23 hl (by decide) rfl (fun ls hl => ?_)
      refine lv_aloadN C.x C.b dX0_lay_25 (lv_at hl 0 rfl) ?_
      refine lv_instN C.x C.b dX0_lay_27 (show W p l e rm_X0_lay s m args below meth c H locs 0 0 QQ (F0 m 30 ls [.int (zi 0)]) from ?_)
      refine r_if_eq (tgt := 45) C (by decide) dX0_lay_30 (by decide) (fun c_2 => ?_) (fun c_2 => ?_)
      · refine lv_aloadN C.x C.b dX0_lay_45 (lv_at hl 0 rfl) ?_
        refine lv_instN C.x C.b dX0_lay_47 (show W p l e rm_X0_lay s m args below meth c H locs 0 0 QQ (F0 m 50 ls [.int (zi 0)]) from ?_)
        refine r_if_eq (tgt := 65) C (by decide) dX0_lay_50 (by decide) (fun c_3 => ?_) (fun c_3 => ?_)
        · refine lv_aloadN C.x C.b dX0_lay_65 (lv_at hl 0 rfl) ?_
          refine lv_castN C.x C.b dX0_lay_67 ?_
          refine lv_iload_n C.x C.b dX0_lay_70 rfl (lv_at hl 3 rfl) ?_
          refine lv_iload_n C.x C.b dX0_lay_71 rfl (lv_at hl 4 rfl) ?_
          refine vx_iastoreN C.x C.b dX0_lay_72 (r_npe C hX hS hl0 hl.1 (Nat.le_of_ble_eq_true rfl) (Nat.le_of_ble_eq_true rfl) (Nat.le_of_ble_eq_true rfl) (Nat.le_of_ble_eq_true rfl) (fun q9 ce H hX hS hx1 hx2 hx3 => ?_))
          refine r_catch C htab ([]) _ (tableOf [((25 : Nat), (74 : Nat), (80 : Nat), (426 : Nat))]) rfl (fun _ hz => by cases hz) rfl (by decide) q926 hx1 hx2 hx3 (show W p l e rm_X0_lay s m args below meth c H locs 3 610 QQ (F0 m 75 ls [.ref q9]) from ?_)
          refine lv_astore (lv' := [(5, .ref q9), (4, .null), (0, .ref (B 49 0)), (1, .int (zi k)), (2, .int (zi i)), (3, .int (zi v))]) C.x C.b dX0_lay_75 hl (by decide) rfl (fun ls hl => ?_)
          refine r_bipush C (by decide) dX0_lay_77 ?_
          rw [← hQQ]
          exact r_iret C hS (Nat.le_of_ble_eq_true rfl) (Nat.le_of_ble_eq_true rfl) dX0_lay_79 ⟨(M 61), (Eq.symm (sel_f (fun q => absurd hzn q.1.2))), (by rw [sel_t hk3, sel_t hzn]), (hX.to rfl rfl ((up_id M (k := 61) (a := (M 61)) rfl).symm.trans rfl) rfl rfl)⟩
        · exact absurd (by decide) c_3
      · exact absurd (by decide) c_2
    · rw [if_neg hzn]
      refine lv_astore (lv' := [(4, .ref (B 61 k)), (0, .ref (B 49 0)), (1, .int (zi k)), (2, .int (zi i)), (3, .int (zi v))]) C.x C.b dX0_lay_23 hl (by decide) rfl (fun ls hl => ?_)
      refine lv_aload C.x C.b dX0_lay_25 (lv_at hl 0 rfl) ?_
      rcases (show M 203 k = 0 ∨ M 203 k = 1 ∨ M 203 k = 2 by omega) with hr_4 | hr_4 | hr_4
      · refine x_inst C hX (show 0 ≤ k ∧ k < 4 from by omega) hzn (show s.vm.findClass "[B" = some (E.2 (rty (M 203 k))) from by rw [show rty (M 203 k) = 1 from (if_pos hr_4)]; exact an_B C) q970 dX0_lay_27 ?_
        refine r_if_eq (tgt := 45) C (by decide) dX0_lay_30 (by decide) (fun c_5 => ?_) (fun c_5 => ?_)
        · exact absurd c_5 (by decide)
        · refine lv_aload C.x C.b dX0_lay_33 (lv_at hl 0 rfl) ?_
          refine x_cast C hX (show 0 ≤ k ∧ k < 4 from by omega) hzn (show s.vm.findClass "[B" = some (E.2 (rty (M 203 k))) from by rw [show rty (M 203 k) = 1 from (if_pos hr_4)]; exact an_B C) q970 dX0_lay_35 ?_
          refine lv_iload_n C.x C.b dX0_lay_38 rfl (lv_at hl 3 rfl) ?_
          refine lv_iload_n C.x C.b dX0_lay_39 rfl (lv_at hl 4 rfl) ?_
          refine r_i2b C dX0_lay_40 ?_
          by_cases hi_7 : 0 ≤ i ∧ i < M 204 k
          · refine x_sb61 C hX hS (show 0 ≤ k ∧ k < 4 from by omega) hzn hr_4 hi_7 (nar_b (by omega)) (by omega) (M' := (va_up M 61 (fup (M 61) (60 * k + i) (sb v)))) rfl dX0_lay_41 (fun H locs hX hS => ?_)
            refine lv_goto (tgt := 73) C.x C.b dX0_lay_42 (by decide) ?_
            refine r_const C dX0_lay_73 ?_
            rw [← hQQ]
            exact r_iret C hS (Nat.le_of_ble_eq_true rfl) (Nat.le_of_ble_eq_true rfl) dX0_lay_74 ⟨(fup (M 61) (60 * k + i) (sb v)), (by rw [sel_t (c := ((0 ≤ k ∧ k ≤ 3) ∧ ¬ M 203 k = -4) ∧ (0 ≤ i ∧ i ≤ M 204 k - 1)) ⟨⟨hk3, hzn⟩, by omega⟩]; unfold nrw; first | rw [sel_t (by assumption)] | rw [sel_f (by omega), sel_t (by assumption)] | rw [sel_f (by omega), sel_f (by omega)]), (by rw [sel_t hk3, sel_f hzn, sel_t (by omega)]), hX⟩
          · refine x_sb61Z C hX (show 0 ≤ k ∧ k < 4 from by omega) hzn hr_4 (by omega) hi_7 dX0_lay_41 (fun tx htx => ?_)
            refine r_vmAI C hX hS hl0 hl.1 htx (Nat.le_of_ble_eq_true rfl) (Nat.le_of_ble_eq_true rfl) (Nat.le_of_ble_eq_true rfl) (Nat.le_of_ble_eq_true rfl) (fun q9 ce H hX hS hx1 hx2 hx3 => ?_)
            refine r_catch C htab (tableOf [((25 : Nat), (74 : Nat), (75 : Nat), (424 : Nat))]) _ ([]) rfl (fun z hz => by
              simp only [tableOf, List.map_cons, List.map_nil, List.mem_cons, List.not_mem_nil, or_false] at hz
              rcases hz with rfl
              · exact Or.inr ⟨by decide, "java/lang/NullPointerException", C.t _ q926, C.nc (by decide +kernel)⟩) rfl (by decide) q951 hx1 hx2 hx3 (show W p l e rm_X0_lay s m args below meth c H locs 3 610 QQ (F0 m 80 ls [.ref q9]) from ?_)
            refine lv_astore (lv' := [(5, .ref q9), (4, .ref (B 61 k)), (0, .ref (B 49 0)), (1, .int (zi k)), (2, .int (zi i)), (3, .int (zi v))]) C.x C.b dX0_lay_80 hl (by decide) rfl (fun ls hl => ?_)
            refine r_bipush C (by decide) dX0_lay_82 ?_
            rw [← hQQ]
            exact r_iret C hS (Nat.le_of_ble_eq_true rfl) (Nat.le_of_ble_eq_true rfl) dX0_lay_84 ⟨(M 61), (Eq.symm (sel_f (fun q => by omega))), (by rw [sel_t hk3, sel_f hzn, sel_f (by omega)]), (hX.to rfl rfl ((up_id M (k := 61) (a := (M 61)) rfl).symm.trans rfl) rfl rfl)⟩
      · refine x_instNo C hX (show 0 ≤ k ∧ k < 4 from by omega) hzn (show s.vm.findClass "[S" = some (E.2 (rty (M 203 k))) from by rw [show rty (M 203 k) = 2 from ((if_neg (by omega)).trans (if_pos hr_4))]; exact an_S C) (by decide +kernel) q970 dX0_lay_27 ?_
        refine r_if_eq (tgt := 45) C (by decide) dX0_lay_30 (by decide) (fun c_8 => ?_) (fun c_8 => ?_)
        · refine lv_aload C.x C.b dX0_lay_45 (lv_at hl 0 rfl) ?_
          refine x_inst C hX (show 0 ≤ k ∧ k < 4 from by omega) hzn (show s.vm.findClass "[S" = some (E.2 (rty (M 203 k))) from by rw [show rty (M 203 k) = 2 from ((if_neg (by omega)).trans (if_pos hr_4))]; exact an_S C) q971 dX0_lay_47 ?_
          refine r_if_eq (tgt := 65) C (by decide) dX0_lay_50 (by decide) (fun c_10 => ?_) (fun c_10 => ?_)
          · exact absurd c_10 (by decide)
          · refine lv_aload C.x C.b dX0_lay_53 (lv_at hl 0 rfl) ?_
            refine x_cast C hX (show 0 ≤ k ∧ k < 4 from by omega) hzn (show s.vm.findClass "[S" = some (E.2 (rty (M 203 k))) from by rw [show rty (M 203 k) = 2 from ((if_neg (by omega)).trans (if_pos hr_4))]; exact an_S C) q971 dX0_lay_55 ?_
            refine lv_iload_n C.x C.b dX0_lay_58 rfl (lv_at hl 3 rfl) ?_
            refine lv_iload_n C.x C.b dX0_lay_59 rfl (lv_at hl 4 rfl) ?_
            refine r_i2s C dX0_lay_60 ?_
            by_cases hi_12 : 0 ≤ i ∧ i < M 204 k
            · refine x_ss61 C hX hS (show 0 ≤ k ∧ k < 4 from by omega) hzn hr_4 hi_12 (nar_s (by omega)) (by omega) (M' := (va_up M 61 (fup (M 61) (60 * k + i) (ss v)))) rfl dX0_lay_61 (fun H locs hX hS => ?_)
              refine lv_goto (tgt := 73) C.x C.b dX0_lay_62 (by decide) ?_
              refine r_const C dX0_lay_73 ?_
              rw [← hQQ]
              exact r_iret C hS (Nat.le_of_ble_eq_true rfl) (Nat.le_of_ble_eq_true rfl) dX0_lay_74 ⟨(fup (M 61) (60 * k + i) (ss v)), (by rw [sel_t (c := ((0 ≤ k ∧ k ≤ 3) ∧ ¬ M 203 k = -4) ∧ (0 ≤ i ∧ i ≤ M 204 k - 1)) ⟨⟨hk3, hzn⟩, by omega⟩]; unfold nrw; first | rw [sel_t (by assumption)] | rw [sel_f (by omega), sel_t (by assumption)] | rw [sel_f (by omega), sel_f (by omega)]), (by rw [sel_t hk3, sel_f hzn, sel_t (by omega)]), hX⟩
            · refine x_ss61Z C hX (show 0 ≤ k ∧ k < 4 from by omega) hzn hr_4 (by omega) hi_12 dX0_lay_61 (fun tx htx => ?_)
              refine r_vmAI C hX hS hl0 hl.1 htx (Nat.le_of_ble_eq_true rfl) (Nat.le_of_ble_eq_true rfl) (Nat.le_of_ble_eq_true rfl) (Nat.le_of_ble_eq_true rfl) (fun q9 ce H hX hS hx1 hx2 hx3 => ?_)
              refine r_catch C htab (tableOf [((25 : Nat), (74 : Nat), (75 : Nat), (424 : Nat))]) _ ([]) rfl (fun z hz => by
                simp only [tableOf, List.map_cons, List.map_nil, List.mem_cons, List.not_mem_nil, or_false] at hz
                rcases hz with rfl
                · exact Or.inr ⟨by decide, "java/lang/NullPointerException", C.t _ q926, C.nc (by decide +kernel)⟩) rfl (by decide) q951 hx1 hx2 hx3 (show W p l e rm_X0_lay s m args below meth c H locs 3 610 QQ (F0 m 80 ls [.ref q9]) from ?_)
              refine lv_astore (lv' := [(5, .ref q9), (4, .ref (B 61 k)), (0, .ref (B 49 0)), (1, .int (zi k)), (2, .int (zi i)), (3, .int (zi v))]) C.x C.b dX0_lay_80 hl (by decide) rfl (fun ls hl => ?_)
              refine r_bipush C (by decide) dX0_lay_82 ?_
              rw [← hQQ]
              exact r_iret C hS (Nat.le_of_ble_eq_true rfl) (Nat.le_of_ble_eq_true rfl) dX0_lay_84 ⟨(M 61), (Eq.symm (sel_f (fun q => by omega))), (by rw [sel_t hk3, sel_f hzn, sel_f (by omega)]), (hX.to rfl rfl ((up_id M (k := 61) (a := (M 61)) rfl).symm.trans rfl) rfl rfl)⟩
        · exact absurd (by decide) c_8
      · refine x_instNo C hX (show 0 ≤ k ∧ k < 4 from by omega) hzn (show s.vm.findClass "[I" = some (E.2 (rty (M 203 k))) from by rw [show rty (M 203 k) = 0 from ((if_neg (by omega)).trans (if_neg (by omega)))]; exact an_I C) (by decide +kernel) q970 dX0_lay_27 ?_
        refine r_if_eq (tgt := 45) C (by decide) dX0_lay_30 (by decide) (fun c_13 => ?_) (fun c_13 => ?_)
        · refine lv_aload C.x C.b dX0_lay_45 (lv_at hl 0 rfl) ?_
          refine x_instNo C hX (show 0 ≤ k ∧ k < 4 from by omega) hzn (show s.vm.findClass "[I" = some (E.2 (rty (M 203 k))) from by rw [show rty (M 203 k) = 0 from ((if_neg (by omega)).trans (if_neg (by omega)))]; exact an_I C) (by decide +kernel) q971 dX0_lay_47 ?_
          refine r_if_eq (tgt := 65) C (by decide) dX0_lay_50 (by decide) (fun c_15 => ?_) (fun c_15 => ?_)
          · refine lv_aload C.x C.b dX0_lay_65 (lv_at hl 0 rfl) ?_
            refine x_cast C hX (show 0 ≤ k ∧ k < 4 from by omega) hzn (show s.vm.findClass "[I" = some (E.2 (rty (M 203 k))) from by rw [show rty (M 203 k) = 0 from ((if_neg (by omega)).trans (if_neg (by omega)))]; exact an_I C) q718 dX0_lay_67 ?_
            refine lv_iload_n C.x C.b dX0_lay_70 rfl (lv_at hl 3 rfl) ?_
            refine lv_iload_n C.x C.b dX0_lay_71 rfl (lv_at hl 4 rfl) ?_
            by_cases hi_17 : 0 ≤ i ∧ i < M 204 k
            · refine x_si61 C hX hS (show 0 ≤ k ∧ k < 4 from by omega) hzn ⟨by omega, by omega⟩ hi_17 (by omega) (M' := (va_up M 61 (fup (M 61) (60 * k + i) v))) rfl dX0_lay_72 (fun H locs hX hS => ?_)
              refine r_const C dX0_lay_73 ?_
              rw [← hQQ]
              exact r_iret C hS (Nat.le_of_ble_eq_true rfl) (Nat.le_of_ble_eq_true rfl) dX0_lay_74 ⟨(fup (M 61) (60 * k + i) v), (by rw [sel_t (c := ((0 ≤ k ∧ k ≤ 3) ∧ ¬ M 203 k = -4) ∧ (0 ≤ i ∧ i ≤ M 204 k - 1)) ⟨⟨hk3, hzn⟩, by omega⟩]; unfold nrw; first | rw [sel_t (by assumption)] | rw [sel_f (by omega), sel_t (by assumption)] | rw [sel_f (by omega), sel_f (by omega)]), (by rw [sel_t hk3, sel_f hzn, sel_t (by omega)]), hX⟩
            · refine x_si61Z C hX (show 0 ≤ k ∧ k < 4 from by omega) hzn ⟨by omega, by omega⟩ (by omega) hi_17 dX0_lay_72 (fun tx htx => ?_)
              refine r_vmAI C hX hS hl0 hl.1 htx (Nat.le_of_ble_eq_true rfl) (Nat.le_of_ble_eq_true rfl) (Nat.le_of_ble_eq_true rfl) (Nat.le_of_ble_eq_true rfl) (fun q9 ce H hX hS hx1 hx2 hx3 => ?_)
              refine r_catch C htab (tableOf [((25 : Nat), (74 : Nat), (75 : Nat), (424 : Nat))]) _ ([]) rfl (fun z hz => by
                simp only [tableOf, List.map_cons, List.map_nil, List.mem_cons, List.not_mem_nil, or_false] at hz
                rcases hz with rfl
                · exact Or.inr ⟨by decide, "java/lang/NullPointerException", C.t _ q926, C.nc (by decide +kernel)⟩) rfl (by decide) q951 hx1 hx2 hx3 (show W p l e rm_X0_lay s m args below meth c H locs 3 610 QQ (F0 m 80 ls [.ref q9]) from ?_)
              refine lv_astore (lv' := [(5, .ref q9), (4, .ref (B 61 k)), (0, .ref (B 49 0)), (1, .int (zi k)), (2, .int (zi i)), (3, .int (zi v))]) C.x C.b dX0_lay_80 hl (by decide) rfl (fun ls hl => ?_)
              refine r_bipush C (by decide) dX0_lay_82 ?_
              rw [← hQQ]
              exact r_iret C hS (Nat.le_of_ble_eq_true rfl) (Nat.le_of_ble_eq_true rfl) dX0_lay_84 ⟨(M 61), (Eq.symm (sel_f (fun q => by omega))), (by rw [sel_t hk3, sel_f hzn, sel_f (by omega)]), (hX.to rfl rfl ((up_id M (k := 61) (a := (M 61)) rfl).symm.trans rfl) rfl rfl)⟩
          · exact absurd (by decide) c_15
        · exact absurd (by decide) c_13
  · refine r_const C dX0_lay_12 ?_
    rw [← hQQ]
    exact r_iret C hS (Nat.le_of_ble_eq_true rfl) (Nat.le_of_ble_eq_true rfl) dX0_lay_13 ⟨(M 61), (Eq.symm (sel_f (fun q => absurd q.1.1 (by omega)))), (by rw [sel_f (by omega)]), (hX.to rfl rfl ((up_id M (k := 61) (a := (M 61)) rfl).symm.trans rfl) rfl rfl)⟩
