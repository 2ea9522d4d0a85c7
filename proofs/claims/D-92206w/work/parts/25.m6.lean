set_option maxRecDepth 100000

theorem hd_X2_signs : yX2_signs.cls = RX2 ∧ yX2_signs.cls ≠ "java/lang/invoke/MethodHandle" ∧ yX2_signs.cls ≠ "java/lang/invoke/VarHandle" ∧ (parseMethodDescriptor yX2_signs.desc).map (fun d => d.parameters.length) = some 1 := by decide +kernel
abbrev rm_X2_signs : Room := { frames := 2, cells := 0, slots := 0, locals := 48 }
set_option maxHeartbeats 8000000 in
theorem met_X2_signs (l : Launch) (E : us_E) (A : Nat → Prop) (ad : Nat → Nat) (F : Nat → Int) (M : Nat → Int → Int) (w : Int) (hw : -2147483648 ≤ w ∧ w < 2147483648) : cMet l yX2_signs cX2_signs 7 (some .int) rm_X2_signs A E [.ref (ad 63), .int (zi w)] (fun H => MH E A ad F M H) (qi A (fun r H => ∃ m3 : Int → Int, (w = 3 → (0 ≤ r ∧ r ≤ 12) ∧ Uni (F 0) (M 1) r ∧ ∀ j : Int, 0 ≤ j → j < r → ¬ Uni (F 0) (M 1) j) ∧ (0 ≤ w ∧ w ≤ 2 → SgOK (F 0) (M 1) (F 2) m3 ∧ r = sel (w = 0) (sgn_many (F 0) m3) (sel (w = 1) (szb (F 0) m3 (bst (F 0) m3 (F 0))) (bst (F 0) m3 (F 0)))) ∧ (¬ (0 ≤ w ∧ w ≤ 3) → r = -1) ∧ MH E A ad F (va_up M 3 m3) H)) := by
  refine cMet.of (by decide) (Nat.le_of_ble_eq_true rfl) (fun p e s m args below meth c C hnm hX hS ls hl => ?_)
  have C : Cx p s m args meth c A RX2 cX2_signs 7 (some .int) E := C
  have hX : MH E A ad F M s.heap := hX
  have hl : lv_has ls 7 [(0, .ref (ad 63)), (1, .int (zi w))] := hl
  generalize hH : s.heap = H at hX
  have hS : va_S A s.heap H [] := by rw [← hH]; exact hS
  generalize hlocs : ([] : List Loc) = locs at hS ⊢
  have rF0 : 0 ≤ F 0 ∧ F 0 ≤ 24 := hX.2.1 0 (0, 24) rfl
  have rF2 : 0 ≤ F 2 ∧ F 2 ≤ 12 := hX.2.1 2 (0, 12) rfl
  have hft : ∀ j, 0 ≤ M 1 j ∧ M 1 j ≤ 4095 := fun j => hX.2.2 1 (0, 4095) rfl j
  refine lv_iload_n C.x C.b dX2_signs_0 rfl (lv_at hl 1 rfl) ?_
  refine r_i2l C (by omega) dX2_signs_1 ?_
  refine r_lconst C 0 rfl dX2_signs_2 ?_
  refine r_ldc2 C 3 (by decide) q1236 dX2_signs_3 ?_
  refine r_callSi (As := [.long (zl w), .long (zl 0), .long (zl 3)]) (rest := []) (cells' := 0) (slots' := 0) C (met_X2_in l E A ad H w 0 3 (show -9223372036854775808 ≤ w ∧ w < 9223372036854775808 from (by omega)) (show -9223372036854775808 ≤ 0 ∧ 0 < 9223372036854775808 from (by omega)) (show -9223372036854775808 ≤ 3 ∧ 3 < 9223372036854775808 from (by omega))) (lw_S q1209 q1210 q88 q1211) hd_X2_in rfl (by decide) rfl hS hl.1 rfl (Nat.le_of_ble_eq_true rfl) dX2_signs_6 rfl rfl ⟨Nat.le_of_ble_eq_true rfl, Nat.le_of_ble_eq_true rfl⟩ (fun rr H locs hp hS => ?_)
  obtain ⟨hrr, hH⟩ := hp
  have hrr : rr = bI (0 ≤ w ∧ w ≤ 3) := hrr
  subst hrr
  have hX : MH E A ad F M H := by rw [hH]; exact hX
  refine r_if_ne_b (tgt := 14) C dX2_signs_9 (by decide) (fun c_1 => ?_) (fun c_1 => ?_)
  · refine lv_iload_n C.x C.b dX2_signs_14 rfl (lv_at hl 1 rfl) ?_
    refine r_const C dX2_signs_15 ?_
    refine r_icmp_ne (tgt := 47) C (by omega) (by decide) dX2_signs_16 (by decide) (fun c_2 => ?_) (fun c_2 => ?_)
    · refine lv_aload_n C.x C.b dX2_signs_47 rfl (lv_at hl 0 rfl) ?_
      refine lv_aload_n C.x C.b dX2_signs_48 rfl (lv_at hl 0 rfl) ?_
      refine mg_2 C hX (F 2) rfl dX2_signs_49 (fun _ => ?_)
      refine r_callVv (As := [.int (zi (F 2))]) (rest := []) (cells' := 0) (slots' := 0) C (met_X2_findSigns l E A ad F M (F 2) (show 0 ≤ (F 2) ∧ (F 2) ≤ 24 from (by omega))) (lw_V q1221 q1223 qs42 q88 q1224) hd_X2_findSigns rfl (by decide) (m_recv C hX) hX hS hl.1 rfl (Nat.le_of_ble_eq_true rfl) dX2_signs_52 rfl rfl ⟨Nat.le_of_ble_eq_true rfl, Nat.le_of_ble_eq_true rfl⟩ (fun H locs hp hS => ?_)
      obtain ⟨sg, hsg, hX⟩ := hp
      have hsg : SgOK ((F 0)) ((M 1)) (F 2) sg := hsg
      have hX : MH E A ad F (va_up M 3 sg) H := hX.to rfl rfl
      refine r_const C dX2_signs_55 ?_
      refine lv_istore_n (lv' := [(2, .int (zi 0)), (0, .ref (ad 63)), (1, .int (zi w))]) C.x C.b dX2_signs_56 rfl hl (by decide) rfl (fun ls hl => ?_)
      refine r_bipush C (by decide) dX2_signs_57 ?_
      refine lv_istore_n (lv' := [(3, .int (zi (-4))), (2, .int (zi 0)), (0, .ref (ad 63)), (1, .int (zi w))]) C.x C.b dX2_signs_59 rfl hl (by decide) rfl (fun ls hl => ?_)
      refine r_const C dX2_signs_60 ?_
      refine lv_istore (lv' := [(4, .int (zi 0)), (3, .int (zi (-4))), (2, .int (zi 0)), (0, .ref (ad 63)), (1, .int (zi w))]) C.x C.b dX2_signs_61 hl (by decide) rfl (fun ls hl => ?_)
      have L63 : ∀ (fu : Nat) (v2 : Int) (v3 : Int) (v4 : Int) (h4 : 0 ≤ v4 ∧ v4 ≤ F 0) (hb : v3 = bst (F 0) sg v4) (hm2 : v2 = szb (F 0) sg v3) (hm : Int.toNat (F 0 - v4) < fu) (H : Heap) (locs : List Loc) (ls : Array Slot) (hX : MH E A ad F (va_up M 3 sg) H) (hS : va_S A s.heap H locs) (hl : lv_has ls 7 [(0, .ref (ad 63)), (1, .int (zi w)), (2, .int (zi v2)), (3, .int (zi v3)), (4, .int (zi v4))]), W p l e rm_X2_signs s m args below meth c H locs 0 0 (MQ below (qi A (fun r H => ∃ m3 : Int → Int, (w = 3 → (0 ≤ r ∧ r ≤ 12) ∧ Uni (F 0) (M 1) r ∧ ∀ j : Int, 0 ≤ j → j < r → ¬ Uni (F 0) (M 1) j) ∧ (0 ≤ w ∧ w ≤ 2 → SgOK (F 0) (M 1) (F 2) m3 ∧ r = sel (w = 0) (sgn_many (F 0) m3) (sel (w = 1) (szb (F 0) m3 (bst (F 0) m3 (F 0))) (bst (F 0) m3 (F 0)))) ∧ (¬ (0 ≤ w ∧ w ≤ 3) → r = -1) ∧ MH E A ad F (va_up M 3 m3) H)) args s (rm_X2_signs).cells (rm_X2_signs).slots A) (F0 m 63 ls []) := by
        intro fu
        induction fu with
        | zero => intro v2 v3 v4 h4 hb hm2 hm; exact absurd hm (Nat.not_lt_zero _)
        | succ fu ih63 =>
          intro v2 v3 v4 h4 hb hm2 hm H locs ls hX hS hl
          refine lv_iload C.x C.b dX2_signs_63 (lv_at hl 4 rfl) ?_
          refine lv_aload_n C.x C.b dX2_signs_65 rfl (lv_at hl 0 rfl) ?_
          refine mg_0 C hX (F 0) rfl dX2_signs_66 (fun _ => ?_)
          refine r_icmp_ge (tgt := 133) C (by omega) (by omega) dX2_signs_69 (by decide) (fun c_3 => ?_) (fun c_3 => ?_)
          · refine lv_iload_n C.x C.b dX2_signs_133 rfl (lv_at hl 1 rfl) ?_
            refine r_if_ne (tgt := 144) C (by omega) dX2_signs_134 (by decide) (fun c_4 => ?_) (fun c_4 => ?_)
            · refine lv_iload_n C.x C.b dX2_signs_144 rfl (lv_at hl 1 rfl) ?_
              refine r_const C dX2_signs_145 ?_
              refine r_icmp_ne (tgt := 153) C (by omega) (by decide) dX2_signs_146 (by decide) (fun c_5 => ?_) (fun c_5 => ?_)
              · refine lv_iload_n C.x C.b dX2_signs_153 rfl (lv_at hl 3 rfl) ?_
                have e4 : v4 = F 0 := by omega
                have hb2 : v3 = bst (F 0) sg (F 0) := by rw [hb, e4]
                exact r_iret C hS (Nat.le_of_ble_eq_true rfl) (Nat.le_of_ble_eq_true rfl) dX2_signs_154 ⟨sg, (fun q => absurd q (by omega)), (fun _ => ⟨hsg, by first | rw [← hb2, ← hm2, sel_t (by omega)] | rw [← hb2, ← hm2, sel_f (by omega), sel_t (by omega)] | rw [← hb2, ← hm2, sel_f (by omega), sel_f (by omega)]⟩), (fun q => absurd q (by omega)), hX⟩
              · refine lv_iload_n C.x C.b dX2_signs_149 rfl (lv_at hl 2 rfl) ?_
                refine lv_goto (tgt := 154) C.x C.b dX2_signs_150 (by decide) ?_
                have e4 : v4 = F 0 := by omega
                have hb2 : v3 = bst (F 0) sg (F 0) := by rw [hb, e4]
                exact r_iret C hS (Nat.le_of_ble_eq_true rfl) (Nat.le_of_ble_eq_true rfl) dX2_signs_154 ⟨sg, (fun q => absurd q (by omega)), (fun _ => ⟨hsg, by first | rw [← hb2, ← hm2, sel_t (by omega)] | rw [← hb2, ← hm2, sel_f (by omega), sel_t (by omega)] | rw [← hb2, ← hm2, sel_f (by omega), sel_f (by omega)]⟩), (fun q => absurd q (by omega)), hX⟩
            · refine lv_aload_n C.x C.b dX2_signs_137 rfl (lv_at hl 0 rfl) ?_
              refine r_callVi (As := []) (rest := []) (cells' := 0) (slots' := 0) C (met_X2_signMany l E A ad F (va_up M 3 sg)) (lw_V q1237 q1239 qs44 q88 q1240) hd_X2_signMany rfl (by decide) (m_recv C hX) hX hS hl.1 rfl (Nat.le_of_ble_eq_true rfl) dX2_signs_138 rfl rfl ⟨Nat.le_of_ble_eq_true rfl, Nat.le_of_ble_eq_true rfl⟩ (fun rr H locs hp hS => ?_)
              obtain ⟨hmr, hrr, hX⟩ := hp
              have hrr : rr = sgn_many ((F 0)) (sg) := hrr
              subst hrr
              have hmr : 0 ≤ sgn_many ((F 0)) (sg) ∧ sgn_many ((F 0)) (sg) ≤ (F 0) := hmr
              refine lv_goto (tgt := 154) C.x C.b dX2_signs_141 (by decide) ?_
              have e4 : v4 = F 0 := by omega
              have hb2 : v3 = bst (F 0) sg (F 0) := by rw [hb, e4]
              exact r_iret C hS (Nat.le_of_ble_eq_true rfl) (Nat.le_of_ble_eq_true rfl) dX2_signs_154 ⟨sg, (fun q => absurd q (by omega)), (fun _ => ⟨hsg, by first | rw [← hb2, ← hm2, sel_t (by omega)] | rw [← hb2, ← hm2, sel_f (by omega), sel_t (by omega)] | rw [← hb2, ← hm2, sel_f (by omega), sel_f (by omega)]⟩), (fun q => absurd q (by omega)), hX⟩
          · refine r_const C dX2_signs_72 ?_
            refine lv_istore (lv' := [(5, .int (zi 0)), (0, .ref (ad 63)), (1, .int (zi w)), (2, .int (zi v2)), (3, .int (zi v3)), (4, .int (zi v4))]) C.x C.b dX2_signs_73 hl (by decide) rfl (fun ls hl => ?_)
            refine r_const C dX2_signs_75 ?_
            refine lv_istore (lv' := [(6, .int (zi 0)), (5, .int (zi 0)), (0, .ref (ad 63)), (1, .int (zi w)), (2, .int (zi v2)), (3, .int (zi v3)), (4, .int (zi v4))]) C.x C.b dX2_signs_76 hl (by decide) rfl (fun ls hl => ?_)
            have L78 : ∀ (fu : Nat) (v5 : Int) (v6 : Int) (h6 : 0 ≤ v6 ∧ v6 ≤ F 0) (ha : v5 = isum (fun f => bI (sg f = v4)) v6) (hm : Int.toNat (F 0 - v6) < fu) (H : Heap) (locs : List Loc) (ls : Array Slot) (hX : MH E A ad F (va_up M 3 sg) H) (hS : va_S A s.heap H locs) (hl : lv_has ls 7 [(0, .ref (ad 63)), (1, .int (zi w)), (2, .int (zi v2)), (3, .int (zi v3)), (4, .int (zi v4)), (5, .int (zi v5)), (6, .int (zi v6))]), W p l e rm_X2_signs s m args below meth c H locs 0 0 (MQ below (qi A (fun r H => ∃ m3 : Int → Int, (w = 3 → (0 ≤ r ∧ r ≤ 12) ∧ Uni (F 0) (M 1) r ∧ ∀ j : Int, 0 ≤ j → j < r → ¬ Uni (F 0) (M 1) j) ∧ (0 ≤ w ∧ w ≤ 2 → SgOK (F 0) (M 1) (F 2) m3 ∧ r = sel (w = 0) (sgn_many (F 0) m3) (sel (w = 1) (szb (F 0) m3 (bst (F 0) m3 (F 0))) (bst (F 0) m3 (F 0)))) ∧ (¬ (0 ≤ w ∧ w ≤ 3) → r = -1) ∧ MH E A ad F (va_up M 3 m3) H)) args s (rm_X2_signs).cells (rm_X2_signs).slots A) (F0 m 78 ls []) := by
              intro fu
              induction fu with
              | zero => intro v5 v6 h6 ha hm; exact absurd hm (Nat.not_lt_zero _)
              | succ fu ih78 =>
                intro v5 v6 h6 ha hm H locs ls hX hS hl
                refine lv_iload C.x C.b dX2_signs_78 (lv_at hl 6 rfl) ?_
                refine lv_aload_n C.x C.b dX2_signs_80 rfl (lv_at hl 0 rfl) ?_
                refine mg_0 C hX (F 0) rfl dX2_signs_81 (fun _ => ?_)
                refine r_icmp_ge (tgt := 115) C (by omega) (by omega) dX2_signs_84 (by decide) (fun c_6 => ?_) (fun c_6 => ?_)
                · have ha2 : v5 = sz_of (F 0) sg v4 := by rw [ha, show v6 = F 0 by omega]; rfl
                  have r1z := szb_r (s := sg) (b := v3) rF0.1
                  have r2z := sz_r (s := sg) (k := v4) rF0.1
                  have hup : v2 < v5 → v4 = bst (F 0) sg (v4 + 1) ∧ v5 = szb (F 0) sg v4 := fun q => ha2 ▸ bst_up hsg ⟨by omega, by omega⟩ hb (by rw [← ha2, ← hm2]; exact q)
                  have hno : ¬ v2 < v5 → v3 = bst (F 0) sg (v4 + 1) := fun q => bst_no hsg ⟨by omega, by omega⟩ hb (by rw [← ha2, ← hm2]; exact q)
                  refine lv_iload C.x C.b dX2_signs_115 (lv_at hl 5 rfl) ?_
                  refine lv_iload_n C.x C.b dX2_signs_117 rfl (lv_at hl 2 rfl) ?_
                  refine r_icmp_le (tgt := 127) C (by omega) (by omega) dX2_signs_118 (by decide) (fun c_7 => ?_) (fun c_7 => ?_)
                  · refine r_iinc (lv' := [(4, .int (zi (v4 + 1))), (0, .ref (ad 63)), (1, .int (zi w)), (2, .int (zi v2)), (3, .int (zi v3)), (5, .int (zi v5)), (6, .int (zi v6))]) C dX2_signs_127 hl (k := 4) rfl (by decide) rfl (fun ls hl => ?_)
                    refine lv_goto (tgt := 63) C.x C.b dX2_signs_130 (by decide) ?_
                    exact ih63 v2 v3 (v4 + 1) (by omega) (by first | exact (hup (by omega)).1 | exact hno (by omega)) (by first | exact (hup (by omega)).2 | exact hm2) (by omega) H locs ls hX hS (lv_sub hl [1, 2, 3, 4, 0] rfl)
                  · refine lv_iload C.x C.b dX2_signs_121 (lv_at hl 5 rfl) ?_
                    refine lv_istore_n (lv' := [(2, .int (zi v5)), (0, .ref (ad 63)), (1, .int (zi w)), (3, .int (zi v3)), (4, .int (zi v4)), (5, .int (zi v5)), (6, .int (zi v6))]) C.x C.b dX2_signs_123 rfl hl (by decide) rfl (fun ls hl => ?_)
                    refine lv_iload C.x C.b dX2_signs_124 (lv_at hl 4 rfl) ?_
                    refine lv_istore_n (lv' := [(3, .int (zi v4)), (2, .int (zi v5)), (0, .ref (ad 63)), (1, .int (zi w)), (4, .int (zi v4)), (5, .int (zi v5)), (6, .int (zi v6))]) C.x C.b dX2_signs_126 rfl hl (by decide) rfl (fun ls hl => ?_)
                    refine r_iinc (lv' := [(4, .int (zi (v4 + 1))), (3, .int (zi v4)), (2, .int (zi v5)), (0, .ref (ad 63)), (1, .int (zi w)), (5, .int (zi v5)), (6, .int (zi v6))]) C dX2_signs_127 hl (k := 4) rfl (by decide) rfl (fun ls hl => ?_)
                    refine lv_goto (tgt := 63) C.x C.b dX2_signs_130 (by decide) ?_
                    exact ih63 v5 v4 (v4 + 1) (by omega) (by first | exact (hup (by omega)).1 | exact hno (by omega)) (by first | exact (hup (by omega)).2 | exact hm2) (by omega) H locs ls hX hS (lv_sub hl [3, 4, 2, 1, 0] rfl)
                · refine lv_iload C.x C.b dX2_signs_87 (lv_at hl 5 rfl) ?_
                  refine lv_aload_n C.x C.b dX2_signs_89 rfl (lv_at hl 0 rfl) ?_
                  refine mg_3 C hX dX2_signs_90 ?_
                  refine lv_iload C.x C.b dX2_signs_93 (lv_at hl 6 rfl) ?_
                  refine ml_3 C hX (by omega) sg rfl dX2_signs_95 (fun r95 => ?_)
                  refine lv_iload C.x C.b dX2_signs_96 (lv_at hl 4 rfl) ?_
                  have J106_8 : ∀ (t1 : Int) (ht1 : t1 = bI ((sg v6) = v4)) (H : Heap) (locs : List Loc) (ls : Array Slot) (hX : MH E A ad F (va_up M 3 sg) H) (hS : va_S A s.heap H locs) (hl : lv_has ls 7 [(0, .ref (ad 63)), (1, .int (zi w)), (2, .int (zi v2)), (3, .int (zi v3)), (4, .int (zi v4)), (5, .int (zi v5)), (6, .int (zi v6))]), W p l e rm_X2_signs s m args below meth c H locs 0 0 (MQ below (qi A (fun r H => ∃ m3 : Int → Int, (w = 3 → (0 ≤ r ∧ r ≤ 12) ∧ Uni (F 0) (M 1) r ∧ ∀ j : Int, 0 ≤ j → j < r → ¬ Uni (F 0) (M 1) j) ∧ (0 ≤ w ∧ w ≤ 2 → SgOK (F 0) (M 1) (F 2) m3 ∧ r = sel (w = 0) (sgn_many (F 0) m3) (sel (w = 1) (szb (F 0) m3 (bst (F 0) m3 (F 0))) (bst (F 0) m3 (F 0)))) ∧ (¬ (0 ≤ w ∧ w ≤ 3) → r = -1) ∧ MH E A ad F (va_up M 3 m3) H)) args s (rm_X2_signs).cells (rm_X2_signs).slots A) (F0 m 106 ls [.int (zi t1), .int (zi v5)]) := by
                    intro t1 ht1 H locs ls hX hS hl
                    subst ht1
                    refine r_iadd C dX2_signs_106 ?_
                    refine lv_istore (lv' := [(5, .int (zi (v5 + (bI ((sg v6) = v4))))), (0, .ref (ad 63)), (1, .int (zi w)), (2, .int (zi v2)), (3, .int (zi v3)), (4, .int (zi v4)), (6, .int (zi v6))]) C.x C.b dX2_signs_107 hl (by decide) rfl (fun ls hl => ?_)
                    refine r_iinc (lv' := [(6, .int (zi (v6 + 1))), (5, .int (zi (v5 + (bI ((sg v6) = v4))))), (0, .ref (ad 63)), (1, .int (zi w)), (2, .int (zi v2)), (3, .int (zi v3)), (4, .int (zi v4))]) C dX2_signs_109 hl (k := 6) rfl (by decide) rfl (fun ls hl => ?_)
                    refine lv_goto (tgt := 78) C.x C.b dX2_signs_112 (by decide) ?_
                    exact ih78 (v5 + (bI ((sg v6) = v4))) (v6 + 1) (by omega) (isum_st (by omega) ha rfl) (by omega) H locs ls hX hS (lv_sub hl [2, 3, 4, 5, 6, 1, 0] rfl)
                  refine r_icmp_ne (tgt := 105) C (by omega) (by omega) dX2_signs_98 (by decide) (fun c_9 => ?_) (fun c_9 => ?_)
                  · refine r_const C dX2_signs_105 ?_
                    exact J106_8 0 ((bI_f c_9).symm) H locs ls hX hS hl
                  · refine r_const C dX2_signs_101 ?_
                    refine lv_goto (tgt := 106) C.x C.b dX2_signs_102 (by decide) ?_
                    exact J106_8 1 ((bI_t c_9).symm) H locs ls hX hS hl
            exact L78 _ 0 0 (by omega) rfl (Nat.lt_succ_self _) H locs ls hX hS (lv_sub hl [2, 3, 4, 5, 6, 1, 0] rfl)
      exact L63 _ 0 (-4) 0 (by omega) rfl (sel_t rfl).symm (Nat.lt_succ_self _) H locs ls hX hS (lv_sub hl [3, 4, 2, 1, 0] rfl)
    · refine r_const C dX2_signs_19 ?_
      refine lv_istore_n (lv' := [(2, .int (zi 0)), (0, .ref (ad 63)), (1, .int (zi w))]) C.x C.b dX2_signs_20 rfl hl (by decide) rfl (fun ls hl => ?_)
      refine lv_aload_n C.x C.b dX2_signs_21 rfl (lv_at hl 1 rfl) ?_
      refine r_const C dX2_signs_22 ?_
      refine r_callVv (As := [.int (zi 0)]) (rest := []) (cells' := 0) (slots' := 0) C (met_X2_findSigns l E A ad F M 0 (show 0 ≤ 0 ∧ 0 ≤ 24 from (by omega))) (lw_V q1221 q1223 qs42 q88 q1224) hd_X2_findSigns rfl (by decide) (m_recv C hX) hX hS hl.1 rfl (Nat.le_of_ble_eq_true rfl) dX2_signs_23 rfl rfl ⟨Nat.le_of_ble_eq_true rfl, Nat.le_of_ble_eq_true rfl⟩ (fun H locs hp hS => ?_)
      obtain ⟨sg, hsg, hX⟩ := hp
      have hsg : SgOK ((F 0)) ((M 1)) 0 sg := hsg
      have hX : MH E A ad F (va_up M 3 sg) H := hX.to rfl rfl
      have L26 : ∀ (fu : Nat) (v2 : Int) (m3 : Int → Int) (hv : 0 ≤ v2 ∧ v2 ≤ 12) (hs : SgOK (F 0) (M 1) v2 m3) (hn : ∀ j : Int, 0 ≤ j → j < v2 → ¬ Uni (F 0) (M 1) j) (hm : Int.toNat (12 - v2) < fu) (H : Heap) (locs : List Loc) (ls : Array Slot) (hX : MH E A ad F (va_up M 3 m3) H) (hS : va_S A s.heap H locs) (hl : lv_has ls 7 [(0, .ref (ad 63)), (1, .int (zi w)), (2, .int (zi v2))]), W p l e rm_X2_signs s m args below meth c H locs 0 0 (MQ below (qi A (fun r H => ∃ m3 : Int → Int, (w = 3 → (0 ≤ r ∧ r ≤ 12) ∧ Uni (F 0) (M 1) r ∧ ∀ j : Int, 0 ≤ j → j < r → ¬ Uni (F 0) (M 1) j) ∧ (0 ≤ w ∧ w ≤ 2 → SgOK (F 0) (M 1) (F 2) m3 ∧ r = sel (w = 0) (sgn_many (F 0) m3) (sel (w = 1) (szb (F 0) m3 (bst (F 0) m3 (F 0))) (bst (F 0) m3 (F 0)))) ∧ (¬ (0 ≤ w ∧ w ≤ 3) → r = -1) ∧ MH E A ad F (va_up M 3 m3) H)) args s (rm_X2_signs).cells (rm_X2_signs).slots A) (F0 m 26 ls []) := by
        intro fu
        induction fu with
        | zero => intro v2 m3 hv hs hn hm; exact absurd hm (Nat.not_lt_zero _)
        | succ fu ih26 =>
          intro v2 m3 hv hs hn hm H locs ls hX hS hl
          refine lv_aload_n C.x C.b dX2_signs_26 rfl (lv_at hl 0 rfl) ?_
          refine r_callVi (As := []) (rest := []) (cells' := 0) (slots' := 0) C (met_X2_signMany l E A ad F (va_up M 3 m3)) (lw_V q1237 q1239 qs44 q88 q1240) hd_X2_signMany rfl (by decide) (m_recv C hX) hX hS hl.1 rfl (Nat.le_of_ble_eq_true rfl) dX2_signs_27 rfl rfl ⟨Nat.le_of_ble_eq_true rfl, Nat.le_of_ble_eq_true rfl⟩ (fun rr H locs hp hS => ?_)
          obtain ⟨hmr, hrr, hX⟩ := hp
          have hrr : rr = sgn_many ((F 0)) (m3) := hrr
          subst hrr
          have hmr : 0 ≤ sgn_many ((F 0)) (m3) ∧ sgn_many ((F 0)) (m3) ≤ (F 0) := hmr
          refine r_const C dX2_signs_30 ?_
          refine r_icmp_le (tgt := 45) C (by omega) (by decide) dX2_signs_31 (by decide) (fun c_10 => ?_) (fun c_10 => ?_)
          · refine lv_iload_n C.x C.b dX2_signs_45 rfl (lv_at hl 2 rfl) ?_
            exact r_iret C hS (Nat.le_of_ble_eq_true rfl) (Nat.le_of_ble_eq_true rfl) dX2_signs_46 ⟨m3, (fun _ => ⟨⟨by omega, by omega⟩, ⟨_, hs, by omega⟩, hn⟩), (fun q => absurd q (by omega)), (fun q => absurd q (by omega)), hX⟩
          · have hw12 : v2 < 12 := by
              rcases Int.lt_or_le v2 12 with q | q
              · exact q
              · have := Uni12 (by omega) hft q hs
                omega
            refine r_iinc (lv' := [(2, .int (zi (v2 + 1))), (0, .ref (ad 63)), (1, .int (zi w))]) C dX2_signs_34 hl (k := 2) rfl (by decide) rfl (fun ls hl => ?_)
            refine lv_aload_n C.x C.b dX2_signs_37 rfl (lv_at hl 1 rfl) ?_
            refine lv_iload_n C.x C.b dX2_signs_38 rfl (lv_at hl 0 rfl) ?_
            refine r_callVv (As := [.int (zi (v2 + 1))]) (rest := []) (cells' := 0) (slots' := 0) C (met_X2_findSigns l E A ad F (va_up M 3 m3) (v2 + 1) (show 0 ≤ (v2 + 1) ∧ (v2 + 1) ≤ 24 from (by omega))) (lw_V q1221 q1223 qs42 q88 q1224) hd_X2_findSigns rfl (by decide) (m_recv C hX) hX hS hl.1 rfl (Nat.le_of_ble_eq_true rfl) dX2_signs_39 rfl rfl ⟨Nat.le_of_ble_eq_true rfl, Nat.le_of_ble_eq_true rfl⟩ (fun H locs hp hS => ?_)
            obtain ⟨sn_, hsn, hX⟩ := hp
            have hsn : SgOK ((F 0)) ((M 1)) (v2 + 1) sn_ := hsn
            have hX : MH E A ad F (va_up M 3 sn_) H := hX.to rfl (up_up _ _ _ _)
            refine lv_goto (tgt := 26) C.x C.b dX2_signs_42 (by decide) ?_
            exact ih26 (v2 + 1) sn_ (by omega) hsn (fun j a b => by rcases Int.lt_or_le j v2 with q | q; exact hn j a q; exact (show j = v2 by omega) ▸ Uni_no hs (by omega)) (by omega) H locs ls hX hS (lv_sub hl [1, 2, 0] rfl)
      exact L26 _ 0 sg (by omega) hsg (fun j a b => absurd a (by omega)) (Nat.lt_succ_self _) H locs ls hX hS (lv_sub hl [1, 2, 0] rfl)
  · refine r_const C dX2_signs_12 ?_
    exact r_iret C hS (Nat.le_of_ble_eq_true rfl) (Nat.le_of_ble_eq_true rfl) dX2_signs_13 ⟨(M 3), (fun q => absurd q (by omega)), (fun q => absurd q (by omega)), (fun _ => rfl), (hX.to rfl ((up_id M (k := 3) (a := (M 3)) rfl).symm.trans rfl))⟩

theorem hd_X2_chance : yX2_chance.cls = RX2 ∧ yX2_chance.cls ≠ "java/lang/invoke/MethodHandle" ∧ yX2_chance.cls ≠ "java/lang/invoke/VarHandle" ∧ (parseMethodDescriptor yX2_chance.desc).map (fun d => d.parameters.length) = some 3 := by decide +kernel
abbrev rm_X2_chance : Room := { frames := 3, cells := 0, slots := 0, locals := 69 }
set_option maxHeartbeats 8000000 in
theorem met_X2_chance (l : Launch) (E : us_E) (A : Nat → Prop) (ad : Nat → Nat) (F : Nat → Int) (M : Nat → Int → Int) (a : Int) (b : Int) (w : Int) (ha : -2147483648 ≤ a ∧ a < 2147483648) (hb : -2147483648 ≤ b ∧ b < 2147483648) (hw : -2147483648 ≤ w ∧ w < 2147483648) : cMet l yX2_chance cX2_chance 16 (some .long) rm_X2_chance A E [.ref (ad 63), .int (zi a), .int (zi b), .int (zi w)] (fun H => MH E A ad F M H) (ql A (fun r H => ∃ m3 : Int → Int, SgOK (F 0) (M 1) (F 2) m3 ∧ (r = sel ((isS (F 0) (M 1) (F 2) a ∧ isS (F 0) (M 1) (F 2) b) ∧ (0 ≤ w ∧ w ≤ 1)) (sel ((alls m3 (mtc (M 6)) (M 5) (F 4)) < 2) w (chn (bes m3 (mtc (M 6)) (M 5) (F 4) (-4) (-4) * (cnt m3 (mtc (M 6)) (M 5) (F 4)) a * sel (a = b) ((cnt m3 (mtc (M 6)) (M 5) (F 4)) a - 1) ((cnt m3 (mtc (M 6)) (M 5) (F 4)) b)) ((alls m3 (mtc (M 6)) (M 5) (F 4)) * ((alls m3 (mtc (M 6)) (M 5) (F 4)) - 1)) w)) (-1)) ∧ MH E A ad F (va_up M 3 m3) H)) := by
  refine cMet.of (by decide) (Nat.le_of_ble_eq_true rfl) (fun p e s m args below meth c C hnm hX hS ls hl => ?_)
  have C : Cx p s m args meth c A RX2 cX2_chance 16 (some .long) E := C
  have hX : MH E A ad F M s.heap := hX
  have hl : lv_has ls 16 [(0, .ref (ad 63)), (1, .int (zi a)), (2, .int (zi b)), (3, .int (zi w))] := hl
  generalize hH : s.heap = H at hX
  have hS : va_S A s.heap H [] := by rw [← hH]; exact hS
  generalize hlocs : ([] : List Loc) = locs at hS ⊢
  have rF0 : 0 ≤ F 0 ∧ F 0 ≤ 24 := hX.2.1 0 (0, 24) rfl
  have rF2 : 0 ≤ F 2 ∧ F 2 ≤ 12 := hX.2.1 2 (0, 12) rfl
  have rF4 : 0 ≤ F 4 ∧ F 4 ≤ 8 := hX.2.1 4 (0, 8) rfl
  refine lv_aload_n C.x C.b dX2_chance_0 rfl (lv_at hl 0 rfl) ?_
  refine lv_iload_n C.x C.b dX2_chance_1 rfl (lv_at hl 1 rfl) ?_
  refine r_callVi (As := [.int (zi a)]) (rest := []) (cells' := 0) (slots' := 0) C (met_X2_isSign l E A ad F M a (show -2147483648 ≤ a ∧ a < 2147483648 from (by omega))) (lw_V q1267 q1269 qs48 q88 q1270) hd_X2_isSign rfl (by decide) (m_recv C hX) hX hS hl.1 rfl (Nat.le_of_ble_eq_true rfl) dX2_chance_2 rfl rfl ⟨Nat.le_of_ble_eq_true rfl, Nat.le_of_ble_eq_true rfl⟩ (fun rr H locs hp hS => ?_)
  obtain ⟨s1, hs1, hrr, hX⟩ := hp
  have hrr : rr = bI (isS ((F 0)) ((M 1)) ((F 2)) a) := hrr
  subst hrr
  have hs1 : SgOK ((F 0)) ((M 1)) ((F 2)) s1 := hs1
  have hX : MH E A ad F (va_up M 3 s1) H := hX.to rfl rfl
  refine r_if_eq_b (tgt := 26) C dX2_chance_5 (by decide) (fun c_1 => ?_) (fun c_1 => ?_)
  · refine r_ldc2 C (-1) (by decide) q1287 dX2_chance_26 ?_
    exact r_lret C hS (Nat.le_of_ble_eq_true rfl) (Nat.le_of_ble_eq_true rfl) dX2_chance_29 ⟨s1, (by assumption), (by first | exact Eq.symm (sel_f (fun q => absurd q.1.1 (by assumption))) | exact Eq.symm (sel_f (fun q => absurd q.1.2 (by assumption))) | exact Eq.symm (sel_f (fun q => absurd q.2 (by assumption)))), hX⟩
  · refine lv_aload_n C.x C.b dX2_chance_8 rfl (lv_at hl 0 rfl) ?_
    refine lv_iload_n C.x C.b dX2_chance_9 rfl (lv_at hl 2 rfl) ?_
    refine r_callVi (As := [.int (zi b)]) (rest := []) (cells' := 0) (slots' := 0) C (met_X2_isSign l E A ad F (va_up M 3 s1) b (show -2147483648 ≤ b ∧ b < 2147483648 from (by omega))) (lw_V q1267 q1269 qs48 q88 q1270) hd_X2_isSign rfl (by decide) (m_recv C hX) hX hS hl.1 rfl (Nat.le_of_ble_eq_true rfl) dX2_chance_10 rfl rfl ⟨Nat.le_of_ble_eq_true rfl, Nat.le_of_ble_eq_true rfl⟩ (fun rr H locs hp hS => ?_)
    obtain ⟨sg, hsg, hrr, hX⟩ := hp
    have hrr : rr = bI (isS ((F 0)) ((M 1)) ((F 2)) b) := hrr
    subst hrr
    have hsg : SgOK ((F 0)) ((M 1)) ((F 2)) sg := hsg
    have hX : MH E A ad F (va_up M 3 sg) H := hX.to rfl (up_up _ _ _ _)
    refine r_if_eq_b (tgt := 26) C dX2_chance_13 (by decide) (fun c_2 => ?_) (fun c_2 => ?_)
    · refine r_ldc2 C (-1) (by decide) q1287 dX2_chance_26 ?_
      exact r_lret C hS (Nat.le_of_ble_eq_true rfl) (Nat.le_of_ble_eq_true rfl) dX2_chance_29 ⟨sg, (by assumption), (by first | exact Eq.symm (sel_f (fun q => absurd q.1.1 (by assumption))) | exact Eq.symm (sel_f (fun q => absurd q.1.2 (by assumption))) | exact Eq.symm (sel_f (fun q => absurd q.2 (by assumption)))), hX⟩
    · refine lv_iload_n C.x C.b dX2_chance_16 rfl (lv_at hl 3 rfl) ?_
      refine r_i2l C (by omega) dX2_chance_17 ?_
      refine r_lconst C 0 rfl dX2_chance_18 ?_
      refine r_lconst C 1 rfl dX2_chance_19 ?_
      refine r_callSi (As := [.long (zl w), .long (zl 0), .long (zl 1)]) (rest := []) (cells' := 0) (slots' := 0) C (met_X2_in l E A ad H w 0 1 (show -9223372036854775808 ≤ w ∧ w < 9223372036854775808 from (by omega)) (show -9223372036854775808 ≤ 0 ∧ 0 < 9223372036854775808 from (by omega)) (show -9223372036854775808 ≤ 1 ∧ 1 < 9223372036854775808 from (by omega))) (lw_S q1209 q1210 q88 q1211) hd_X2_in rfl (by decide) rfl hS hl.1 rfl (Nat.le_of_ble_eq_true rfl) dX2_chance_20 rfl rfl ⟨Nat.le_of_ble_eq_true rfl, Nat.le_of_ble_eq_true rfl⟩ (fun rr H locs hp hS => ?_)
      obtain ⟨hrr, hH⟩ := hp
      have hrr : rr = bI (0 ≤ w ∧ w ≤ 1) := hrr
      subst hrr
      have hX : MH E A ad F (va_up M 3 sg) H := by rw [hH]; exact hX
      refine r_if_ne_b (tgt := 30) C dX2_chance_23 (by decide) (fun c_3 => ?_) (fun c_3 => ?_)
      · refine lv_aload_n C.x C.b dX2_chance_30 rfl (lv_at hl 0 rfl) ?_
        refine r_callVi (As := []) (rest := []) (cells' := 0) (slots' := 0) C (met_X2_allSigns l E A ad F (va_up M 3 sg)) (lw_V q1288 q1290 qs51 q88 q1291) hd_X2_allSigns rfl (by decide) (m_recv C hX) hX hS hl.1 rfl (Nat.le_of_ble_eq_true rfl) dX2_chance_31 rfl rfl ⟨Nat.le_of_ble_eq_true rfl, Nat.le_of_ble_eq_true rfl⟩ (fun rr H locs hp hS => ?_)
        obtain ⟨hal, hrr, hX⟩ := hp
        have hrr : rr = alls (sg) (mtc ((M 6))) ((M 5)) ((F 4)) := hrr
        subst hrr
        have hal : 0 ≤ alls (sg) (mtc ((M 6))) ((M 5)) ((F 4)) ∧ alls (sg) (mtc ((M 6))) ((M 5)) ((F 4)) ≤ 192 := hal
        refine r_i2l C (by omega) dX2_chance_34 ?_
        refine lv_lstore (lv' := [(4, .long (zl (alls (sg) (mtc ((M 6))) ((M 5)) ((F 4))))), (0, .ref (ad 63)), (1, .int (zi a)), (2, .int (zi b)), (3, .int (zi w))]) C.x C.b dX2_chance_35 hl (by decide) rfl (fun ls hl => ?_)
        refine lv_lload C.x C.b dX2_chance_37 (lv_at hl 0 rfl) ?_
        refine r_ldc2 C 2 (by decide) q1292 dX2_chance_39 ?_
        refine r_lcmp C (by omega) (by omega) dX2_chance_42 ?_
        refine r_if_ge_c (tgt := 49) C dX2_chance_43 (by decide) (fun c_4 => ?_) (fun c_4 => ?_)
        · have hal2 : 2 ≤ (alls sg (mtc (M 6)) (M 5) (F 4)) ∧ (alls sg (mtc (M 6)) (M 5) (F 4)) ≤ 192 := by omega
          have hdn := dn_r hal2
          refine lv_aload_n C.x C.b dX2_chance_49 rfl (lv_at hl 1 rfl) ?_
          refine r_bipush C (by decide) dX2_chance_50 ?_
          refine r_bipush C (by decide) dX2_chance_52 ?_
          refine r_callVi (As := [.int (zi (-4)), .int (zi (-4))]) (rest := []) (cells' := 0) (slots' := 0) C (met_X2_besides l E A ad F (va_up M 3 sg) (-4) (-4) (show -2147483648 ≤ (-4) ∧ (-4) < 2147483648 from (by omega)) (show -2147483648 ≤ (-4) ∧ (-4) < 2147483648 from (by omega))) (lw_V q1279 q1281 qs50 q88 q1282) hd_X2_besides rfl (by decide) (m_recv C hX) hX hS hl.1 rfl (Nat.le_of_ble_eq_true rfl) dX2_chance_54 rfl rfl ⟨Nat.le_of_ble_eq_true rfl, Nat.le_of_ble_eq_true rfl⟩ (fun rr H locs hp hS => ?_)
          obtain ⟨hbs, hrr, hX⟩ := hp
          have hrr : rr = bes (sg) (mtc ((M 6))) ((M 5)) ((F 4)) (-4) (-4) := hrr
          subst hrr
          have hbs : 0 ≤ bes (sg) (mtc ((M 6))) ((M 5)) ((F 4)) (-4) (-4) ∧ bes (sg) (mtc ((M 6))) ((M 5)) ((F 4)) (-4) (-4) ≤ 192 := hbs
          refine r_i2l C (by omega) dX2_chance_57 ?_
          refine lv_aload_n C.x C.b dX2_chance_58 rfl (lv_at hl 1 rfl) ?_
          refine lv_iload_n C.x C.b dX2_chance_59 rfl (lv_at hl 2 rfl) ?_
          refine r_callVi (As := [.int (zi a)]) (rest := [.long (zl (bes (sg) (mtc ((M 6))) ((M 5)) ((F 4)) (-4) (-4)))]) (cells' := 0) (slots' := 0) C (met_X2_countOf l E A ad F (va_up M 3 sg) a (show -2147483648 ≤ a ∧ a < 2147483648 from (by omega))) (lw_V q1271 q1273 qs49 q88 q1274) hd_X2_countOf rfl (by decide) (m_recv C hX) hX hS hl.1 rfl (Nat.le_of_ble_eq_true rfl) dX2_chance_60 rfl rfl ⟨Nat.le_of_ble_eq_true rfl, Nat.le_of_ble_eq_true rfl⟩ (fun rr H locs hp hS => ?_)
          obtain ⟨hca, hrr, hX⟩ := hp
          have hrr : rr = cnt (sg) (mtc ((M 6))) ((M 5)) ((F 4)) a := hrr
          subst hrr
          have hca : 0 ≤ cnt (sg) (mtc ((M 6))) ((M 5)) ((F 4)) a ∧ cnt (sg) (mtc ((M 6))) ((M 5)) ((F 4)) a ≤ 192 := hca
          refine r_i2l C (by omega) dX2_chance_63 ?_
          refine r_lmul C dX2_chance_64 ?_
          refine lv_iload_n C.x C.b dX2_chance_65 rfl (lv_at hl 2 rfl) ?_
          refine lv_iload_n C.x C.b dX2_chance_66 rfl (lv_at hl 3 rfl) ?_
          have J85_5 : ∀ (t1 : Int) (ht1 : t1 = sel (a = b) ((cnt (sg) (mtc ((M 6))) ((M 5)) ((F 4)) a) - 1) (cnt (sg) (mtc ((M 6))) ((M 5)) ((F 4)) b)) (H : Heap) (locs : List Loc) (ls : Array Slot) (hX : MH E A ad F (va_up M 3 sg) H) (hS : va_S A s.heap H locs) (hl : lv_has ls 16 [(4, .long (zl (alls (sg) (mtc ((M 6))) ((M 5)) ((F 4))))), (0, .ref (ad 63)), (1, .int (zi a)), (2, .int (zi b)), (3, .int (zi w))]), W p l e rm_X2_chance s m args below meth c H locs 0 0 (MQ below (ql A (fun r H => ∃ m3 : Int → Int, SgOK (F 0) (M 1) (F 2) m3 ∧ (r = sel ((isS (F 0) (M 1) (F 2) a ∧ isS (F 0) (M 1) (F 2) b) ∧ (0 ≤ w ∧ w ≤ 1)) (sel ((alls m3 (mtc (M 6)) (M 5) (F 4)) < 2) w (chn (bes m3 (mtc (M 6)) (M 5) (F 4) (-4) (-4) * (cnt m3 (mtc (M 6)) (M 5) (F 4)) a * sel (a = b) ((cnt m3 (mtc (M 6)) (M 5) (F 4)) a - 1) ((cnt m3 (mtc (M 6)) (M 5) (F 4)) b)) ((alls m3 (mtc (M 6)) (M 5) (F 4)) * ((alls m3 (mtc (M 6)) (M 5) (F 4)) - 1)) w)) (-1)) ∧ MH E A ad F (va_up M 3 m3) H)) args s (rm_X2_chance).cells (rm_X2_chance).slots A) (F0 m 85 ls [.int (zi t1), .long (zl ((bes (sg) (mtc ((M 6))) ((M 5)) ((F 4)) (-4) (-4)) * (cnt (sg) (mtc ((M 6))) ((M 5)) ((F 4)) a)))]) := by
            intro t1 ht1 H locs ls hX hS hl
            subst ht1
            have hsl : (0 ≤ sel (a = b) ((cnt sg (mtc (M 6)) (M 5) (F 4)) a - 1) ((cnt sg (mtc (M 6)) (M 5) (F 4)) b) ∧ sel (a = b) ((cnt sg (mtc (M 6)) (M 5) (F 4)) a - 1) ((cnt sg (mtc (M 6)) (M 5) (F 4)) b) ≤ 192) ∨ sel (a = b) ((cnt sg (mtc (M 6)) (M 5) (F 4)) a - 1) ((cnt sg (mtc (M 6)) (M 5) (F 4)) b) = (cnt sg (mtc (M 6)) (M 5) (F 4)) a - 1 := by
              by_cases q : a = b
              · right; exact sel_t q
              · left; rw [sel_f q]; exact cnt_r (hX.2.1 4 (0, 8) rfl) (fun t => hX.2.2 5 (0, 24) rfl t)
            have hup := up_r hbs hca hsl
            refine r_i2l C (by omega) dX2_chance_85 ?_
            refine r_lmul C dX2_chance_86 ?_
            refine lv_lstore (lv' := [(6, .long (zl (((bes (sg) (mtc ((M 6))) ((M 5)) ((F 4)) (-4) (-4)) * (cnt (sg) (mtc ((M 6))) ((M 5)) ((F 4)) a)) * (sel (a = b) ((cnt (sg) (mtc ((M 6))) ((M 5)) ((F 4)) a) - 1) (cnt (sg) (mtc ((M 6))) ((M 5)) ((F 4)) b))))), (4, .long (zl (alls (sg) (mtc ((M 6))) ((M 5)) ((F 4))))), (0, .ref (ad 63)), (1, .int (zi a)), (2, .int (zi b)), (3, .int (zi w))]) C.x C.b dX2_chance_87 hl (by decide) rfl (fun ls hl => ?_)
            refine lv_lload C.x C.b dX2_chance_89 (lv_at hl 1 rfl) ?_
            refine lv_lload C.x C.b dX2_chance_91 (lv_at hl 1 rfl) ?_
            refine r_lconst C 1 rfl dX2_chance_93 ?_
            refine r_lsub C dX2_chance_94 ?_
            refine r_lmul C dX2_chance_95 ?_
            refine lv_lstore (lv' := [(8, .long (zl ((alls (sg) (mtc ((M 6))) ((M 5)) ((F 4))) * ((alls (sg) (mtc ((M 6))) ((M 5)) ((F 4))) - 1)))), (6, .long (zl (((bes (sg) (mtc ((M 6))) ((M 5)) ((F 4)) (-4) (-4)) * (cnt (sg) (mtc ((M 6))) ((M 5)) ((F 4)) a)) * (sel (a = b) ((cnt (sg) (mtc ((M 6))) ((M 5)) ((F 4)) a) - 1) (cnt (sg) (mtc ((M 6))) ((M 5)) ((F 4)) b))))), (4, .long (zl (alls (sg) (mtc ((M 6))) ((M 5)) ((F 4))))), (0, .ref (ad 63)), (1, .int (zi a)), (2, .int (zi b)), (3, .int (zi w))]) C.x C.b dX2_chance_96 hl (by decide) rfl (fun ls hl => ?_)
            refine lv_lload C.x C.b dX2_chance_98 (lv_at hl 1 rfl) ?_
            refine lv_lstore (lv' := [(10, .long (zl (((bes (sg) (mtc ((M 6))) ((M 5)) ((F 4)) (-4) (-4)) * (cnt (sg) (mtc ((M 6))) ((M 5)) ((F 4)) a)) * (sel (a = b) ((cnt (sg) (mtc ((M 6))) ((M 5)) ((F 4)) a) - 1) (cnt (sg) (mtc ((M 6))) ((M 5)) ((F 4)) b))))), (8, .long (zl ((alls (sg) (mtc ((M 6))) ((M 5)) ((F 4))) * ((alls (sg) (mtc ((M 6))) ((M 5)) ((F 4))) - 1)))), (6, .long (zl (((bes (sg) (mtc ((M 6))) ((M 5)) ((F 4)) (-4) (-4)) * (cnt (sg) (mtc ((M 6))) ((M 5)) ((F 4)) a)) * (sel (a = b) ((cnt (sg) (mtc ((M 6))) ((M 5)) ((F 4)) a) - 1) (cnt (sg) (mtc ((M 6))) ((M 5)) ((F 4)) b))))), (4, .long (zl (alls (sg) (mtc ((M 6))) ((M 5)) ((F 4))))), (0, .ref (ad 63)), (1, .int (zi a)), (2, .int (zi b)), (3, .int (zi w))]) C.x C.b dX2_chance_100 hl (by decide) rfl (fun ls hl => ?_)
            refine lv_lload C.x C.b dX2_chance_102 (lv_at hl 1 rfl) ?_
            refine lv_lstore (lv' := [(12, .long (zl ((alls (sg) (mtc ((M 6))) ((M 5)) ((F 4))) * ((alls (sg) (mtc ((M 6))) ((M 5)) ((F 4))) - 1)))), (10, .long (zl (((bes (sg) (mtc ((M 6))) ((M 5)) ((F 4)) (-4) (-4)) * (cnt (sg) (mtc ((M 6))) ((M 5)) ((F 4)) a)) * (sel (a = b) ((cnt (sg) (mtc ((M 6))) ((M 5)) ((F 4)) a) - 1) (cnt (sg) (mtc ((M 6))) ((M 5)) ((F 4)) b))))), (8, .long (zl ((alls (sg) (mtc ((M 6))) ((M 5)) ((F 4))) * ((alls (sg) (mtc ((M 6))) ((M 5)) ((F 4))) - 1)))), (6, .long (zl (((bes (sg) (mtc ((M 6))) ((M 5)) ((F 4)) (-4) (-4)) * (cnt (sg) (mtc ((M 6))) ((M 5)) ((F 4)) a)) * (sel (a = b) ((cnt (sg) (mtc ((M 6))) ((M 5)) ((F 4)) a) - 1) (cnt (sg) (mtc ((M 6))) ((M 5)) ((F 4)) b))))), (4, .long (zl (alls (sg) (mtc ((M 6))) ((M 5)) ((F 4))))), (0, .ref (ad 63)), (1, .int (zi a)), (2, .int (zi b)), (3, .int (zi w))]) C.x C.b dX2_chance_104 hl (by decide) rfl (fun ls hl => ?_)
            have L106 : ∀ (fu : Nat) (v10 : Int) (v12 : Int) (hx : 0 ≤ v10 ∧ v10 ≤ 7077888) (hy : 0 ≤ v12 ∧ v12 ≤ 7077888) (hg : gc v10 v12 = gc (bes sg (mtc (M 6)) (M 5) (F 4) (-4) (-4) * (cnt sg (mtc (M 6)) (M 5) (F 4)) a * sel (a = b) ((cnt sg (mtc (M 6)) (M 5) (F 4)) a - 1) ((cnt sg (mtc (M 6)) (M 5) (F 4)) b)) ((alls sg (mtc (M 6)) (M 5) (F 4)) * ((alls sg (mtc (M 6)) (M 5) (F 4)) - 1))) (hm : Int.toNat (v12) < fu) (H : Heap) (locs : List Loc) (ls : Array Slot) (hX : MH E A ad F (va_up M 3 sg) H) (hS : va_S A s.heap H locs) (hl : lv_has ls 16 [(0, .ref (ad 63)), (1, .int (zi a)), (2, .int (zi b)), (3, .int (zi w)), (4, .long (zl (alls (sg) (mtc ((M 6))) ((M 5)) ((F 4))))), (6, .long (zl (((bes (sg) (mtc ((M 6))) ((M 5)) ((F 4)) (-4) (-4)) * (cnt (sg) (mtc ((M 6))) ((M 5)) ((F 4)) a)) * (sel (a = b) ((cnt (sg) (mtc ((M 6))) ((M 5)) ((F 4)) a) - 1) (cnt (sg) (mtc ((M 6))) ((M 5)) ((F 4)) b))))), (8, .long (zl ((alls (sg) (mtc ((M 6))) ((M 5)) ((F 4))) * ((alls (sg) (mtc ((M 6))) ((M 5)) ((F 4))) - 1)))), (10, .long (zl v10)), (12, .long (zl v12))]), W p l e rm_X2_chance s m args below meth c H locs 0 0 (MQ below (ql A (fun r H => ∃ m3 : Int → Int, SgOK (F 0) (M 1) (F 2) m3 ∧ (r = sel ((isS (F 0) (M 1) (F 2) a ∧ isS (F 0) (M 1) (F 2) b) ∧ (0 ≤ w ∧ w ≤ 1)) (sel ((alls m3 (mtc (M 6)) (M 5) (F 4)) < 2) w (chn (bes m3 (mtc (M 6)) (M 5) (F 4) (-4) (-4) * (cnt m3 (mtc (M 6)) (M 5) (F 4)) a * sel (a = b) ((cnt m3 (mtc (M 6)) (M 5) (F 4)) a - 1) ((cnt m3 (mtc (M 6)) (M 5) (F 4)) b)) ((alls m3 (mtc (M 6)) (M 5) (F 4)) * ((alls m3 (mtc (M 6)) (M 5) (F 4)) - 1)) w)) (-1)) ∧ MH E A ad F (va_up M 3 m3) H)) args s (rm_X2_chance).cells (rm_X2_chance).slots A) (F0 m 106 ls []) := by
              intro fu
              induction fu with
              | zero => intro v10 v12 hx hy hg hm; exact absurd hm (Nat.not_lt_zero _)
              | succ fu ih106 =>
                intro v10 v12 hx hy hg hm H locs ls hX hS hl
                refine lv_lload C.x C.b dX2_chance_106 (lv_at hl 8 rfl) ?_
                refine r_lconst C 0 rfl dX2_chance_108 ?_
                refine r_lcmp C (by omega) (by omega) dX2_chance_109 ?_
                refine r_if_eq_c (tgt := 131) C dX2_chance_110 (by decide) (fun c_6 => ?_) (fun c_6 => ?_)
                · have hgp := gc_pos (x := bes sg (mtc (M 6)) (M 5) (F 4) (-4) (-4) * (cnt sg (mtc (M 6)) (M 5) (F 4)) a * sel (a = b) ((cnt sg (mtc (M 6)) (M 5) (F 4)) a - 1) ((cnt sg (mtc (M 6)) (M 5) (F 4)) b)) (y := (alls sg (mtc (M 6)) (M 5) (F 4)) * ((alls sg (mtc (M 6)) (M 5) (F 4)) - 1)) (by omega)
                  have hfin : v10 = gc (bes sg (mtc (M 6)) (M 5) (F 4) (-4) (-4) * (cnt sg (mtc (M 6)) (M 5) (F 4)) a * sel (a = b) ((cnt sg (mtc (M 6)) (M 5) (F 4)) a - 1) ((cnt sg (mtc (M 6)) (M 5) (F 4)) b)) ((alls sg (mtc (M 6)) (M 5) (F 4)) * ((alls sg (mtc (M 6)) (M 5) (F 4)) - 1)) := by
                    rw [← hg, show v12 = 0 by omega, gc_0 hx.1]
                  refine lv_iload_n C.x C.b dX2_chance_131 rfl (lv_at hl 3 rfl) ?_
                  refine r_if_ne (tgt := 143) C (by omega) dX2_chance_132 (by decide) (fun c_7 => ?_) (fun c_7 => ?_)
                  · refine lv_lload C.x C.b dX2_chance_143 (lv_at hl 6 rfl) ?_
                    refine lv_lload C.x C.b dX2_chance_145 (lv_at hl 7 rfl) ?_
                    refine r_ldiv C (by omega) (by omega) dX2_chance_147 ?_
                    exact r_lret C hS (Nat.le_of_ble_eq_true rfl) (Nat.le_of_ble_eq_true rfl) dX2_chance_148 ⟨sg, (by first | rfl | assumption | exact (sel_t (by omega)).symm | exact (sel_f (by omega)).symm | omega), (by rw [sel_t (c := (isS (F 0) (M 1) (F 2) a ∧ isS (F 0) (M 1) (F 2) b) ∧ (0 ≤ w ∧ w ≤ 1)) ⟨⟨by assumption, by assumption⟩, by assumption⟩, sel_f (c := (alls sg (mtc (M 6)) (M 5) (F 4)) < 2) (by omega), hfin]; unfold chn; first | rw [if_pos (by assumption)] | rw [if_neg (by assumption)]), hX⟩
                  · refine lv_lload C.x C.b dX2_chance_135 (lv_at hl 5 rfl) ?_
                    refine lv_lload C.x C.b dX2_chance_137 (lv_at hl 7 rfl) ?_
                    refine r_ldiv C (by omega) (by omega) dX2_chance_139 ?_
                    refine lv_goto (tgt := 148) C.x C.b dX2_chance_140 (by decide) ?_
                    exact r_lret C hS (Nat.le_of_ble_eq_true rfl) (Nat.le_of_ble_eq_true rfl) dX2_chance_148 ⟨sg, (by first | rfl | assumption | exact (sel_t (by omega)).symm | exact (sel_f (by omega)).symm | omega), (by rw [sel_t (c := (isS (F 0) (M 1) (F 2) a ∧ isS (F 0) (M 1) (F 2) b) ∧ (0 ≤ w ∧ w ≤ 1)) ⟨⟨by assumption, by assumption⟩, by assumption⟩, sel_f (c := (alls sg (mtc (M 6)) (M 5) (F 4)) < 2) (by omega), hfin]; unfold chn; first | rw [if_pos (by assumption)] | rw [if_neg (by assumption)]), hX⟩
                · have hmp := Int.emod_lt_of_pos v10 (b := v12) (by omega)
                  have hmn := Int.emod_nonneg v10 (b := v12) (by omega)
                  refine lv_lload C.x C.b dX2_chance_113 (lv_at hl 7 rfl) ?_
                  refine lv_lload C.x C.b dX2_chance_115 (lv_at hl 8 rfl) ?_
                  refine r_lrem C (by omega) (by omega) dX2_chance_117 ?_
                  refine lv_lstore (lv' := [(14, .long (zl (v10 % v12))), (0, .ref (ad 63)), (1, .int (zi a)), (2, .int (zi b)), (3, .int (zi w)), (4, .long (zl (alls (sg) (mtc ((M 6))) ((M 5)) ((F 4))))), (6, .long (zl (((bes (sg) (mtc ((M 6))) ((M 5)) ((F 4)) (-4) (-4)) * (cnt (sg) (mtc ((M 6))) ((M 5)) ((F 4)) a)) * (sel (a = b) ((cnt (sg) (mtc ((M 6))) ((M 5)) ((F 4)) a) - 1) (cnt (sg) (mtc ((M 6))) ((M 5)) ((F 4)) b))))), (8, .long (zl ((alls (sg) (mtc ((M 6))) ((M 5)) ((F 4))) * ((alls (sg) (mtc ((M 6))) ((M 5)) ((F 4))) - 1)))), (10, .long (zl v10)), (12, .long (zl v12))]) C.x C.b dX2_chance_118 hl (by decide) rfl (fun ls hl => ?_)
                  refine lv_lload C.x C.b dX2_chance_120 (lv_at hl 9 rfl) ?_
                  refine lv_lstore (lv' := [(10, .long (zl v12)), (14, .long (zl (v10 % v12))), (0, .ref (ad 63)), (1, .int (zi a)), (2, .int (zi b)), (3, .int (zi w)), (4, .long (zl (alls (sg) (mtc ((M 6))) ((M 5)) ((F 4))))), (6, .long (zl (((bes (sg) (mtc ((M 6))) ((M 5)) ((F 4)) (-4) (-4)) * (cnt (sg) (mtc ((M 6))) ((M 5)) ((F 4)) a)) * (sel (a = b) ((cnt (sg) (mtc ((M 6))) ((M 5)) ((F 4)) a) - 1) (cnt (sg) (mtc ((M 6))) ((M 5)) ((F 4)) b))))), (8, .long (zl ((alls (sg) (mtc ((M 6))) ((M 5)) ((F 4))) * ((alls (sg) (mtc ((M 6))) ((M 5)) ((F 4))) - 1)))), (12, .long (zl v12))]) C.x C.b dX2_chance_122 hl (by decide) rfl (fun ls hl => ?_)
                  refine lv_lload C.x C.b dX2_chance_124 (lv_at hl 1 rfl) ?_
                  refine lv_lstore (lv' := [(12, .long (zl (v10 % v12))), (10, .long (zl v12)), (14, .long (zl (v10 % v12))), (0, .ref (ad 63)), (1, .int (zi a)), (2, .int (zi b)), (3, .int (zi w)), (4, .long (zl (alls (sg) (mtc ((M 6))) ((M 5)) ((F 4))))), (6, .long (zl (((bes (sg) (mtc ((M 6))) ((M 5)) ((F 4)) (-4) (-4)) * (cnt (sg) (mtc ((M 6))) ((M 5)) ((F 4)) a)) * (sel (a = b) ((cnt (sg) (mtc ((M 6))) ((M 5)) ((F 4)) a) - 1) (cnt (sg) (mtc ((M 6))) ((M 5)) ((F 4)) b))))), (8, .long (zl ((alls (sg) (mtc ((M 6))) ((M 5)) ((F 4))) * ((alls (sg) (mtc ((M 6))) ((M 5)) ((F 4))) - 1))))]) C.x C.b dX2_chance_126 hl (by decide) rfl (fun ls hl => ?_)
                  refine lv_goto (tgt := 106) C.x C.b dX2_chance_128 (by decide) ?_
                  exact ih106 v12 (v10 % v12) hy (by omega) (by rw [gc_step hx.1 (by omega)]; exact hg) (by have := Int.emod_lt_of_pos v10 (b := v12) (by omega); have := Int.emod_nonneg v10 (b := v12) (by omega); omega) H locs ls hX hS (lv_sub hl [3, 4, 5, 6, 7, 8, 9, 1, 0] rfl)
            exact L106 _ (((bes (sg) (mtc ((M 6))) ((M 5)) ((F 4)) (-4) (-4)) * (cnt (sg) (mtc ((M 6))) ((M 5)) ((F 4)) a)) * (sel (a = b) ((cnt (sg) (mtc ((M 6))) ((M 5)) ((F 4)) a) - 1) (cnt (sg) (mtc ((M 6))) ((M 5)) ((F 4)) b))) ((alls (sg) (mtc ((M 6))) ((M 5)) ((F 4))) * ((alls (sg) (mtc ((M 6))) ((M 5)) ((F 4))) - 1)) (by omega) (by omega) rfl (Nat.lt_succ_self _) H locs ls hX hS (lv_sub hl [5, 6, 7, 8, 4, 3, 2, 1, 0] rfl)
          refine r_icmp_ne (tgt := 80) C (by omega) (by omega) dX2_chance_67 (by decide) (fun c_8 => ?_) (fun c_8 => ?_)
          · refine lv_aload_n C.x C.b dX2_chance_80 rfl (lv_at hl 1 rfl) ?_
            refine lv_iload_n C.x C.b dX2_chance_81 rfl (lv_at hl 3 rfl) ?_
            refine r_callVi (As := [.int (zi b)]) (rest := [.long (zl ((bes (sg) (mtc ((M 6))) ((M 5)) ((F 4)) (-4) (-4)) * (cnt (sg) (mtc ((M 6))) ((M 5)) ((F 4)) a)))]) (cells' := 0) (slots' := 0) C (met_X2_countOf l E A ad F (va_up M 3 sg) b (show -2147483648 ≤ b ∧ b < 2147483648 from (by omega))) (lw_V q1271 q1273 qs49 q88 q1274) hd_X2_countOf rfl (by decide) (m_recv C hX) hX hS hl.1 rfl (Nat.le_of_ble_eq_true rfl) dX2_chance_82 rfl rfl ⟨Nat.le_of_ble_eq_true rfl, Nat.le_of_ble_eq_true rfl⟩ (fun rr H locs hp hS => ?_)
            obtain ⟨hcb, hrr, hX⟩ := hp
            have hrr : rr = cnt (sg) (mtc ((M 6))) ((M 5)) ((F 4)) b := hrr
            subst hrr
            have hcb : 0 ≤ cnt (sg) (mtc ((M 6))) ((M 5)) ((F 4)) b ∧ cnt (sg) (mtc ((M 6))) ((M 5)) ((F 4)) b ≤ 192 := hcb
            exact J85_5 (cnt (sg) (mtc ((M 6))) ((M 5)) ((F 4)) b) ((sel_f c_8).symm) H locs ls hX hS hl
          · refine lv_aload_n C.x C.b dX2_chance_70 rfl (lv_at hl 1 rfl) ?_
            refine lv_iload_n C.x C.b dX2_chance_71 rfl (lv_at hl 2 rfl) ?_
            refine r_callVi (As := [.int (zi a)]) (rest := [.long (zl ((bes (sg) (mtc ((M 6))) ((M 5)) ((F 4)) (-4) (-4)) * (cnt (sg) (mtc ((M 6))) ((M 5)) ((F 4)) a)))]) (cells' := 0) (slots' := 0) C (met_X2_countOf l E A ad F (va_up M 3 sg) a (show -2147483648 ≤ a ∧ a < 2147483648 from (by omega))) (lw_V q1271 q1273 qs49 q88 q1274) hd_X2_countOf rfl (by decide) (m_recv C hX) hX hS hl.1 rfl (Nat.le_of_ble_eq_true rfl) dX2_chance_72 rfl rfl ⟨Nat.le_of_ble_eq_true rfl, Nat.le_of_ble_eq_true rfl⟩ (fun rr H locs hp hS => ?_)
            obtain ⟨hca2, hrr, hX⟩ := hp
            have hrr : rr = cnt (sg) (mtc ((M 6))) ((M 5)) ((F 4)) a := hrr
            subst hrr
            have hca2 : 0 ≤ cnt (sg) (mtc ((M 6))) ((M 5)) ((F 4)) a ∧ cnt (sg) (mtc ((M 6))) ((M 5)) ((F 4)) a ≤ 192 := hca2
            refine r_const C dX2_chance_75 ?_
            refine r_isub C dX2_chance_76 ?_
            refine lv_goto (tgt := 85) C.x C.b dX2_chance_77 (by decide) ?_
            exact J85_5 ((cnt (sg) (mtc ((M 6))) ((M 5)) ((F 4)) a) - 1) ((sel_t c_8).symm) H locs ls hX hS hl
        · refine lv_iload_n C.x C.b dX2_chance_46 rfl (lv_at hl 4 rfl) ?_
          refine r_i2l C (by omega) dX2_chance_47 ?_
          exact r_lret C hS (Nat.le_of_ble_eq_true rfl) (Nat.le_of_ble_eq_true rfl) dX2_chance_48 ⟨sg, (by first | rfl | assumption | exact (sel_t (by omega)).symm | exact (sel_f (by omega)).symm | omega), (by rw [sel_t (c := (isS (F 0) (M 1) (F 2) a ∧ isS (F 0) (M 1) (F 2) b) ∧ (0 ≤ w ∧ w ≤ 1)) ⟨⟨by assumption, by assumption⟩, by assumption⟩, sel_t (c := (alls sg (mtc (M 6)) (M 5) (F 4)) < 2) (by omega)]), hX⟩
      · refine r_ldc2 C (-1) (by decide) q1287 dX2_chance_26 ?_
        exact r_lret C hS (Nat.le_of_ble_eq_true rfl) (Nat.le_of_ble_eq_true rfl) dX2_chance_29 ⟨sg, (by assumption), (by first | exact Eq.symm (sel_f (fun q => absurd q.1.1 (by assumption))) | exact Eq.symm (sel_f (fun q => absurd q.1.2 (by assumption))) | exact Eq.symm (sel_f (fun q => absurd q.2 (by assumption)))), hX⟩

theorem hd_X2_areTexts : yX2_areTexts.cls = RX2 ∧ yX2_areTexts.cls ≠ "java/lang/invoke/MethodHandle" ∧ yX2_areTexts.cls ≠ "java/lang/invoke/VarHandle" ∧ (parseMethodDescriptor yX2_areTexts.desc).map (fun d => d.parameters.length) = some 1 := by decide +kernel
abbrev rm_X2_areTexts : Room := { frames := 1, cells := 0, slots := 0, locals := 25 }
set_option maxHeartbeats 8000000 in
theorem met_X2_areTexts (l : Launch) (E : us_E) (A : Nat → Prop) (ad : Nat → Nat) (F : Nat → Int) (M : Nat → Int → Int) (v : Int) (hv : -2147483648 ≤ v ∧ v < 2147483648) : cMet l yX2_areTexts cX2_areTexts 2 (some .boolean) rm_X2_areTexts A E [.ref (ad 63), .int (zi v)] (fun H => MH E A ad F M H) (qi A (fun r H => (r = bI (0 ≤ v ∧ v ≤ 1 * 2 ^ (F 4).toNat - 1)) ∧ MH E A ad F M H)) := by
  refine cMet.of (by decide) (Nat.le_of_ble_eq_true rfl) (fun p e s m args below meth c C hnm hX hS ls hl => ?_)
  have C : Cx p s m args meth c A RX2 cX2_areTexts 2 (some .boolean) E := C
  have hX : MH E A ad F M s.heap := hX
  have hl : lv_has ls 2 [(0, .ref (ad 63)), (1, .int (zi v))] := hl
  generalize hH : s.heap = H at hX
  have hS : va_S A s.heap H [] := by rw [← hH]; exact hS
  generalize hlocs : ([] : List Loc) = locs at hS ⊢
  have rF4 : 0 ≤ F 4 ∧ F 4 ≤ 8 := hX.2.1 4 (0, 8) rfl
  refine lv_iload_n C.x C.b dX2_areTexts_0 rfl (lv_at hl 1 rfl) ?_
  refine r_i2l C (by omega) dX2_areTexts_1 ?_
  refine r_lconst C 0 rfl dX2_areTexts_2 ?_
  refine r_const C dX2_areTexts_3 ?_
  refine lv_aload_n C.x C.b dX2_areTexts_4 rfl (lv_at hl 0 rfl) ?_
  refine mg_4 C hX (F 4) rfl dX2_areTexts_5 (fun _ => ?_)
  have hp2 := p2_12 (k := F 4) (by omega)
  refine r_ishl C (by omega) (by omega) rfl dX2_areTexts_8 ?_
  refine r_const C dX2_areTexts_9 ?_
  refine r_isub C dX2_areTexts_10 ?_
  refine r_i2l C (by omega) dX2_areTexts_11 ?_
  refine r_callSi (As := [.long (zl v), .long (zl 0), .long (zl ((1 * 2 ^ (F 4).toNat) - 1))]) (rest := []) (cells' := 0) (slots' := 0) C (met_X2_in l E A ad H v 0 ((1 * 2 ^ (F 4).toNat) - 1) (show -9223372036854775808 ≤ v ∧ v < 9223372036854775808 from (by omega)) (show -9223372036854775808 ≤ 0 ∧ 0 < 9223372036854775808 from (by omega)) (show -9223372036854775808 ≤ ((1 * 2 ^ (F 4).toNat) - 1) ∧ ((1 * 2 ^ (F 4).toNat) - 1) < 9223372036854775808 from (by omega))) (lw_S q1209 q1210 q88 q1211) hd_X2_in rfl (by decide) rfl hS hl.1 rfl (Nat.le_of_ble_eq_true rfl) dX2_areTexts_12 rfl rfl ⟨Nat.le_of_ble_eq_true rfl, Nat.le_of_ble_eq_true rfl⟩ (fun rr H locs hp hS => ?_)
  obtain ⟨hrr, hH⟩ := hp
  have hrr : rr = bI (0 ≤ v ∧ v ≤ ((1 * 2 ^ (F 4).toNat) - 1)) := hrr
  subst hrr
  have hX : MH E A ad F M H := by rw [hH]; exact hX
  exact r_zret C (bI_e _) hS (Nat.le_of_ble_eq_true rfl) (Nat.le_of_ble_eq_true rfl) dX2_areTexts_15 ⟨(bI_c (by first | exact Iff.rfl | (constructor <;> intro _ <;> omega))), hX⟩

theorem hd_X2_findReadable : yX2_findReadable.cls = RX2 ∧ yX2_findReadable.cls ≠ "java/lang/invoke/MethodHandle" ∧ yX2_findReadable.cls ≠ "java/lang/invoke/VarHandle" ∧ (parseMethodDescriptor yX2_findReadable.desc).map (fun d => d.parameters.length) = some 1 := by decide +kernel
abbrev rm_X2_findReadable : Room := { frames := 2, cells := 0, slots := 0, locals := 45 }
set_option maxHeartbeats 8000000 in
theorem met_X2_findReadable (l : Launch) (E : us_E) (A : Nat → Prop) (ad : Nat → Nat) (F : Nat → Int) (M : Nat → Int → Int) (v : Int) (hv : 0 ≤ v ∧ v < 2147483648) (hwk : F 7 = wk (mtc (M 6)) (M 5) (F 4) 0) (hwr : WR (mtc (M 6)) (M 5) (M 8) (M 9) (M 10) (M 11) (F 4) 0) (hsp : ∀ s : Int, 0 ≤ s → s < 24 → M 35 s = -4 ∨ 0 ≤ M 35 s) : cMet l yX2_findReadable cX2_findReadable 7 none rm_X2_findReadable A E [.ref (ad 63), .int (zi v)] (fun H => MH E A ad F M H) (qv A (fun H => ∃ f36 : Int, ∃ m37 : Int → Int, ∃ m38 : Int → Int, LR (Rd (M 3) (M 6) (M 8) (M 9) (M 10) (M 11) (M 35) v) (Rq (M 3) (M 6) (M 8) (M 9) (M 35)) (M 10) (F 7) f36 m37 m38 ∧ MH E A ad (va_up F 36 f36) (va_up (va_up M 37 m37) 38 m38) H)) := by
  refine cMet.of (by decide) (Nat.le_of_ble_eq_true rfl) (fun p e s m args below meth c C hnm hX hS ls hl => ?_)
  have C : Cx p s m args meth c A RX2 cX2_findReadable 7 none E := C
  have hX : MH E A ad F M s.heap := hX
  have hl : lv_has ls 7 [(0, .ref (ad 63)), (1, .int (zi v))] := hl
  generalize hH : s.heap = H at hX
  have hS : va_S A s.heap H [] := by rw [← hH]; exact hS
  generalize hlocs : ([] : List Loc) = locs at hS ⊢
  have rF4 : 0 ≤ F 4 ∧ F 4 ≤ 8 := hX.2.1 4 (0, 8) rfl
  have rF7 : 0 ≤ F 7 ∧ F 7 ≤ 104 := hX.2.1 7 (0, 104) rfl
  have rF36 : 0 ≤ F 36 ∧ F 36 ≤ 104 := hX.2.1 36 (0, 104) rfl
  have h24 : ∀ t, 0 ≤ M 5 t ∧ M 5 t ≤ 24 := fun t => hX.2.2 5 (0, 24) rfl t
  have hcl : ∀ q, -2 ≤ M 6 q ∧ M 6 q ≤ 23 := fun q => hX.2.2 6 (-2, 23) rfl q
  refine lv_aload_n C.x C.b dX2_findReadable_0 rfl (lv_at hl 0 rfl) ?_
  refine r_const C dX2_findReadable_1 ?_
  refine mp_36 C hX hS (by omega) (F' := (va_up F 36 0)) rfl dX2_findReadable_2 (fun H locs hX hS => ?_)
  refine r_const C dX2_findReadable_5 ?_
  refine lv_istore_n (lv' := [(2, .int (zi 0)), (0, .ref (ad 63)), (1, .int (zi v))]) C.x C.b dX2_findReadable_6 rfl hl (by decide) rfl (fun ls hl => ?_)
  have L7 : ∀ (fu : Nat) (v2 : Int) (f36 : Int) (m37 : Int → Int) (m38 : Int → Int) (h2 : 0 ≤ v2 ∧ v2 ≤ F 7) (hl_ : LR (Rd (M 3) (M 6) (M 8) (M 9) (M 10) (M 11) (M 35) v) (Rq (M 3) (M 6) (M 8) (M 9) (M 35)) (M 10) v2 f36 m37 m38) (hm : Int.toNat (F 7 - v2) < fu) (H : Heap) (locs : List Loc) (ls : Array Slot) (hX : MH E A ad (va_up F 36 f36) (va_up (va_up M 37 m37) 38 m38) H) (hS : va_S A s.heap H locs) (hl : lv_has ls 7 [(0, .ref (ad 63)), (1, .int (zi v)), (2, .int (zi v2))]), W p l e rm_X2_findReadable s m args below meth c H locs 0 0 (MQ below (qv A (fun H => ∃ f36 : Int, ∃ m37 : Int → Int, ∃ m38 : Int → Int, LR (Rd (M 3) (M 6) (M 8) (M 9) (M 10) (M 11) (M 35) v) (Rq (M 3) (M 6) (M 8) (M 9) (M 35)) (M 10) (F 7) f36 m37 m38 ∧ MH E A ad (va_up F 36 f36) (va_up (va_up M 37 m37) 38 m38) H)) args s (rm_X2_findReadable).cells (rm_X2_findReadable).slots A) (F0 m 7 ls []) := by
    intro fu
    induction fu with
    | zero => intro v2 f36 m37 m38 h2 hl_ hm; exact absurd hm (Nat.not_lt_zero _)
    | succ fu ih7 =>
      intro v2 f36 m37 m38 h2 hl_ hm H locs ls hX hS hl
      refine lv_iload_n C.x C.b dX2_findReadable_7 rfl (lv_at hl 2 rfl) ?_
      refine lv_aload_n C.x C.b dX2_findReadable_8 rfl (lv_at hl 0 rfl) ?_
      refine mg_7 C hX (F 7) rfl dX2_findReadable_9 (fun _ => ?_)
      refine r_icmp_ge (tgt := 173) C (by omega) (by omega) dX2_findReadable_12 (by decide) (fun c_1 => ?_) (fun c_1 => ?_)
      · exact r_vret C hS (Nat.le_of_ble_eq_true rfl) (Nat.le_of_ble_eq_true rfl) dX2_findReadable_173 ⟨f36, m37, m38, (by rw [← show v2 = F 7 by omega]; exact hl_), hX⟩
      · have r11 : 0 ≤ M 11 v2 ∧ M 11 v2 ≤ 1 := hX.2.2 11 (0, 1) rfl _
        have r8 : 0 ≤ M 8 v2 ∧ M 8 v2 ≤ 7 := hX.2.2 8 (0, 7) rfl _
        obtain ⟨wa, wb_, hw1, hw2, hw3, hw4, hw5, hw6, hw7, hw8, hw9, hw10, hw11, hw12⟩ := hwr.at (fun a => (h24 a).1) rF4.1 (w := v2) (by omega) (by omega)
        have hwe := (we_E (tc := (mtc (M 6))) (tl := (M 5)) (t := wa) (i := wb_) (by omega))
        have hwe1 := hwe.1
        have hwe2 := hwe.2.1
        have h24a := h24 wa
        refine lv_aload_n C.x C.b dX2_findReadable_15 rfl (lv_at hl 0 rfl) ?_
        refine mg_11 C hX dX2_findReadable_16 ?_
        refine lv_iload_n C.x C.b dX2_findReadable_19 rfl (lv_at hl 2 rfl) ?_
        refine ml_11 C hX (by omega) (M 11) rfl dX2_findReadable_20 (fun r20 => ?_)
        have J54_2 : ∀ (t0 : Int) (ht0 : t0 = bI ((¬ ((M 11 v2) = 0)) ∧ ((¬ (6 < (M 10 v2))) ∧ (((v / 2 ^ (M 8 v2).toNat) % 2) = 1)))) (H : Heap) (locs : List Loc) (ls : Array Slot) (hX : MH E A ad (va_up F 36 f36) (va_up (va_up M 37 m37) 38 m38) H) (hS : va_S A s.heap H locs) (hl : lv_has ls 7 [(0, .ref (ad 63)), (1, .int (zi v)), (2, .int (zi v2))]), W p l e rm_X2_findReadable s m args below meth c H locs 0 0 (MQ below (qv A (fun H => ∃ f36 : Int, ∃ m37 : Int → Int, ∃ m38 : Int → Int, LR (Rd (M 3) (M 6) (M 8) (M 9) (M 10) (M 11) (M 35) v) (Rq (M 3) (M 6) (M 8) (M 9) (M 35)) (M 10) (F 7) f36 m37 m38 ∧ MH E A ad (va_up F 36 f36) (va_up (va_up M 37 m37) 38 m38) H)) args s (rm_X2_findReadable).cells (rm_X2_findReadable).slots A) (F0 m 54 ls [.int (zi t0)]) := by
          intro t0 ht0 H locs ls hX hS hl
          subst ht0
          refine lv_istore_n (lv' := [(3, .int (zi (bI ((¬ ((M 11 v2) = 0)) ∧ ((¬ (6 < (M 10 v2))) ∧ (((v / 2 ^ (M 8 v2).toNat) % 2) = 1)))))), (0, .ref (ad 63)), (1, .int (zi v)), (2, .int (zi v2))]) C.x C.b dX2_findReadable_54 rfl hl (by decide) rfl (fun ls hl => ?_)
          refine r_const C dX2_findReadable_55 ?_
          refine lv_istore (lv' := [(4, .int (zi 0)), (3, .int (zi (bI ((¬ ((M 11 v2) = 0)) ∧ ((¬ (6 < (M 10 v2))) ∧ (((v / 2 ^ (M 8 v2).toNat) % 2) = 1)))))), (0, .ref (ad 63)), (1, .int (zi v)), (2, .int (zi v2))]) C.x C.b dX2_findReadable_56 hl (by decide) rfl (fun ls hl => ?_)
          refine r_const C dX2_findReadable_58 ?_
          refine lv_istore (lv' := [(5, .int (zi 0)), (4, .int (zi 0)), (3, .int (zi (bI ((¬ ((M 11 v2) = 0)) ∧ ((¬ (6 < (M 10 v2))) ∧ (((v / 2 ^ (M 8 v2).toNat) % 2) = 1)))))), (0, .ref (ad 63)), (1, .int (zi v)), (2, .int (zi v2))]) C.x C.b dX2_findReadable_59 hl (by decide) rfl (fun ls hl => ?_)
          have L61 : ∀ (fu : Nat) (v3 : Prop) (xv3 : Int) (hv3 : xv3 = bI v3) (v4 : Int) (v5 : Int) (h5 : 0 ≤ v5 ∧ v5 ≤ M 10 v2) (ht3 : v3 ↔ ((M 11 v2 = 1 ∧ M 10 v2 ≤ 6 ∧ v / 2 ^ (M 8 v2).toNat % 2 = 1) ∧ ∀ j : Int, 0 ≤ j → j < v5 → ¬ (Rq (M 3) (M 6) (M 8) (M 9) (M 35)) v2 j = -4)) (hd : v3 → Dig ((Rq (M 3) (M 6) (M 8) (M 9) (M 35)) v2) v5 v4) (hm : Int.toNat (M 10 v2 - v5) < fu) (H : Heap) (locs : List Loc) (ls : Array Slot) (hX : MH E A ad (va_up F 36 f36) (va_up (va_up M 37 m37) 38 m38) H) (hS : va_S A s.heap H locs) (hl : lv_has ls 7 [(0, .ref (ad 63)), (1, .int (zi v)), (2, .int (zi v2)), (3, .int (zi xv3)), (4, .int (zi v4)), (5, .int (zi v5))]), W p l e rm_X2_findReadable s m args below meth c H locs 0 0 (MQ below (qv A (fun H => ∃ f36 : Int, ∃ m37 : Int → Int, ∃ m38 : Int → Int, LR (Rd (M 3) (M 6) (M 8) (M 9) (M 10) (M 11) (M 35) v) (Rq (M 3) (M 6) (M 8) (M 9) (M 35)) (M 10) (F 7) f36 m37 m38 ∧ MH E A ad (va_up F 36 f36) (va_up (va_up M 37 m37) 38 m38) H)) args s (rm_X2_findReadable).cells (rm_X2_findReadable).slots A) (F0 m 61 ls []) := by
            intro fu
            induction fu with
            | zero => intro v3 xv3 hv3 v4 v5 h5 ht3 hd hm; exact absurd hm (Nat.not_lt_zero _)
            | succ fu ih61 =>
              intro v3 xv3 hv3 v4 v5 h5 ht3 hd hm H locs ls hX hS hl
              subst hv3
              refine lv_iload C.x C.b dX2_findReadable_61 (lv_at hl 5 rfl) ?_
              refine lv_aload_n C.x C.b dX2_findReadable_63 rfl (lv_at hl 0 rfl) ?_
              refine mg_10 C hX dX2_findReadable_64 ?_
              refine lv_iload_n C.x C.b dX2_findReadable_67 rfl (lv_at hl 2 rfl) ?_
              refine ml_10 C hX (by omega) (M 10) rfl dX2_findReadable_68 (fun r68 => ?_)
              refine r_icmp_ge (tgt := 127) C (by omega) (by omega) dX2_findReadable_69 (by decide) (fun c_3 => ?_) (fun c_3 => ?_)
              · have hno : ¬ v3 → ¬ (Rd (M 3) (M 6) (M 8) (M 9) (M 10) (M 11) (M 35) v) v2 := fun q z => q (ht3.2 ⟨⟨z.1, z.2.1, z.2.2.1⟩, fun j a b => z.2.2.2 j a (by omega)⟩)
                have hyes : v3 → ((Rd (M 3) (M 6) (M 8) (M 9) (M 10) (M 11) (M 35) v) v2 ∧ Dig ((Rq (M 3) (M 6) (M 8) (M 9) (M 35)) v2) (M 10 v2) v4) := fun q => by
                  first
                  | exact absurd q (by assumption)
                  | exact ⟨⟨(ht3.1 q).1.1, (ht3.1 q).1.2.1, (ht3.1 q).1.2.2, fun j a b => (ht3.1 q).2 j a (by omega)⟩, (show v5 = M 10 v2 by omega) ▸ hd q⟩
                refine lv_iload_n C.x C.b dX2_findReadable_127 rfl (lv_at hl 3 rfl) ?_
                refine r_if_eq_b (tgt := 167) C dX2_findReadable_128 (by decide) (fun c_4 => ?_) (fun c_4 => ?_)
                · refine r_iinc (lv' := [(2, .int (zi (v2 + 1))), (0, .ref (ad 63)), (1, .int (zi v)), (3, .int (zi (bI v3))), (4, .int (zi v4)), (5, .int (zi v5))]) C dX2_findReadable_167 hl (k := 2) rfl (by decide) rfl (fun ls hl => ?_)
                  refine lv_goto (tgt := 7) C.x C.b dX2_findReadable_170 (by decide) ?_
                  exact ih7 (v2 + 1) f36 m37 m38 (by omega) (by first | exact hl_.no h2.1 (hno (by assumption)) | exact hl_.yes h2.1 hy.1 hy.2) (by omega) H locs ls hX hS (lv_sub hl [1, 2, 0] rfl)
                · have hy := hyes (by assumption)
                  have hy6 := hy.1.2.1
                  have hdl := hy.2.le ⟨by omega, hy.1.2.1⟩
                  have h105 := isum_bI (P := (Rd (M 3) (M 6) (M 8) (M 9) (M 10) (M 11) (M 35) v)) h2.1
                  rw [← hl_.1] at h105
                  refine lv_aload_n C.x C.b dX2_findReadable_131 rfl (lv_at hl 0 rfl) ?_
                  refine mg_37 C hX dX2_findReadable_132 ?_
                  refine lv_aload_n C.x C.b dX2_findReadable_135 rfl (lv_at hl 0 rfl) ?_
                  refine mg_36 C hX f36 rfl dX2_findReadable_136 (fun r136 => ?_)
                  refine lv_aload_n C.x C.b dX2_findReadable_139 rfl (lv_at hl 0 rfl) ?_
                  refine mg_10 C hX dX2_findReadable_140 ?_
                  refine lv_iload_n C.x C.b dX2_findReadable_143 rfl (lv_at hl 2 rfl) ?_
                  refine ml_10 C hX (by omega) (M 10) rfl dX2_findReadable_144 (fun _ => ?_)
                  refine ms_37 C hX hS (by omega) (by omega) m37 rfl (M' := (va_up (va_up M 37 (fup m37 f36 (M 10 v2))) 38 m38)) (up_in (by decide) (up_up _ _ _ _)) dX2_findReadable_145 (fun H locs hX hS => ?_)
                  refine lv_aload_n C.x C.b dX2_findReadable_146 rfl (lv_at hl 0 rfl) ?_
                  refine mg_38 C hX dX2_findReadable_147 ?_
                  refine lv_aload_n C.x C.b dX2_findReadable_150 rfl (lv_at hl 0 rfl) ?_
                  refine mg_36 C hX f36 rfl dX2_findReadable_151 (fun _ => ?_)
                  refine lv_iload C.x C.b dX2_findReadable_154 (lv_at hl 4 rfl) ?_
                  refine ms_38 C hX hS (by omega) (by omega) m38 rfl (M' := (va_up (va_up M 37 (fup m37 f36 (M 10 v2))) 38 (fup m38 f36 v4))) (up_up _ _ _ _) dX2_findReadable_156 (fun H locs hX hS => ?_)
                  refine lv_aload_n C.x C.b dX2_findReadable_157 rfl (lv_at hl 0 rfl) ?_
                  refine lv_dup C.x C.b dX2_findReadable_158 rfl ?_
                  refine mg_36 C hX f36 rfl dX2_findReadable_159 (fun _ => ?_)
                  refine r_const C dX2_findReadable_162 ?_
                  refine r_iadd C dX2_findReadable_163 ?_
                  refine mp_36 C hX hS (by omega) (F' := (va_up F 36 (f36 + 1))) (up_up _ _ _ _) dX2_findReadable_164 (fun H locs hX hS => ?_)
                  refine r_iinc (lv' := [(2, .int (zi (v2 + 1))), (0, .ref (ad 63)), (1, .int (zi v)), (3, .int (zi (bI v3))), (4, .int (zi v4)), (5, .int (zi v5))]) C dX2_findReadable_167 hl (k := 2) rfl (by decide) rfl (fun ls hl => ?_)
                  refine lv_goto (tgt := 7) C.x C.b dX2_findReadable_170 (by decide) ?_
                  exact ih7 (v2 + 1) (f36 + 1) (fup m37 f36 (M 10 v2)) (fup m38 f36 v4) (by omega) (by first | exact hl_.no h2.1 (hno (by assumption)) | exact hl_.yes h2.1 hy.1 hy.2) (by omega) H locs ls hX hS (lv_sub hl [1, 2, 0] rfl)
              · refine lv_iload_n C.x C.b dX2_findReadable_72 rfl (lv_at hl 3 rfl) ?_
                refine r_if_eq_b (tgt := 127) C dX2_findReadable_73 (by decide) (fun c_5 => ?_) (fun c_5 => ?_)
                · have hno : ¬ v3 → ¬ (Rd (M 3) (M 6) (M 8) (M 9) (M 10) (M 11) (M 35) v) v2 := fun q z => q (ht3.2 ⟨⟨z.1, z.2.1, z.2.2.1⟩, fun j a b => z.2.2.2 j a (by omega)⟩)
                  have hyes : v3 → ((Rd (M 3) (M 6) (M 8) (M 9) (M 10) (M 11) (M 35) v) v2 ∧ Dig ((Rq (M 3) (M 6) (M 8) (M 9) (M 35)) v2) (M 10 v2) v4) := fun q => by
                    first
                    | exact absurd q (by assumption)
                    | exact ⟨⟨(ht3.1 q).1.1, (ht3.1 q).1.2.1, (ht3.1 q).1.2.2, fun j a b => (ht3.1 q).2 j a (by omega)⟩, (show v5 = M 10 v2 by omega) ▸ hd q⟩
                  refine lv_iload_n C.x C.b dX2_findReadable_127 rfl (lv_at hl 3 rfl) ?_
                  refine r_if_eq_b (tgt := 167) C dX2_findReadable_128 (by decide) (fun c_6 => ?_) (fun c_6 => ?_)
                  · refine r_iinc (lv' := [(2, .int (zi (v2 + 1))), (0, .ref (ad 63)), (1, .int (zi v)), (3, .int (zi (bI v3))), (4, .int (zi v4)), (5, .int (zi v5))]) C dX2_findReadable_167 hl (k := 2) rfl (by decide) rfl (fun ls hl => ?_)
                    refine lv_goto (tgt := 7) C.x C.b dX2_findReadable_170 (by decide) ?_
                    exact ih7 (v2 + 1) f36 m37 m38 (by omega) (by first | exact hl_.no h2.1 (hno (by assumption)) | exact hl_.yes h2.1 hy.1 hy.2) (by omega) H locs ls hX hS (lv_sub hl [1, 2, 0] rfl)
                  · have hy := hyes (by assumption)
                    have hy6 := hy.1.2.1
                    have hdl := hy.2.le ⟨by omega, hy.1.2.1⟩
                    have h105 := isum_bI (P := (Rd (M 3) (M 6) (M 8) (M 9) (M 10) (M 11) (M 35) v)) h2.1
                    rw [← hl_.1] at h105
                    refine lv_aload_n C.x C.b dX2_findReadable_131 rfl (lv_at hl 0 rfl) ?_
                    refine mg_37 C hX dX2_findReadable_132 ?_
                    refine lv_aload_n C.x C.b dX2_findReadable_135 rfl (lv_at hl 0 rfl) ?_
                    refine mg_36 C hX f36 rfl dX2_findReadable_136 (fun r136 => ?_)
                    refine lv_aload_n C.x C.b dX2_findReadable_139 rfl (lv_at hl 0 rfl) ?_
                    refine mg_10 C hX dX2_findReadable_140 ?_
                    refine lv_iload_n C.x C.b dX2_findReadable_143 rfl (lv_at hl 2 rfl) ?_
                    refine ml_10 C hX (by omega) (M 10) rfl dX2_findReadable_144 (fun _ => ?_)
                    refine ms_37 C hX hS (by omega) (by omega) m37 rfl (M' := (va_up (va_up M 37 (fup m37 f36 (M 10 v2))) 38 m38)) (up_in (by decide) (up_up _ _ _ _)) dX2_findReadable_145 (fun H locs hX hS => ?_)
                    refine lv_aload_n C.x C.b dX2_findReadable_146 rfl (lv_at hl 0 rfl) ?_
                    refine mg_38 C hX dX2_findReadable_147 ?_
                    refine lv_aload_n C.x C.b dX2_findReadable_150 rfl (lv_at hl 0 rfl) ?_
                    refine mg_36 C hX f36 rfl dX2_findReadable_151 (fun _ => ?_)
                    refine lv_iload C.x C.b dX2_findReadable_154 (lv_at hl 4 rfl) ?_
                    refine ms_38 C hX hS (by omega) (by omega) m38 rfl (M' := (va_up (va_up M 37 (fup m37 f36 (M 10 v2))) 38 (fup m38 f36 v4))) (up_up _ _ _ _) dX2_findReadable_156 (fun H locs hX hS => ?_)
                    refine lv_aload_n C.x C.b dX2_findReadable_157 rfl (lv_at hl 0 rfl) ?_
                    refine lv_dup C.x C.b dX2_findReadable_158 rfl ?_
                    refine mg_36 C hX f36 rfl dX2_findReadable_159 (fun _ => ?_)
                    refine r_const C dX2_findReadable_162 ?_
                    refine r_iadd C dX2_findReadable_163 ?_
                    refine mp_36 C hX hS (by omega) (F' := (va_up F 36 (f36 + 1))) (up_up _ _ _ _) dX2_findReadable_164 (fun H locs hX hS => ?_)
                    refine r_iinc (lv' := [(2, .int (zi (v2 + 1))), (0, .ref (ad 63)), (1, .int (zi v)), (3, .int (zi (bI v3))), (4, .int (zi v4)), (5, .int (zi v5))]) C dX2_findReadable_167 hl (k := 2) rfl (by decide) rfl (fun ls hl => ?_)
                    refine lv_goto (tgt := 7) C.x C.b dX2_findReadable_170 (by decide) ?_
                    exact ih7 (v2 + 1) (f36 + 1) (fup m37 f36 (M 10 v2)) (fup m38 f36 v4) (by omega) (by first | exact hl_.no h2.1 (hno (by assumption)) | exact hl_.yes h2.1 hy.1 hy.2) (by omega) H locs ls hX hS (lv_sub hl [1, 2, 0] rfl)
                · have hwt := ht3.1 (by assumption)
                  have hwh := hw10.1 hwt.1.1
                  have hcw : 0 ≤ M 6 (24 * M 8 v2 + (M 9 v2 + v5)) := by
                    have z := hwh.2 (wb_ + v5) (by omega) (by omega)
                    have z2 := hwe.2.2.1 (wb_ + v5) (by omega) (by omega)
                    have z3 : -2 ≤ (mtc (M 6)) wa (wb_ + v5) := (hcl _).1
                    rw [hw7, hw8]
                    show 0 ≤ (mtc (M 6)) wa (wb_ + v5)
                    omega
                  have hsn := (sa_n (sg := M 3) (c := M 6 (24 * M 8 v2 + (M 9 v2 + v5))) (hX.2.2 3 (0, 23) rfl _).1)
                  refine lv_aload_n C.x C.b dX2_findReadable_76 rfl (lv_at hl 0 rfl) ?_
                  refine mg_35 C hX dX2_findReadable_77 ?_
                  refine lv_aload_n C.x C.b dX2_findReadable_80 rfl (lv_at hl 0 rfl) ?_
                  refine lv_iload_n C.x C.b dX2_findReadable_81 rfl (lv_at hl 2 rfl) ?_
                  refine lv_iload C.x C.b dX2_findReadable_82 (lv_at hl 5 rfl) ?_
                  refine r_callVi (As := [.int (zi v2), .int (zi v5)]) (rest := [.ref (ad 35)]) (cells' := 0) (slots' := 0) C (met_X2_wordAt l E A ad (va_up F 36 f36) (va_up (va_up M 37 m37) 38 m38) v2 v5 (show 0 ≤ v2 ∧ v2 < 104 from (by omega)) (show 0 ≤ (M 9) v2 + v5 ∧ (M 9) v2 + v5 < 24 ∧ -100 ≤ v5 from (by omega))) (lw_V q1301 q1303 qs53 q88 q1304) hd_X2_wordAt rfl (by decide) (m_recv C hX) hX hS hl.1 rfl (Nat.le_of_ble_eq_true rfl) dX2_findReadable_84 rfl rfl ⟨Nat.le_of_ble_eq_true rfl, Nat.le_of_ble_eq_true rfl⟩ (fun rr H locs hp hS => ?_)
                  obtain ⟨hat, hrr, hX⟩ := hp
                  have hrr : rr = sa ((M 3)) ((M 6) (24 * (M 8) v2 + ((M 9) v2 + v5))) := hrr
                  subst hrr
                  have hat : -2 ≤ sa ((M 3)) ((M 6) (24 * (M 8) v2 + ((M 9) v2 + v5))) ∧ sa ((M 3)) ((M 6) (24 * (M 8) v2 + ((M 9) v2 + v5))) ≤ 23 := hat
                  refine ml_35 C hX (by omega) (M 35) rfl dX2_findReadable_87 (fun r87 => ?_)
                  refine lv_istore (lv' := [(6, .int (zi (M 35 (sa ((M 3)) ((M 6) (24 * (M 8) v2 + ((M 9) v2 + v5))))))), (0, .ref (ad 63)), (1, .int (zi v)), (2, .int (zi v2)), (3, .int (zi (bI v3))), (4, .int (zi v4)), (5, .int (zi v5))]) C.x C.b dX2_findReadable_88 hl (by decide) rfl (fun ls hl => ?_)
                  refine lv_iload C.x C.b dX2_findReadable_90 (lv_at hl 0 rfl) ?_
                  refine r_bipush C (by decide) dX2_findReadable_92 ?_
                  have J102_7 : ∀ (t0 : Int) (ht0 : t0 = bI (¬ ((M 35 (sa ((M 3)) ((M 6) (24 * (M 8) v2 + ((M 9) v2 + v5))))) = (-4)))) (H : Heap) (locs : List Loc) (ls : Array Slot) (hX : MH E A ad (va_up F 36 f36) (va_up (va_up M 37 m37) 38 m38) H) (hS : va_S A s.heap H locs) (hl : lv_has ls 7 [(6, .int (zi (M 35 (sa ((M 3)) ((M 6) (24 * (M 8) v2 + ((M 9) v2 + v5))))))), (0, .ref (ad 63)), (1, .int (zi v)), (2, .int (zi v2)), (3, .int (zi (bI v3))), (4, .int (zi v4)), (5, .int (zi v5))]), W p l e rm_X2_findReadable s m args below meth c H locs 0 0 (MQ below (qv A (fun H => ∃ f36 : Int, ∃ m37 : Int → Int, ∃ m38 : Int → Int, LR (Rd (M 3) (M 6) (M 8) (M 9) (M 10) (M 11) (M 35) v) (Rq (M 3) (M 6) (M 8) (M 9) (M 35)) (M 10) (F 7) f36 m37 m38 ∧ MH E A ad (va_up F 36 f36) (va_up (va_up M 37 m37) 38 m38) H)) args s (rm_X2_findReadable).cells (rm_X2_findReadable).slots A) (F0 m 102 ls [.int (zi t0)]) := by
                    intro t0 ht0 H locs ls hX hS hl
                    subst ht0
                    have hsp2 := hsp (sa (M 3) (M 6 (24 * M 8 v2 + (M 9 v2 + v5)))) (by omega) (by omega)
                    have r35 : -4 ≤ M 35 (sa (M 3) (M 6 (24 * M 8 v2 + (M 9 v2 + v5)))) ∧ M 35 (sa (M 3) (M 6 (24 * M 8 v2 + (M 9 v2 + v5)))) ≤ 5 := hX.2.2 35 (-4, 5) rfl _
                    have ht3s : (¬ M 35 (sa (M 3) (M 6 (24 * M 8 v2 + (M 9 v2 + v5)))) = -4) ↔ ((M 11 v2 = 1 ∧ M 10 v2 ≤ 6 ∧ v / 2 ^ (M 8 v2).toNat % 2 = 1) ∧ ∀ j : Int, 0 ≤ j → j < v5 + 1 → ¬ (Rq (M 3) (M 6) (M 8) (M 9) (M 35)) v2 j = -4) := Iff.trans ⟨fun q => ⟨by assumption, q⟩, fun q => q.2⟩ (ba_st (P := fun j => ¬ (Rq (M 3) (M 6) (M 8) (M 9) (M 35)) v2 j = -4) h5.1 ht3)
                    have hds : (¬ M 35 (sa (M 3) (M 6 (24 * M 8 v2 + (M 9 v2 + v5)))) = -4) → Dig ((Rq (M 3) (M 6) (M 8) (M 9) (M 35)) v2) (v5 + 1) (8 * v4 + sel (¬ M 35 (sa (M 3) (M 6 (24 * M 8 v2 + (M 9 v2 + v5)))) = -4) (M 35 (sa (M 3) (M 6 (24 * M 8 v2 + (M 9 v2 + v5))))) 0) := fun q => by rw [sel_t q]; exact (hd (by assumption)).st h5.1 ⟨by omega, by omega⟩ rfl
                    refine lv_istore_n (lv' := [(3, .int (zi (bI (¬ ((M 35 (sa ((M 3)) ((M 6) (24 * (M 8) v2 + ((M 9) v2 + v5))))) = (-4)))))), (6, .int (zi (M 35 (sa ((M 3)) ((M 6) (24 * (M 8) v2 + ((M 9) v2 + v5))))))), (0, .ref (ad 63)), (1, .int (zi v)), (2, .int (zi v2)), (4, .int (zi v4)), (5, .int (zi v5))]) C.x C.b dX2_findReadable_102 rfl hl (by decide) rfl (fun ls hl => ?_)
                    refine r_bipush C (by decide) dX2_findReadable_103 ?_
                    refine lv_iload C.x C.b dX2_findReadable_105 (lv_at hl 5 rfl) ?_
                    refine r_imul C dX2_findReadable_107 ?_
                    refine lv_iload_n C.x C.b dX2_findReadable_108 rfl (lv_at hl 0 rfl) ?_
                    have J118_8 : ∀ (t1 : Int) (ht1 : t1 = sel (¬ ((M 35 (sa ((M 3)) ((M 6) (24 * (M 8) v2 + ((M 9) v2 + v5))))) = (-4))) (M 35 (sa ((M 3)) ((M 6) (24 * (M 8) v2 + ((M 9) v2 + v5))))) 0) (H : Heap) (locs : List Loc) (ls : Array Slot) (hX : MH E A ad (va_up F 36 f36) (va_up (va_up M 37 m37) 38 m38) H) (hS : va_S A s.heap H locs) (hl : lv_has ls 7 [(3, .int (zi (bI (¬ ((M 35 (sa ((M 3)) ((M 6) (24 * (M 8) v2 + ((M 9) v2 + v5))))) = (-4)))))), (6, .int (zi (M 35 (sa ((M 3)) ((M 6) (24 * (M 8) v2 + ((M 9) v2 + v5))))))), (0, .ref (ad 63)), (1, .int (zi v)), (2, .int (zi v2)), (4, .int (zi v4)), (5, .int (zi v5))]), W p l e rm_X2_findReadable s m args below meth c H locs 0 0 (MQ below (qv A (fun H => ∃ f36 : Int, ∃ m37 : Int → Int, ∃ m38 : Int → Int, LR (Rd (M 3) (M 6) (M 8) (M 9) (M 10) (M 11) (M 35) v) (Rq (M 3) (M 6) (M 8) (M 9) (M 35)) (M 10) (F 7) f36 m37 m38 ∧ MH E A ad (va_up F 36 f36) (va_up (va_up M 37 m37) 38 m38) H)) args s (rm_X2_findReadable).cells (rm_X2_findReadable).slots A) (F0 m 118 ls [.int (zi t1), .int (zi (8 * v4))]) := by
                      intro t1 ht1 H locs ls hX hS hl
                      subst ht1
                      refine r_iadd C dX2_findReadable_118 ?_
                      refine lv_istore (lv' := [(4, .int (zi ((8 * v4) + (sel (¬ ((M 35 (sa ((M 3)) ((M 6) (24 * (M 8) v2 + ((M 9) v2 + v5))))) = (-4))) (M 35 (sa ((M 3)) ((M 6) (24 * (M 8) v2 + ((M 9) v2 + v5))))) 0)))), (3, .int (zi (bI (¬ ((M 35 (sa ((M 3)) ((M 6) (24 * (M 8) v2 + ((M 9) v2 + v5))))) = (-4)))))), (6, .int (zi (M 35 (sa ((M 3)) ((M 6) (24 * (M 8) v2 + ((M 9) v2 + v5))))))), (0, .ref (ad 63)), (1, .int (zi v)), (2, .int (zi v2)), (5, .int (zi v5))]) C.x C.b dX2_findReadable_119 hl (by decide) rfl (fun ls hl => ?_)
                      refine r_iinc (lv' := [(5, .int (zi (v5 + 1))), (4, .int (zi ((8 * v4) + (sel (¬ ((M 35 (sa ((M 3)) ((M 6) (24 * (M 8) v2 + ((M 9) v2 + v5))))) = (-4))) (M 35 (sa ((M 3)) ((M 6) (24 * (M 8) v2 + ((M 9) v2 + v5))))) 0)))), (3, .int (zi (bI (¬ ((M 35 (sa ((M 3)) ((M 6) (24 * (M 8) v2 + ((M 9) v2 + v5))))) = (-4)))))), (6, .int (zi (M 35 (sa ((M 3)) ((M 6) (24 * (M 8) v2 + ((M 9) v2 + v5))))))), (0, .ref (ad 63)), (1, .int (zi v)), (2, .int (zi v2))]) C dX2_findReadable_121 hl (k := 6) rfl (by decide) rfl (fun ls hl => ?_)
                      refine lv_goto (tgt := 61) C.x C.b dX2_findReadable_124 (by decide) ?_
                      exact ih61 (¬ ((M 35 (sa ((M 3)) ((M 6) (24 * (M 8) v2 + ((M 9) v2 + v5))))) = (-4))) (bI (¬ ((M 35 (sa ((M 3)) ((M 6) (24 * (M 8) v2 + ((M 9) v2 + v5))))) = (-4)))) rfl ((8 * v4) + (sel (¬ ((M 35 (sa ((M 3)) ((M 6) (24 * (M 8) v2 + ((M 9) v2 + v5))))) = (-4))) (M 35 (sa ((M 3)) ((M 6) (24 * (M 8) v2 + ((M 9) v2 + v5))))) 0)) (v5 + 1) (by omega) (Iff.trans ht3s Iff.rfl) (fun q => hds q) (by omega) H locs ls hX hS (lv_sub hl [4, 5, 6, 2, 1, 0] rfl)
                    refine r_if_eq_b (tgt := 117) C dX2_findReadable_109 (by decide) (fun c_9 => ?_) (fun c_9 => ?_)
                    · refine r_const C dX2_findReadable_117 ?_
                      exact J118_8 0 ((sel_f c_9).symm) H locs ls hX hS hl
                    · refine lv_iload C.x C.b dX2_findReadable_112 (lv_at hl 1 rfl) ?_
                      refine lv_goto (tgt := 118) C.x C.b dX2_findReadable_114 (by decide) ?_
                      exact J118_8 (M 35 (sa ((M 3)) ((M 6) (24 * (M 8) v2 + ((M 9) v2 + v5))))) ((sel_t c_9).symm) H locs ls hX hS hl
                  refine r_icmp_eq (tgt := 101) C (by omega) (by decide) dX2_findReadable_94 (by decide) (fun c_10 => ?_) (fun c_10 => ?_)
                  · refine r_const C dX2_findReadable_101 ?_
                    exact J102_7 0 ((bI_f (fun q => q c_10)).symm) H locs ls hX hS hl
                  · refine r_const C dX2_findReadable_97 ?_
                    refine lv_goto (tgt := 102) C.x C.b dX2_findReadable_98 (by decide) ?_
                    exact J102_7 1 ((bI_t c_10).symm) H locs ls hX hS hl
          exact L61 _ ((¬ ((M 11 v2) = 0)) ∧ ((¬ (6 < (M 10 v2))) ∧ (((v / 2 ^ (M 8 v2).toNat) % 2) = 1))) (bI ((¬ ((M 11 v2) = 0)) ∧ ((¬ (6 < (M 10 v2))) ∧ (((v / 2 ^ (M 8 v2).toNat) % 2) = 1)))) rfl 0 0 (by omega) (Iff.trans (by constructor <;> (intro q; omega)) ba_0) (fun _ => Dig.zero) (Nat.lt_succ_self _) H locs ls hX hS (lv_sub hl [3, 4, 5, 2, 1, 0] rfl)
        refine r_if_eq (tgt := 53) C (by omega) dX2_findReadable_21 (by decide) (fun c_11 => ?_) (fun c_11 => ?_)
        · refine r_const C dX2_findReadable_53 ?_
          exact J54_2 0 ((bI_f (fun q => (fun q => q c_11) q.1)).symm) H locs ls hX hS hl
        · refine lv_aload_n C.x C.b dX2_findReadable_24 rfl (lv_at hl 0 rfl) ?_
          refine mg_10 C hX dX2_findReadable_25 ?_
          refine lv_iload_n C.x C.b dX2_findReadable_28 rfl (lv_at hl 2 rfl) ?_
          refine ml_10 C hX (by omega) (M 10) rfl dX2_findReadable_29 (fun r29 => ?_)
          refine r_bipush C (by decide) dX2_findReadable_30 ?_
          refine r_icmp_gt (tgt := 53) C (by omega) (by decide) dX2_findReadable_32 (by decide) (fun c_12 => ?_) (fun c_12 => ?_)
          · refine r_const C dX2_findReadable_53 ?_
            exact J54_2 0 ((bI_f (fun q => (fun q => (fun q => q c_12) q.1) q.2)).symm) H locs ls hX hS hl
          · refine lv_iload_n C.x C.b dX2_findReadable_35 rfl (lv_at hl 1 rfl) ?_
            refine lv_aload_n C.x C.b dX2_findReadable_36 rfl (lv_at hl 0 rfl) ?_
            refine mg_8 C hX dX2_findReadable_37 ?_
            refine lv_iload_n C.x C.b dX2_findReadable_40 rfl (lv_at hl 2 rfl) ?_
            refine ml_8 C hX (by omega) (M 8) rfl dX2_findReadable_41 (fun r41 => ?_)
            refine r_ishr C (by omega) (by omega) rfl dX2_findReadable_42 ?_
            refine r_const C dX2_findReadable_43 ?_
            refine r_iand C (zi_and1 _) dX2_findReadable_44 ?_
            refine r_const C dX2_findReadable_45 ?_
            refine r_icmp_ne (tgt := 53) C (by omega) (by decide) dX2_findReadable_46 (by decide) (fun c_13 => ?_) (fun c_13 => ?_)
            · refine r_const C dX2_findReadable_53 ?_
              exact J54_2 0 ((bI_f (fun q => (fun q => c_13 q.2) q.2)).symm) H locs ls hX hS hl
            · refine r_const C dX2_findReadable_49 ?_
              refine lv_goto (tgt := 54) C.x C.b dX2_findReadable_50 (by decide) ?_
              exact J54_2 1 ((bI_t ⟨c_11, ⟨c_12, c_13⟩⟩).symm) H locs ls hX hS hl
  exact L7 _ 0 0 (M 37) (M 38) (by omega) LR.zero (Nat.lt_succ_self _) H locs ls (hX.to rfl (((up_id M (k := 37) (a := (M 37)) rfl).symm.trans rfl).trans ((up_id (va_up M 37 (M 37)) (k := 38) (a := (M 38)) rfl).symm.trans rfl))) hS (lv_sub hl [1, 2, 0] rfl)

theorem hd_X2_readBy : yX2_readBy.cls = RX2 ∧ yX2_readBy.cls ≠ "java/lang/invoke/MethodHandle" ∧ yX2_readBy.cls ≠ "java/lang/invoke/VarHandle" ∧ (parseMethodDescriptor yX2_readBy.desc).map (fun d => d.parameters.length) = some 1 := by decide +kernel
abbrev rm_X2_readBy : Room := { frames := 0, cells := 0, slots := 0, locals := 0 }
set_option maxHeartbeats 8000000 in
theorem met_X2_readBy (l : Launch) (E : us_E) (A : Nat → Prop) (ad : Nat → Nat) (F : Nat → Int) (M : Nat → Int → Int) (v : Int) (hv : 0 ≤ v ∧ v < 2147483648) : cMet l yX2_readBy cX2_readBy 6 (some .int) rm_X2_readBy A E [.ref (ad 63), .int (zi v)] (fun H => MH E A ad F M H) (qi A (fun r H => (0 ≤ rbS (M 37) (M 38) (M 39) v (F 36) ∧ rbS (M 37) (M 38) (M 39) v (F 36) ≤ 104) ∧ (r = rbS (M 37) (M 38) (M 39) v (F 36)) ∧ MH E A ad F M H)) := by
  refine cMet.of (by decide) (Nat.le_of_ble_eq_true rfl) (fun p e s m args below meth c C hnm hX hS ls hl => ?_)
  have C : Cx p s m args meth c A RX2 cX2_readBy 6 (some .int) E := C
  have hX : MH E A ad F M s.heap := hX
  have hl : lv_has ls 6 [(0, .ref (ad 63)), (1, .int (zi v))] := hl
  generalize hH : s.heap = H at hX
  have hS : va_S A s.heap H [] := by rw [← hH]; exact hS
  generalize hlocs : ([] : List Loc) = locs at hS ⊢
  have rF36 : 0 ≤ F 36 ∧ F 36 ≤ 104 := hX.2.1 36 (0, 104) rfl
  have h37 : ∀ k, 0 ≤ M 37 k ∧ M 37 k ≤ 6 := fun k => hX.2.2 37 (0, 6) rfl k
  have h38 : ∀ k, 0 ≤ M 38 k ∧ M 38 k ≤ 262143 := fun k => hX.2.2 38 (0, 262143) rfl k
  have hbs : ∀ n : Int, 0 ≤ n → 0 ≤ rbS (M 37) (M 38) (M 39) v n ∧ rbS (M 37) (M 38) (M 39) v n ≤ n := fun n h => isum_bI h
  refine r_const C dX2_readBy_0 ?_
  refine lv_istore_n (lv' := [(2, .int (zi 0)), (0, .ref (ad 63)), (1, .int (zi v))]) C.x C.b dX2_readBy_1 rfl hl (by decide) rfl (fun ls hl => ?_)
  refine r_const C dX2_readBy_2 ?_
  refine lv_istore_n (lv' := [(3, .int (zi 0)), (2, .int (zi 0)), (0, .ref (ad 63)), (1, .int (zi v))]) C.x C.b dX2_readBy_3 rfl hl (by decide) rfl (fun ls hl => ?_)
  have L4 : ∀ (fu : Nat) (v2 : Int) (v3 : Int) (h3 : 0 ≤ v3 ∧ v3 ≤ F 36) (ha : v2 = rbS (M 37) (M 38) (M 39) v v3) (hm : Int.toNat (F 36 - v3) < fu) (H : Heap) (locs : List Loc) (ls : Array Slot) (hX : MH E A ad F M H) (hS : va_S A s.heap H locs) (hl : lv_has ls 6 [(0, .ref (ad 63)), (1, .int (zi v)), (2, .int (zi v2)), (3, .int (zi v3))]), W p l e rm_X2_readBy s m args below meth c H locs 0 0 (MQ below (qi A (fun r H => (0 ≤ rbS (M 37) (M 38) (M 39) v (F 36) ∧ rbS (M 37) (M 38) (M 39) v (F 36) ≤ 104) ∧ (r = rbS (M 37) (M 38) (M 39) v (F 36)) ∧ MH E A ad F M H)) args s (rm_X2_readBy).cells (rm_X2_readBy).slots A) (F0 m 4 ls []) := by
    intro fu
    induction fu with
    | zero => intro v2 v3 h3 ha hm; exact absurd hm (Nat.not_lt_zero _)
    | succ fu ih4 =>
      intro v2 v3 h3 ha hm H locs ls hX hS hl
      refine lv_iload_n C.x C.b dX2_readBy_4 rfl (lv_at hl 3 rfl) ?_
      refine lv_aload_n C.x C.b dX2_readBy_5 rfl (lv_at hl 0 rfl) ?_
      refine mg_36 C hX (F 36) rfl dX2_readBy_6 (fun _ => ?_)
      refine r_icmp_ge (tgt := 98) C (by omega) (by omega) dX2_readBy_9 (by decide) (fun c_1 => ?_) (fun c_1 => ?_)
      · refine lv_iload_n C.x C.b dX2_readBy_98 rfl (lv_at hl 2 rfl) ?_
        exact r_iret C hS (Nat.le_of_ble_eq_true rfl) (Nat.le_of_ble_eq_true rfl) dX2_readBy_99 ⟨(by have := hbs (F 36) rF36.1; omega), (by rw [ha, show v3 = F 36 by omega]), hX⟩
      · refine r_const C dX2_readBy_12 ?_
        refine lv_istore (lv' := [(4, .int (zi 0)), (0, .ref (ad 63)), (1, .int (zi v)), (2, .int (zi v2)), (3, .int (zi v3))]) C.x C.b dX2_readBy_13 hl (by decide) rfl (fun ls hl => ?_)
        have h37v := h37 v3
        have h38v := h38 v3
        refine lv_aload_n C.x C.b dX2_readBy_15 rfl (lv_at hl 1 rfl) ?_
        refine mg_37 C hX dX2_readBy_16 ?_
        refine lv_iload_n C.x C.b dX2_readBy_19 rfl (lv_at hl 4 rfl) ?_
        refine ml_37 C hX (by omega) (M 37) rfl dX2_readBy_20 (fun r20 => ?_)
        refine r_const C dX2_readBy_21 ?_
        refine r_isub C dX2_readBy_22 ?_
        refine lv_istore (lv' := [(5, .int (zi ((M 37 v3) - 1))), (4, .int (zi 0)), (0, .ref (ad 63)), (1, .int (zi v)), (2, .int (zi v2)), (3, .int (zi v3))]) C.x C.b dX2_readBy_23 hl (by decide) rfl (fun ls hl => ?_)
        have L25 : ∀ (fu : Nat) (v4 : Int) (v5 : Int) (h5 : -1 ≤ v5 ∧ v5 ≤ M 37 v3 - 1) (hb : v4 = rowS (rbF (M 37) (M 38) v v3) (M 37 v3 - 1 - v5)) (hm : Int.toNat (v5 + 1) < fu) (H : Heap) (locs : List Loc) (ls : Array Slot) (hX : MH E A ad F M H) (hS : va_S A s.heap H locs) (hl : lv_has ls 6 [(0, .ref (ad 63)), (1, .int (zi v)), (2, .int (zi v2)), (3, .int (zi v3)), (4, .int (zi v4)), (5, .int (zi v5))]), W p l e rm_X2_readBy s m args below meth c H locs 0 0 (MQ below (qi A (fun r H => (0 ≤ rbS (M 37) (M 38) (M 39) v (F 36) ∧ rbS (M 37) (M 38) (M 39) v (F 36) ≤ 104) ∧ (r = rbS (M 37) (M 38) (M 39) v (F 36)) ∧ MH E A ad F M H)) args s (rm_X2_readBy).cells (rm_X2_readBy).slots A) (F0 m 25 ls []) := by
          intro fu
          induction fu with
          | zero => intro v4 v5 h5 hb hm; exact absurd hm (Nat.not_lt_zero _)
          | succ fu ih25 =>
            intro v4 v5 h5 hb hm H locs ls hX hS hl
            refine lv_iload C.x C.b dX2_readBy_25 (lv_at hl 5 rfl) ?_
            refine r_if_lt (tgt := 63) C (by omega) dX2_readBy_27 (by decide) (fun c_2 => ?_) (fun c_2 => ?_)
            · have her : v4 = rowS (rbF (M 37) (M 38) v v3) (M 37 v3) := by rw [hb, show M 37 v3 - 1 - v5 = M 37 v3 by omega]
              have hrr := rowS_r6 (f := rbF (M 37) (M 38) v v3) h37v (fun j _ _ => rbF_r _ _ _ _ j)
              have r39 : 0 ≤ M 39 (4096 * M 37 v3 + v4) ∧ M 39 (4096 * M 37 v3 + v4) ≤ 1 := hX.2.2 39 (0, 1) rfl _
              refine lv_iload_n C.x C.b dX2_readBy_63 rfl (lv_at hl 2 rfl) ?_
              refine lv_aload_n C.x C.b dX2_readBy_64 rfl (lv_at hl 0 rfl) ?_
              refine mg_39 C hX dX2_readBy_65 ?_
              refine r_sipush C (by decide) dX2_readBy_68 ?_
              refine lv_aload_n C.x C.b dX2_readBy_71 rfl (lv_at hl 0 rfl) ?_
              refine mg_37 C hX dX2_readBy_72 ?_
              refine lv_iload_n C.x C.b dX2_readBy_75 rfl (lv_at hl 3 rfl) ?_
              refine ml_37 C hX (by omega) (M 37) rfl dX2_readBy_76 (fun _ => ?_)
              refine r_imul C dX2_readBy_77 ?_
              refine lv_iload C.x C.b dX2_readBy_78 (lv_at hl 4 rfl) ?_
              refine r_iadd C dX2_readBy_80 ?_
              refine ml_39 C hX (by omega) (M 39) rfl dX2_readBy_81 (fun r81 => ?_)
              have J90_3 : ∀ (t1 : Int) (ht1 : t1 = bI (¬ ((M 39 ((4096 * (M 37 v3)) + v4)) = 0))) (H : Heap) (locs : List Loc) (ls : Array Slot) (hX : MH E A ad F M H) (hS : va_S A s.heap H locs) (hl : lv_has ls 6 [(0, .ref (ad 63)), (1, .int (zi v)), (2, .int (zi v2)), (3, .int (zi v3)), (4, .int (zi v4)), (5, .int (zi v5))]), W p l e rm_X2_readBy s m args below meth c H locs 0 0 (MQ below (qi A (fun r H => (0 ≤ rbS (M 37) (M 38) (M 39) v (F 36) ∧ rbS (M 37) (M 38) (M 39) v (F 36) ≤ 104) ∧ (r = rbS (M 37) (M 38) (M 39) v (F 36)) ∧ MH E A ad F M H)) args s (rm_X2_readBy).cells (rm_X2_readBy).slots A) (F0 m 90 ls [.int (zi t1), .int (zi v2)]) := by
                intro t1 ht1 H locs ls hX hS hl
                subst ht1
                refine r_iadd C dX2_readBy_90 ?_
                refine lv_istore_n (lv' := [(2, .int (zi (v2 + (bI (¬ ((M 39 ((4096 * (M 37 v3)) + v4)) = 0)))))), (0, .ref (ad 63)), (1, .int (zi v)), (3, .int (zi v3)), (4, .int (zi v4)), (5, .int (zi v5))]) C.x C.b dX2_readBy_91 rfl hl (by decide) rfl (fun ls hl => ?_)
                refine r_iinc (lv' := [(3, .int (zi (v3 + 1))), (2, .int (zi (v2 + (bI (¬ ((M 39 ((4096 * (M 37 v3)) + v4)) = 0)))))), (0, .ref (ad 63)), (1, .int (zi v)), (4, .int (zi v4)), (5, .int (zi v5))]) C dX2_readBy_92 hl (k := 3) rfl (by decide) rfl (fun ls hl => ?_)
                refine lv_goto (tgt := 4) C.x C.b dX2_readBy_95 (by decide) ?_
                exact ih4 (v2 + (bI (¬ ((M 39 ((4096 * (M 37 v3)) + v4)) = 0)))) (v3 + 1) (by omega) (isum_st h3.1 ha (bI_c ⟨fun q => by rw [← her]; omega, fun q => by rw [← her] at q; omega⟩)) (by omega) H locs ls hX hS (lv_sub hl [2, 3, 1, 0] rfl)
              refine r_if_eq (tgt := 89) C (by omega) dX2_readBy_82 (by decide) (fun c_4 => ?_) (fun c_4 => ?_)
              · refine r_const C dX2_readBy_89 ?_
                exact J90_3 0 ((bI_f (fun q => q c_4)).symm) H locs ls hX hS hl
              · refine r_const C dX2_readBy_85 ?_
                refine lv_goto (tgt := 90) C.x C.b dX2_readBy_86 (by decide) ?_
                exact J90_3 1 ((bI_t c_4).symm) H locs ls hX hS hl
            · refine r_const C dX2_readBy_30 ?_
              refine lv_iload C.x C.b dX2_readBy_31 (lv_at hl 4 rfl) ?_
              refine r_imul C dX2_readBy_33 ?_
              refine lv_iload_n C.x C.b dX2_readBy_34 rfl (lv_at hl 1 rfl) ?_
              refine r_const C dX2_readBy_35 ?_
              refine lv_aload_n C.x C.b dX2_readBy_36 rfl (lv_at hl 0 rfl) ?_
              refine mg_38 C hX dX2_readBy_37 ?_
              refine lv_iload_n C.x C.b dX2_readBy_40 rfl (lv_at hl 3 rfl) ?_
              refine ml_38 C hX (by omega) (M 38) rfl dX2_readBy_41 (fun r41 => ?_)
              refine r_const C dX2_readBy_42 ?_
              refine lv_iload C.x C.b dX2_readBy_43 (lv_at hl 5 rfl) ?_
              refine r_imul C dX2_readBy_45 ?_
              refine r_ishr C (by omega) (by omega) rfl dX2_readBy_46 ?_
              refine r_bipush C (by decide) dX2_readBy_47 ?_
              refine r_iand C (zi_and7 _) dX2_readBy_49 ?_
              refine r_imul C dX2_readBy_50 ?_
              refine r_ishr C (by omega) (by omega) rfl dX2_readBy_51 ?_
              refine r_const C dX2_readBy_52 ?_
              refine r_iand C (zi_and3 _) dX2_readBy_53 ?_
              refine r_iadd C dX2_readBy_54 ?_
              refine lv_istore (lv' := [(4, .int (zi ((4 * v4) + ((v / 2 ^ (2 * (((M 38 v3) / 2 ^ (3 * v5).toNat) % 8)).toNat) % 4)))), (0, .ref (ad 63)), (1, .int (zi v)), (2, .int (zi v2)), (3, .int (zi v3)), (5, .int (zi v5))]) C.x C.b dX2_readBy_55 hl (by decide) rfl (fun ls hl => ?_)
              refine r_iinc (lv' := [(5, .int (zi (v5 + (-1)))), (4, .int (zi ((4 * v4) + ((v / 2 ^ (2 * (((M 38 v3) / 2 ^ (3 * v5).toNat) % 8)).toNat) % 4)))), (0, .ref (ad 63)), (1, .int (zi v)), (2, .int (zi v2)), (3, .int (zi v3))]) C dX2_readBy_57 hl (k := 5) rfl (by decide) rfl (fun ls hl => ?_)
              refine lv_goto (tgt := 25) C.x C.b dX2_readBy_60 (by decide) ?_
              exact ih25 ((4 * v4) + ((v / 2 ^ (2 * (((M 38 v3) / 2 ^ (3 * v5).toNat) % 8)).toNat) % 4)) (v5 + (-1)) (by omega) (rowS_st (by omega) hb (by omega) rbF_x) (by omega) H locs ls hX hS (lv_sub hl [2, 3, 4, 5, 1, 0] rfl)
        exact L25 _ 0 ((M 37 v3) - 1) (by have := h37 v3; omega) (by rw [show M 37 v3 - 1 - (M 37 v3 - 1) = 0 by omega]; rfl) (Nat.lt_succ_self _) H locs ls hX hS (lv_sub hl [2, 3, 4, 5, 1, 0] rfl)
  exact L4 _ 0 0 (by omega) rfl (Nat.lt_succ_self _) H locs ls hX hS (lv_sub hl [2, 3, 1, 0] rfl)

theorem hd_X2_turned : yX2_turned.cls = RX2 ∧ yX2_turned.cls ≠ "java/lang/invoke/MethodHandle" ∧ yX2_turned.cls ≠ "java/lang/invoke/VarHandle" ∧ (parseMethodDescriptor yX2_turned.desc).map (fun d => d.parameters.length) = some 1 := by decide +kernel
abbrev rm_X2_turned : Room := { frames := 0, cells := 0, slots := 0, locals := 0 }
set_option maxHeartbeats 8000000 in
theorem met_X2_turned (l : Launch) (E : us_E) (A : Nat → Prop) (ad : Nat → Nat) (F : Nat → Int) (M : Nat → Int → Int) (v : Int) (hv : 0 ≤ v ∧ v < 2147483648) : cMet l yX2_turned cX2_turned 4 (some .int) rm_X2_turned A E [.ref (ad 63), .int (zi v)] (fun H => MH E A ad F M H) (qi A (fun r H => (0 ≤ rowS (snd v) (F 33) ∧ rowS (snd v) (F 33) ≤ 4095) ∧ (r = rowS (snd v) (F 33)) ∧ MH E A ad F M H)) := by
  refine cMet.of (by decide) (Nat.le_of_ble_eq_true rfl) (fun p e s m args below meth c C hnm hX hS ls hl => ?_)
  have C : Cx p s m args meth c A RX2 cX2_turned 4 (some .int) E := C
  have hX : MH E A ad F M s.heap := hX
  have hl : lv_has ls 4 [(0, .ref (ad 63)), (1, .int (zi v))] := hl
  generalize hH : s.heap = H at hX
  have hS : va_S A s.heap H [] := by rw [← hH]; exact hS
  generalize hlocs : ([] : List Loc) = locs at hS ⊢
  have rF33 : 0 ≤ F 33 ∧ F 33 ≤ 6 := hX.2.1 33 (0, 6) rfl
  refine r_const C dX2_turned_0 ?_
  refine lv_istore_n (lv' := [(2, .int (zi 0)), (0, .ref (ad 63)), (1, .int (zi v))]) C.x C.b dX2_turned_1 rfl hl (by decide) rfl (fun ls hl => ?_)
  refine r_const C dX2_turned_2 ?_
  refine lv_istore_n (lv' := [(3, .int (zi 0)), (2, .int (zi 0)), (0, .ref (ad 63)), (1, .int (zi v))]) C.x C.b dX2_turned_3 rfl hl (by decide) rfl (fun ls hl => ?_)
  have L4 : ∀ (fu : Nat) (v2 : Int) (v3 : Int) (h3 : 0 ≤ v3 ∧ v3 ≤ F 33) (hb : v2 = rowS (snd v) v3) (hm : Int.toNat (F 33 - v3) < fu) (H : Heap) (locs : List Loc) (ls : Array Slot) (hX : MH E A ad F M H) (hS : va_S A s.heap H locs) (hl : lv_has ls 4 [(0, .ref (ad 63)), (1, .int (zi v)), (2, .int (zi v2)), (3, .int (zi v3))]), W p l e rm_X2_turned s m args below meth c H locs 0 0 (MQ below (qi A (fun r H => (0 ≤ rowS (snd v) (F 33) ∧ rowS (snd v) (F 33) ≤ 4095) ∧ (r = rowS (snd v) (F 33)) ∧ MH E A ad F M H)) args s (rm_X2_turned).cells (rm_X2_turned).slots A) (F0 m 4 ls []) := by
    intro fu
    induction fu with
    | zero => intro v2 v3 h3 hb hm; exact absurd hm (Nat.not_lt_zero _)
    | succ fu ih4 =>
      intro v2 v3 h3 hb hm H locs ls hX hS hl
      refine lv_iload_n C.x C.b dX2_turned_4 rfl (lv_at hl 3 rfl) ?_
      refine lv_aload_n C.x C.b dX2_turned_5 rfl (lv_at hl 0 rfl) ?_
      refine mg_33 C hX (F 33) rfl dX2_turned_6 (fun _ => ?_)
      refine r_icmp_ge (tgt := 30) C (by omega) (by omega) dX2_turned_9 (by decide) (fun c_1 => ?_) (fun c_1 => ?_)
      · refine lv_iload_n C.x C.b dX2_turned_30 rfl (lv_at hl 2 rfl) ?_
        exact r_iret C hS (Nat.le_of_ble_eq_true rfl) (Nat.le_of_ble_eq_true rfl) dX2_turned_31 ⟨(by have := rowS_r6 (f := snd v) rF33 (fun j _ _ => snd_r _ _); omega), (by rw [hb, show v3 = F 33 by omega]), hX⟩
      · refine r_const C dX2_turned_12 ?_
        refine lv_iload_n C.x C.b dX2_turned_13 rfl (lv_at hl 2 rfl) ?_
        refine r_imul C dX2_turned_14 ?_
        refine lv_iload_n C.x C.b dX2_turned_15 rfl (lv_at hl 1 rfl) ?_
        refine r_const C dX2_turned_16 ?_
        refine lv_iload_n C.x C.b dX2_turned_17 rfl (lv_at hl 3 rfl) ?_
        refine r_imul C dX2_turned_18 ?_
        refine r_ishr C (by omega) (by omega) rfl dX2_turned_19 ?_
        refine r_const C dX2_turned_20 ?_
        refine r_iand C (zi_and3 _) dX2_turned_21 ?_
        refine r_iadd C dX2_turned_22 ?_
        refine lv_istore_n (lv' := [(2, .int (zi ((4 * v2) + ((v / 2 ^ (2 * v3).toNat) % 4)))), (0, .ref (ad 63)), (1, .int (zi v)), (3, .int (zi v3))]) C.x C.b dX2_turned_23 rfl hl (by decide) rfl (fun ls hl => ?_)
        refine r_iinc (lv' := [(3, .int (zi (v3 + 1))), (2, .int (zi ((4 * v2) + ((v / 2 ^ (2 * v3).toNat) % 4)))), (0, .ref (ad 63)), (1, .int (zi v))]) C dX2_turned_24 hl (k := 3) rfl (by decide) rfl (fun ls hl => ?_)
        refine lv_goto (tgt := 4) C.x C.b dX2_turned_27 (by decide) ?_
        exact ih4 ((4 * v2) + ((v / 2 ^ (2 * v3).toNat) % 4)) (v3 + 1) (by omega) (rowS_st h3.1 hb rfl rfl) (by omega) H locs ls hX hS (lv_sub hl [2, 3, 1, 0] rfl)
  exact L4 _ 0 0 (by omega) rfl (Nat.lt_succ_self _) H locs ls hX hS (lv_sub hl [2, 3, 1, 0] rfl)

theorem hd_X2_read : yX2_read.cls = RX2 ∧ yX2_read.cls ≠ "java/lang/invoke/MethodHandle" ∧ yX2_read.cls ≠ "java/lang/invoke/VarHandle" ∧ (parseMethodDescriptor yX2_read.desc).map (fun d => d.parameters.length) = some 2 := by decide +kernel
abbrev rm_X2_read : Room := { frames := 4, cells := 0, slots := 0, locals := 97 }
set_option maxHeartbeats 8000000 in
theorem met_X2_read (l : Launch) (E : us_E) (A : Nat → Prop) (ad : Nat → Nat) (F : Nat → Int) (M : Nat → Int → Int) (t : Int) (v : Int) (ht : -2147483648 ≤ t ∧ t < 2147483648) (hv : -2147483648 ≤ v ∧ v < 2147483648) : cMet l yX2_read cX2_read 3 (some .int) rm_X2_read A E [.ref (ad 63), .int (zi t), .int (zi v)] (fun H => MH E A ad F M H) (qi A (fun r H => ∃ f7 : Int, ∃ f33 : Int, ∃ f36 : Int, ∃ m3 : Int → Int, ∃ m8 : Int → Int, ∃ m9 : Int → Int, ∃ m10 : Int → Int, ∃ m11 : Int → Int, ∃ m34 : Int → Int, ∃ m35 : Int → Int, ∃ m37 : Int → Int, ∃ m38 : Int → Int, ∃ m39 : Int → Int, SgOK (F 0) (M 1) (F 2) m3 ∧ (r = sel ((0 ≤ t ∧ t ≤ 1 * 2 ^ (F 4).toNat - 1) ∧ (0 ≤ v ∧ v ≤ 1 * 2 ^ (2 * tnum (F 0) m3 (cnt m3 (mtc (M 6)) (M 5) (F 4))).toNat - 1)) (rdS m3 (mtc (M 6)) (M 5) (F 4) (tsp (F 0) m3 (cnt m3 (mtc (M 6)) (M 5) (F 4)) (tnum (F 0) m3 (cnt m3 (mtc (M 6)) (M 5) (F 4)))) (F 30) (M 31) (M 32) t (snd v)) (-1)) ∧ MH E A ad (va_up (va_up (va_up F 7 f7) 33 f33) 36 f36) (va_up (va_up (va_up (va_up (va_up (va_up (va_up (va_up (va_up (va_up M 3 m3) 8 m8) 9 m9) 10 m10) 11 m11) 34 m34) 35 m35) 37 m37) 38 m38) 39 m39) H)) := by
  refine cMet.of (by decide) (Nat.le_of_ble_eq_true rfl) (fun p e s m args below meth c C hnm hX hS ls hl => ?_)
  have C : Cx p s m args meth c A RX2 cX2_read 3 (some .int) E := C
  have hX : MH E A ad F M s.heap := hX
  have hl : lv_has ls 3 [(0, .ref (ad 63)), (1, .int (zi t)), (2, .int (zi v))] := hl
  generalize hH : s.heap = H at hX
  have hS : va_S A s.heap H [] := by rw [← hH]; exact hS
  generalize hlocs : ([] : List Loc) = locs at hS ⊢
  have rF0 : 0 ≤ F 0 ∧ F 0 ≤ 24 := hX.2.1 0 (0, 24) rfl
  have rF2 : 0 ≤ F 2 ∧ F 2 ≤ 12 := hX.2.1 2 (0, 12) rfl
  have rF4 : 0 ≤ F 4 ∧ F 4 ≤ 8 := hX.2.1 4 (0, 8) rfl
  have rF7 : 0 ≤ F 7 ∧ F 7 ≤ 104 := hX.2.1 7 (0, 104) rfl
  have rF30 : 0 ≤ F 30 ∧ F 30 ≤ 12 := hX.2.1 30 (0, 12) rfl
  have rF33 : 0 ≤ F 33 ∧ F 33 ≤ 6 := hX.2.1 33 (0, 6) rfl
  have rF36 : 0 ≤ F 36 ∧ F 36 ≤ 104 := hX.2.1 36 (0, 104) rfl
  have h24 : ∀ t, 0 ≤ M 5 t ∧ M 5 t ≤ 24 := fun t => hX.2.2 5 (0, 24) rfl t
  have hcl : ∀ q, -2 ≤ M 6 q ∧ M 6 q ≤ 23 := fun q => hX.2.2 6 (-2, 23) rfl q
  refine lv_aload_n C.x C.b dX2_read_0 rfl (lv_at hl 0 rfl) ?_
  refine r_callVv (As := []) (rest := []) (cells' := 0) (slots' := 0) C (met_X2_findTable l E A ad F M) (lw_V q1413 q1415 qs67 q88 q1416) hd_X2_findTable rfl (by decide) (m_recv C hX) hX hS hl.1 rfl (Nat.le_of_ble_eq_true rfl) dX2_read_1 rfl rfl ⟨Nat.le_of_ble_eq_true rfl, Nat.le_of_ble_eq_true rfl⟩ (fun H locs hp hS => ?_)
  obtain ⟨wn, tn, sg, w8, w9, w10, w11, tt, sp, hsg, hwk, hwr, htn, htb, hts_, hX⟩ := hp
  have hsg : SgOK ((F 0)) ((M 1)) ((F 2)) sg := hsg
  have hwk : wn = wk (mtc ((M 6))) ((M 5)) ((F 4)) 0 := hwk
  have hwr : WR (mtc ((M 6))) ((M 5)) w8 w9 w10 w11 ((F 4)) 0 := hwr
  have htn : tn = tnum ((F 0)) sg (cnt sg (mtc ((M 6))) ((M 5)) ((F 4))) := htn
  have htb : ∀ j : Int, 0 ≤ j → j < tn → tt j = tb ((F 0)) sg (cnt sg (mtc ((M 6))) ((M 5)) ((F 4))) j := htb
  have hts_ : ∀ s : Int, 0 ≤ s → s < 24 → sp s = tsp ((F 0)) sg (cnt sg (mtc ((M 6))) ((M 5)) ((F 4))) tn s := hts_
  have hX : MH E A ad (va_up (va_up F 7 wn) 33 tn) (va_up (va_up (va_up (va_up (va_up (va_up (va_up M 3 sg) 8 w8) 9 w9) 10 w10) 11 w11) 34 tt) 35 sp) H := hX.to ((congrArg (fun z => va_up z 33 tn) rfl).trans rfl) ((congrArg (fun z => va_up z 35 sp) ((congrArg (fun z => va_up z 34 tt) ((congrArg (fun z => va_up z 11 w11) ((congrArg (fun z => va_up z 10 w10) ((congrArg (fun z => va_up z 9 w9) ((congrArg (fun z => va_up z 8 w8) rfl).trans rfl)).trans rfl)).trans rfl)).trans rfl)).trans rfl)).trans rfl)
  have htnr := tnum_r (F 0) sg (cnt sg (mtc (M 6)) (M 5) (F 4))
  rw [← htn] at htnr
  refine lv_aload_n C.x C.b dX2_read_4 rfl (lv_at hl 0 rfl) ?_
  refine lv_iload_n C.x C.b dX2_read_5 rfl (lv_at hl 1 rfl) ?_
  refine r_callVi (As := [.int (zi t)]) (rest := []) (cells' := 0) (slots' := 0) C (met_X2_areTexts l E A ad (va_up (va_up F 7 wn) 33 tn) (va_up (va_up (va_up (va_up (va_up (va_up (va_up M 3 sg) 8 w8) 9 w9) 10 w10) 11 w11) 34 tt) 35 sp) t (show -2147483648 ≤ t ∧ t < 2147483648 from (by omega))) (lw_V q1421 q1423 qs68 q88 q1424) hd_X2_areTexts rfl (by decide) (m_recv C hX) hX hS hl.1 rfl (Nat.le_of_ble_eq_true rfl) dX2_read_6 rfl rfl ⟨Nat.le_of_ble_eq_true rfl, Nat.le_of_ble_eq_true rfl⟩ (fun rr H locs hp hS => ?_)
  obtain ⟨hrr, hX⟩ := hp
  have hrr : rr = bI (0 ≤ t ∧ t ≤ 1 * 2 ^ ((F 4)).toNat - 1) := hrr
  subst hrr
  refine r_if_eq_b (tgt := 32) C dX2_read_9 (by decide) (fun c_1 => ?_) (fun c_1 => ?_)
  · refine r_const C dX2_read_32 ?_
    exact r_iret C hS (Nat.le_of_ble_eq_true rfl) (Nat.le_of_ble_eq_true rfl) dX2_read_33 ⟨wn, tn, (F 36), sg, w8, w9, w10, w11, tt, sp, (M 37), (M 38), (M 39), (by first | rfl | assumption | exact (sel_t (by omega)).symm | exact (sel_f (by omega)).symm | omega), (by first | exact Eq.symm (sel_f (fun q => absurd q.1 (by assumption))) | exact Eq.symm (sel_f (fun q => absurd (htn ▸ q.2) (by assumption)))), (hX.to ((up_id (va_up (va_up F 7 wn) 33 tn) (k := 36) (a := (F 36)) rfl).symm.trans rfl) ((((up_id (va_up (va_up (va_up (va_up (va_up (va_up (va_up M 3 sg) 8 w8) 9 w9) 10 w10) 11 w11) 34 tt) 35 sp) (k := 37) (a := (M 37)) rfl).symm.trans rfl).trans ((up_id (va_up (va_up (va_up (va_up (va_up (va_up (va_up (va_up M 3 sg) 8 w8) 9 w9) 10 w10) 11 w11) 34 tt) 35 sp) 37 (M 37)) (k := 38) (a := (M 38)) rfl).symm.trans rfl)).trans ((up_id (va_up (va_up (va_up (va_up (va_up (va_up (va_up (va_up (va_up M 3 sg) 8 w8) 9 w9) 10 w10) 11 w11) 34 tt) 35 sp) 37 (M 37)) 38 (M 38)) (k := 39) (a := (M 39)) rfl).symm.trans rfl)))⟩
  · refine lv_iload_n C.x C.b dX2_read_12 rfl (lv_at hl 2 rfl) ?_
    refine r_i2l C (by omega) dX2_read_13 ?_
    have hp12 := p2_12 (k := F 4) (by omega)
    have hpt := p2_12 (k := 2 * tn) (by omega)
    refine r_lconst C 0 rfl dX2_read_14 ?_
    refine r_const C dX2_read_15 ?_
    refine r_const C dX2_read_16 ?_
    refine lv_aload_n C.x C.b dX2_read_17 rfl (lv_at hl 0 rfl) ?_
    refine mg_33 C hX tn rfl dX2_read_18 (fun r18 => ?_)
    refine r_imul C dX2_read_21 ?_
    refine r_ishl C (by omega) (by omega) rfl dX2_read_22 ?_
    refine r_const C dX2_read_23 ?_
    refine r_isub C dX2_read_24 ?_
    refine r_i2l C (by omega) dX2_read_25 ?_
    refine r_callSi (As := [.long (zl v), .long (zl 0), .long (zl ((1 * 2 ^ (2 * tn).toNat) - 1))]) (rest := []) (cells' := 0) (slots' := 0) C (met_X2_in l E A ad H v 0 ((1 * 2 ^ (2 * tn).toNat) - 1) (show -9223372036854775808 ≤ v ∧ v < 9223372036854775808 from (by omega)) (show -9223372036854775808 ≤ 0 ∧ 0 < 9223372036854775808 from (by omega)) (show -9223372036854775808 ≤ ((1 * 2 ^ (2 * tn).toNat) - 1) ∧ ((1 * 2 ^ (2 * tn).toNat) - 1) < 9223372036854775808 from (by omega))) (lw_S q1209 q1210 q88 q1211) hd_X2_in rfl (by decide) rfl hS hl.1 rfl (Nat.le_of_ble_eq_true rfl) dX2_read_26 rfl rfl ⟨Nat.le_of_ble_eq_true rfl, Nat.le_of_ble_eq_true rfl⟩ (fun rr H locs hp hS => ?_)
    obtain ⟨hrr, hH⟩ := hp
    have hrr : rr = bI (0 ≤ v ∧ v ≤ ((1 * 2 ^ (2 * tn).toNat) - 1)) := hrr
    subst hrr
    have hX : MH E A ad (va_up (va_up F 7 wn) 33 tn) (va_up (va_up (va_up (va_up (va_up (va_up (va_up M 3 sg) 8 w8) 9 w9) 10 w10) 11 w11) 34 tt) 35 sp) H := by rw [hH]; exact hX
    refine r_if_ne_b (tgt := 34) C dX2_read_29 (by decide) (fun c_2 => ?_) (fun c_2 => ?_)
    · refine lv_aload_n C.x C.b dX2_read_34 rfl (lv_at hl 0 rfl) ?_
      refine r_callVv (As := []) (rest := []) (cells' := 0) (slots' := 0) C (met_X2_findTongue l E A ad (va_up (va_up F 7 wn) 33 tn) (va_up (va_up (va_up (va_up (va_up (va_up (va_up M 3 sg) 8 w8) 9 w9) 10 w10) 11 w11) 34 tt) 35 sp)) (lw_V q1425 q1427 qs69 q88 q1428) hd_X2_findTongue rfl (by decide) (m_recv C hX) hX hS hl.1 rfl (Nat.le_of_ble_eq_true rfl) dX2_read_35 rfl rfl ⟨Nat.le_of_ble_eq_true rfl, Nat.le_of_ble_eq_true rfl⟩ (fun H locs hp hS => ?_)
      obtain ⟨tw, htw, hX⟩ := hp
      have htw : ∀ a b : Int, 0 ≤ a → a < 7 → 0 ≤ b → b < 4096 → (tw (4096 * a + b) = 1 ↔ Tw ((F 30)) ((M 31)) ((M 32)) a b) := htw
      have hX : MH E A ad (va_up (va_up F 7 wn) 33 tn) (va_up (va_up (va_up (va_up (va_up (va_up (va_up (va_up M 3 sg) 8 w8) 9 w9) 10 w10) 11 w11) 34 tt) 35 sp) 39 tw) H := hX.to rfl rfl
      refine lv_aload_n C.x C.b dX2_read_38 rfl (lv_at hl 0 rfl) ?_
      refine lv_iload_n C.x C.b dX2_read_39 rfl (lv_at hl 1 rfl) ?_
      refine r_callVv (As := [.int (zi t)]) (rest := []) (cells' := 0) (slots' := 0) C (met_X2_findReadable l E A ad (va_up (va_up F 7 wn) 33 tn) (va_up (va_up (va_up (va_up (va_up (va_up (va_up (va_up M 3 sg) 8 w8) 9 w9) 10 w10) 11 w11) 34 tt) 35 sp) 39 tw) t (show 0 ≤ t ∧ t < 2147483648 from (by omega)) (show wn = wk (mtc ((M 6))) ((M 5)) ((F 4)) 0 from (by omega)) (show WR (mtc ((M 6))) ((M 5)) (w8) (w9) (w10) (w11) ((F 4)) 0 from (by omega)) (show ∀ s : Int, 0 ≤ s → s < 24 → sp s = -4 ∨ 0 ≤ sp s from (fun s a b => by rw [hts_ s a b]; exact (tsp_r rF0.1 htnr.1 s).imp id (fun z => z.1)))) (lw_V q1429 q1431 qs70 q88 q1432) hd_X2_findReadable rfl (by decide) (m_recv C hX) hX hS hl.1 rfl (Nat.le_of_ble_eq_true rfl) dX2_read_40 rfl rfl ⟨Nat.le_of_ble_eq_true rfl, Nat.le_of_ble_eq_true rfl⟩ (fun H locs hp hS => ?_)
      obtain ⟨rn, rm, rp, hlr, hX⟩ := hp
      have hlr : LR (Rd (sg) ((M 6)) (w8) (w9) (w10) (w11) (sp) t) (Rq (sg) ((M 6)) (w8) (w9) (sp)) (w10) (wn) rn rm rp := hlr
      have hX : MH E A ad (va_up (va_up (va_up F 7 wn) 33 tn) 36 rn) (va_up (va_up (va_up (va_up (va_up (va_up (va_up (va_up (va_up (va_up M 3 sg) 8 w8) 9 w9) 10 w10) 11 w11) 34 tt) 35 sp) 37 rm) 38 rp) 39 tw) H := hX.to rfl ((congrArg (fun z => va_up z 38 rp) (up_in (by decide) rfl)).trans (up_in (by decide) rfl))
      have hsa0 : ∀ a b : Int, 0 ≤ (mtc (M 6)) a b → 0 ≤ sa sg ((mtc (M 6)) a b) ∧ sa sg ((mtc (M 6)) a b) < 24 := fun a b q => by
        unfold sa
        rw [sel_f (by omega)]
        have z : 0 ≤ sg ((mtc (M 6)) a b) ∧ sg ((mtc (M 6)) a b) ≤ 23 := hX.2.2 3 (0, 23) rfl _
        exact ⟨z.1, by omega⟩
      refine lv_aload_n C.x C.b dX2_read_43 rfl (lv_at hl 0 rfl) ?_
      refine lv_iload_n C.x C.b dX2_read_44 rfl (lv_at hl 2 rfl) ?_
      refine r_callVi (As := [.int (zi v)]) (rest := []) (cells' := 0) (slots' := 0) C (met_X2_readBy l E A ad (va_up (va_up (va_up F 7 wn) 33 tn) 36 rn) (va_up (va_up (va_up (va_up (va_up (va_up (va_up (va_up (va_up (va_up M 3 sg) 8 w8) 9 w9) 10 w10) 11 w11) 34 tt) 35 sp) 37 rm) 38 rp) 39 tw) v (show 0 ≤ v ∧ v < 2147483648 from (by omega))) (lw_V q1433 q1435 qs71 q88 q1436) hd_X2_readBy rfl (by decide) (m_recv C hX) hX hS hl.1 rfl (Nat.le_of_ble_eq_true rfl) dX2_read_45 rfl rfl ⟨Nat.le_of_ble_eq_true rfl, Nat.le_of_ble_eq_true rfl⟩ (fun rr H locs hp hS => ?_)
      obtain ⟨hrb, hrr, hX⟩ := hp
      have hrr : rr = rbS (rm) (rp) (tw) v (rn) := hrr
      subst hrr
      have hrb : 0 ≤ rbS (rm) (rp) (tw) v (rn) ∧ rbS (rm) (rp) (tw) v (rn) ≤ 104 := hrb
      exact r_iret C hS (Nat.le_of_ble_eq_true rfl) (Nat.le_of_ble_eq_true rfl) dX2_read_48 ⟨wn, tn, rn, sg, w8, w9, w10, w11, tt, sp, rm, rp, tw, (by first | rfl | assumption | exact (sel_t (by omega)).symm | exact (sel_f (by omega)).symm | omega), (by rw [sel_t ⟨by assumption, htn ▸ by assumption⟩]; exact (rb_rd (fun a => (h24 a).1) rF4.1 hwk hwr hlr htw).trans (rdS_cg LkC.rf rF4.1 (fun a b => (hcl _).1) (fun a b q1 q2 q3 q4 q5 => by rw [← htn]; exact hts_ _ (hsa0 a b q5).1 (hsa0 a b q5).2) (fun _ _ => Iff.rfl))), hX⟩
    · refine r_const C dX2_read_32 ?_
      exact r_iret C hS (Nat.le_of_ble_eq_true rfl) (Nat.le_of_ble_eq_true rfl) dX2_read_33 ⟨wn, tn, (F 36), sg, w8, w9, w10, w11, tt, sp, (M 37), (M 38), (M 39), (by first | rfl | assumption | exact (sel_t (by omega)).symm | exact (sel_f (by omega)).symm | omega), (by first | exact Eq.symm (sel_f (fun q => absurd q.1 (by assumption))) | exact Eq.symm (sel_f (fun q => absurd (htn ▸ q.2) (by assumption)))), (hX.to ((up_id (va_up (va_up F 7 wn) 33 tn) (k := 36) (a := (F 36)) rfl).symm.trans rfl) ((((up_id (va_up (va_up (va_up (va_up (va_up (va_up (va_up M 3 sg) 8 w8) 9 w9) 10 w10) 11 w11) 34 tt) 35 sp) (k := 37) (a := (M 37)) rfl).symm.trans rfl).trans ((up_id (va_up (va_up (va_up (va_up (va_up (va_up (va_up (va_up M 3 sg) 8 w8) 9 w9) 10 w10) 11 w11) 34 tt) 35 sp) 37 (M 37)) (k := 38) (a := (M 38)) rfl).symm.trans rfl)).trans ((up_id (va_up (va_up (va_up (va_up (va_up (va_up (va_up (va_up (va_up M 3 sg) 8 w8) 9 w9) 10 w10) 11 w11) 34 tt) 35 sp) 37 (M 37)) 38 (M 38)) (k := 39) (a := (M 39)) rfl).symm.trans rfl)))⟩
