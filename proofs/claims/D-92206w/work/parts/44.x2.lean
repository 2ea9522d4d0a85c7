set_option maxRecDepth 100000

theorem hd_J0_compare : yJ0_compare.cls ≠ "java/lang/invoke/MethodHandle" ∧ yJ0_compare.cls ≠ "java/lang/invoke/VarHandle" ∧ (parseMethodDescriptor yJ0_compare.desc).map (fun d => d.parameters.length) = some 2 := by decide +kernel
abbrev rm_J0_compare : Room := { frames := 0, cells := 0, slots := 0, locals := 0 }
set_option maxHeartbeats 8000000 in
theorem met_J0_compare (l : Launch) (E : us_E) (A : Nat → Prop) (H0 : Heap) (x : Int) (y : Int) (hx : -2147483648 ≤ x ∧ x < 2147483648) (hy : -2147483648 ≤ y ∧ y < 2147483648) : cMet l yJ0_compare cJ0_compare 2 (some .int) rm_J0_compare A E [.int (zi x), .int (zi y)] (fun H => H = H0) (qi A (fun r H => (r = (if x < y then (-1 : Int) else if x = y then 0 else 1)) ∧ (H = H0))) := by
  refine cMet.of (by decide) (Nat.le_of_ble_eq_true rfl) (fun p e s m args below meth c C hnm hX hS ls hl => ?_)
  have C : Cx p s m args meth c A RJ0 cJ0_compare 2 (some .int) E := C
  have hX : s.heap = H0 := hX
  have hl : lv_has ls 2 [(0, .int (zi x)), (1, .int (zi y))] := hl
  generalize hH : s.heap = H at hX
  have hS : va_S A s.heap H [] := by rw [← hH]; exact hS
  generalize hlocs : ([] : List Loc) = locs at hS ⊢
  obtain ⟨QQ, hQQ⟩ : ∃ z, MQ below (qi A (fun r H => (r = (if x < y then (-1 : Int) else if x = y then 0 else 1)) ∧ (H = H0))) args s (rm_J0_compare).cells (rm_J0_compare).slots A = z := ⟨_, rfl⟩
  rw [hQQ]
  refine lv_iload_n C.x C.b dJ0_compare_0 rfl (lv_at hl 0 rfl) ?_
  refine lv_iload_n C.x C.b dJ0_compare_1 rfl (lv_at hl 1 rfl) ?_
  refine r_icmp_ge (tgt := 9) C (by omega) (by omega) dJ0_compare_2 (by decide) (fun c_1 => ?_) (fun c_1 => ?_)
  · refine lv_iload_n C.x C.b dJ0_compare_9 rfl (lv_at hl 0 rfl) ?_
    refine lv_iload_n C.x C.b dJ0_compare_10 rfl (lv_at hl 1 rfl) ?_
    refine r_icmp_ne (tgt := 18) C (by omega) (by omega) dJ0_compare_11 (by decide) (fun c_2 => ?_) (fun c_2 => ?_)
    · refine r_const C dJ0_compare_18 ?_
      rw [← hQQ]
      exact r_iret C hS (Nat.le_of_ble_eq_true rfl) (Nat.le_of_ble_eq_true rfl) dJ0_compare_19 ⟨(by first | rw [if_pos (by assumption)] | (rw [if_neg (by assumption), if_pos (by assumption)]; done) | rw [if_neg (by assumption), if_neg (by assumption)]), hX⟩
    · refine r_const C dJ0_compare_14 ?_
      refine lv_goto (tgt := 19) C.x C.b dJ0_compare_15 (by decide) ?_
      rw [← hQQ]
      exact r_iret C hS (Nat.le_of_ble_eq_true rfl) (Nat.le_of_ble_eq_true rfl) dJ0_compare_19 ⟨(by first | rw [if_pos (by assumption)] | (rw [if_neg (by assumption), if_pos (by assumption)]; done) | rw [if_neg (by assumption), if_neg (by assumption)]), hX⟩
  · refine r_const C dJ0_compare_5 ?_
    refine lv_goto (tgt := 19) C.x C.b dJ0_compare_6 (by decide) ?_
    rw [← hQQ]
    exact r_iret C hS (Nat.le_of_ble_eq_true rfl) (Nat.le_of_ble_eq_true rfl) dJ0_compare_19 ⟨(by first | rw [if_pos (by assumption)] | (rw [if_neg (by assumption), if_pos (by assumption)]; done) | rw [if_neg (by assumption), if_neg (by assumption)]), hX⟩

theorem hd_X0_signs : yX0_signs.cls = RX0 ∧ yX0_signs.cls ≠ "java/lang/invoke/MethodHandle" ∧ yX0_signs.cls ≠ "java/lang/invoke/VarHandle" ∧ (parseMethodDescriptor yX0_signs.desc).map (fun d => d.parameters.length) = some 1 := by decide +kernel
abbrev rm_X0_signs : Room := { frames := 3, cells := 0, slots := 0, locals := 67 }
set_option maxHeartbeats 8000000 in
theorem met_X0_signs (l : Launch) (E : us_E) (A : Nat → Prop) (B : Nat → Int → Nat) (F : Nat → Int) (M : Nat → Int → Int) (G : Nat → Int → Option Nat) (T : x_T) (w : Int) (hw : -2147483648 ≤ w ∧ w < 2147483648) : cMet l yX0_signs cX0_signs 5 (some .int) rm_X0_signs A E [.ref (B 49 0), .int (zi w)] (fun H => XH E A B F M G T H) (qi A (fun r H => ∃ m3 : Int → Int, (w = 3 → (0 ≤ r ∧ r ≤ 12) ∧ Uni (F 1) (M 0) r ∧ ∀ j : Int, 0 ≤ j → j < r → ¬ Uni (F 1) (M 0) j) ∧ (0 ≤ w ∧ w ≤ 2 → SgOK (F 1) (M 0) (F 2) m3 ∧ r = sel (w = 0) (sgn_many (F 1) m3) (sel (w = 1) (szb (F 1) m3 (bst (F 1) m3 (F 1))) (bst (F 1) m3 (F 1)))) ∧ (¬ (0 ≤ w ∧ w ≤ 3) → r = -1) ∧ XH E A B F (va_up M 3 m3) G T H)) := by
  refine cMet.of (by decide) (Nat.le_of_ble_eq_true rfl) (fun p e s m args below meth c C hnm hX hS ls hl => ?_)
  have C : Cx p s m args meth c A RX0 cX0_signs 5 (some .int) E := C
  have hX : XH E A B F M G T s.heap := hX
  have hl : lv_has ls 5 [(0, .ref (B 49 0)), (1, .int (zi w))] := hl
  generalize hH : s.heap = H at hX
  have hS : va_S A s.heap H [] := by rw [← hH]; exact hS
  generalize hlocs : ([] : List Loc) = locs at hS ⊢
  obtain ⟨QQ, hQQ⟩ : ∃ z, MQ below (qi A (fun r H => ∃ m3 : Int → Int, (w = 3 → (0 ≤ r ∧ r ≤ 12) ∧ Uni (F 1) (M 0) r ∧ ∀ j : Int, 0 ≤ j → j < r → ¬ Uni (F 1) (M 0) j) ∧ (0 ≤ w ∧ w ≤ 2 → SgOK (F 1) (M 0) (F 2) m3 ∧ r = sel (w = 0) (sgn_many (F 1) m3) (sel (w = 1) (szb (F 1) m3 (bst (F 1) m3 (F 1))) (bst (F 1) m3 (F 1)))) ∧ (¬ (0 ≤ w ∧ w ≤ 3) → r = -1) ∧ XH E A B F (va_up M 3 m3) G T H)) args s (rm_X0_signs).cells (rm_X0_signs).slots A = z := ⟨_, rfl⟩
  rw [hQQ]
  have rF1 : 0 ≤ F 1 ∧ F 1 ≤ 24 := hX.2.1 1 (0, 24) rfl
  have rF2 : 0 ≤ F 2 ∧ F 2 ≤ 12 := hX.2.1 2 (0, 12) rfl
  have hft : ∀ j, 0 ≤ M 0 j ∧ M 0 j ≤ 4095 := fun j => hX.2.2.1 0 (0, 4095) rfl j
  refine lv_iload_n C.x C.b dX0_signs_0 rfl (lv_at hl 1 rfl) ?_
  refine r_i2l C (by omega) dX0_signs_1 ?_
  refine r_lconst C 0 rfl dX0_signs_2 ?_
  refine r_ldc2 C 3 (by decide) q152 dX0_signs_3 ?_
  refine r_callSi (As := [.long (zl w), .long (zl 0), .long (zl 3)]) (rest := []) (cells' := 0) (slots' := 0) C (met_X0_isIn l E A H w 0 3 (show -9223372036854775808 ≤ w ∧ w < 9223372036854775808 from (by omega)) (show -9223372036854775808 ≤ (0 : Int) ∧ (0 : Int) < 9223372036854775808 from (by omega)) (show -9223372036854775808 ≤ (3 : Int) ∧ (3 : Int) < 9223372036854775808 from (by omega))) (lw_S q117 q118 q86 q119) hd_X0_isIn rfl (by decide) rfl hS hl.1 rfl (Nat.le_of_ble_eq_true rfl) dX0_signs_6 rfl rfl ⟨Nat.le_of_ble_eq_true rfl, Nat.le_of_ble_eq_true rfl⟩ (fun rr H locs hp hS => ?_)
  obtain ⟨hrr, hH⟩ := hp
  have hrr : rr = bI ((0 : Int) ≤ w ∧ w ≤ (3 : Int)) := hrr
  subst hrr
  have hX : XH E A B F M G T H := by rw [hH]; exact hX
  refine r_if_ne_b (tgt := 14) C dX0_signs_9 (by decide) (fun c_1 => ?_) (fun c_1 => ?_)
  · refine lv_iload_n C.x C.b dX0_signs_14 rfl (lv_at hl 1 rfl) ?_
    refine r_const C dX0_signs_15 ?_
    refine r_icmp_ne (tgt := 45) C (by omega) (by decide) dX0_signs_16 (by decide) (fun c_2 => ?_) (fun c_2 => ?_)
    · refine lv_aload_n C.x C.b dX0_signs_45 rfl (lv_at hl 0 rfl) ?_
      refine lv_aload_n C.x C.b dX0_signs_46 rfl (lv_at hl 0 rfl) ?_
      refine x_gi C hX 2 (by decide) rfl q738 (fun _ h => h) (F 2) rfl (b := (0, 12)) rfl dX0_signs_47 (fun _ => ?_)
      refine r_callVi (As := [.int (zi (F 2))]) (rest := []) (cells' := 0) (slots' := 0) C (met_X0_laySigns l E A B F M G T (F 2) (show 0 ≤ (F 2) ∧ (F 2) ≤ 24 from (by omega))) (lw_V q138 q140 qs2 q86 q141) hd_X0_laySigns rfl (by decide) (x_this C hX) hX hS hl.1 rfl (Nat.le_of_ble_eq_true rfl) dX0_signs_50 rfl rfl ⟨Nat.le_of_ble_eq_true rfl, Nat.le_of_ble_eq_true rfl⟩ (fun rr H locs hp hS => ?_)
      obtain ⟨sg, hsg, hmr, hrr, hX⟩ := hp
      have hrr : rr = sgn_many ((F 1)) sg := hrr
      subst hrr
      replace hsg : SgOK ((F 1)) ((M 0)) (F 2) sg := hsg
      replace hmr : 0 ≤ sgn_many ((F 1)) sg ∧ sgn_many ((F 1)) sg ≤ (F 1) := hmr
      have hX : XH E A B F (va_up M 3 sg) G T H := hX.to rfl rfl rfl rfl rfl
      refine lv_istore_n (lv' := [(2, .int (zi (sgn_many ((F 1)) sg))), (0, .ref (B 49 0)), (1, .int (zi w))]) C.x C.b dX0_signs_53 rfl hl (by decide) rfl (fun ls hl => ?_)
      refine r_bipush C (by decide) dX0_signs_54 ?_
      refine lv_istore_n (lv' := [(3, .int (zi (-4))), (2, .int (zi (sgn_many ((F 1)) sg))), (0, .ref (B 49 0)), (1, .int (zi w))]) C.x C.b dX0_signs_56 rfl hl (by decide) rfl (fun ls hl => ?_)
      refine r_const C dX0_signs_57 ?_
      refine lv_istore (lv' := [(4, .int (zi 0)), (3, .int (zi (-4))), (2, .int (zi (sgn_many ((F 1)) sg))), (0, .ref (B 49 0)), (1, .int (zi w))]) C.x C.b dX0_signs_58 hl (by decide) rfl (fun ls hl => ?_)
      have L60 : ∀ (fu : Nat) (v3 : Int) (v4 : Int) (h4 : 0 ≤ v4 ∧ v4 ≤ F 1) (hb : v3 = bst (F 1) sg v4) (hm : Int.toNat (F 1 - v4) < fu) (H : Heap) (locs : List Loc) (ls : Array Slot) (hX : XH E A B F (va_up M 3 sg) G T H) (hS : va_S A s.heap H locs) (hl : lv_has ls 5 [(0, .ref (B 49 0)), (1, .int (zi w)), (2, .int (zi (sgn_many ((F 1)) sg))), (3, .int (zi v3)), (4, .int (zi v4))]), W p l e rm_X0_signs s m args below meth c H locs 0 0 QQ (F0 m 60 ls []) := by
        intro fu
        induction fu with
        | zero => intro v3 v4 h4 hb hm; exact absurd hm (Nat.not_lt_zero _)
        | succ fu ih60 =>
          intro v3 v4 h4 hb hm H locs ls hX hS hl
          refine lv_iload C.x C.b dX0_signs_60 (lv_at hl 4 rfl) ?_
          refine lv_aload_n C.x C.b dX0_signs_62 rfl (lv_at hl 0 rfl) ?_
          refine x_gi C hX 1 (by decide) rfl q737 (fun _ h => h) (F 1) rfl (b := (0, 24)) rfl dX0_signs_63 (fun _ => ?_)
          refine r_icmp_ge (tgt := 111) C (by omega) (by omega) dX0_signs_66 (by decide) (fun c_3 => ?_) (fun c_3 => ?_)
          · have hb2 : v3 = bst (F 1) sg (F 1) := by rw [hb, show v4 = F 1 by omega]
            have hbr2 := bst_r (n := F 1) (s := sg) rF1.1
            rw [← hb2] at hbr2
            refine lv_iload_n C.x C.b dX0_signs_111 rfl (lv_at hl 1 rfl) ?_
            refine r_if_ne (tgt := 119) C (by omega) dX0_signs_112 (by decide) (fun c_4 => ?_) (fun c_4 => ?_)
            · refine lv_iload_n C.x C.b dX0_signs_119 rfl (lv_at hl 1 rfl) ?_
              refine r_const C dX0_signs_120 ?_
              refine r_icmp_ne (tgt := 128) C (by omega) (by decide) dX0_signs_121 (by decide) (fun c_5 => ?_) (fun c_5 => ?_)
              · refine lv_iload_n C.x C.b dX0_signs_128 rfl (lv_at hl 3 rfl) ?_
                refine r_bipush C (by decide) dX0_signs_129 ?_
                refine r_icmp_ne (tgt := 138) C (by omega) (by decide) dX0_signs_131 (by decide) (fun c_6 => ?_) (fun c_6 => ?_)
                · refine lv_aload_n C.x C.b dX0_signs_138 rfl (lv_at hl 0 rfl) ?_
                  refine lv_iload_n C.x C.b dX0_signs_139 rfl (lv_at hl 3 rfl) ?_
                  refine r_callVi (As := [.int (zi v3)]) (rest := []) (cells' := 0) (slots' := 0) C (met_X0_sizeOf l E A B F (va_up M 3 sg) G T v3 (show -2147483648 ≤ v3 ∧ v3 < 2147483648 from (by omega))) (lw_V q157 q159 qs4 q86 q160) hd_X0_sizeOf rfl (by decide) (x_this C hX) hX hS hl.1 rfl (Nat.le_of_ble_eq_true rfl) dX0_signs_140 rfl rfl ⟨Nat.le_of_ble_eq_true rfl, Nat.le_of_ble_eq_true rfl⟩ (fun rr H locs hp hS => ?_)
                  obtain ⟨hsz, hrr, hX⟩ := hp
                  have hrr : rr = sz_of ((F 1)) (sg) v3 := hrr
                  subst hrr
                  replace hsz : 0 ≤ sz_of ((F 1)) (sg) v3 ∧ sz_of ((F 1)) (sg) v3 ≤ 24 := hsz
                  rw [← hQQ]
                  exact r_iret C hS (Nat.le_of_ble_eq_true rfl) (Nat.le_of_ble_eq_true rfl) dX0_signs_143 ⟨sg, (fun q => absurd q (by omega)), (fun _ => ⟨hsg, by unfold szb; rw [← hb2]; (repeat first | rw [sel_t (c := w = _) (by omega)] | rw [sel_f (c := w = _) (by omega)]) <;> first | rfl | (rw [sel_t (by assumption)]; done) | (rw [sel_f (by assumption)]; done)⟩), (fun q => absurd q (by omega)), hX⟩
                · refine r_const C dX0_signs_134 ?_
                  refine lv_goto (tgt := 143) C.x C.b dX0_signs_135 (by decide) ?_
                  rw [← hQQ]
                  exact r_iret C hS (Nat.le_of_ble_eq_true rfl) (Nat.le_of_ble_eq_true rfl) dX0_signs_143 ⟨sg, (fun q => absurd q (by omega)), (fun _ => ⟨hsg, by unfold szb; rw [← hb2]; (repeat first | rw [sel_t (c := w = _) (by omega)] | rw [sel_f (c := w = _) (by omega)]) <;> first | rfl | (rw [sel_t (by assumption)]; done) | (rw [sel_f (by assumption)]; done)⟩), (fun q => absurd q (by omega)), hX⟩
              · refine lv_iload_n C.x C.b dX0_signs_124 rfl (lv_at hl 3 rfl) ?_
                refine lv_goto (tgt := 143) C.x C.b dX0_signs_125 (by decide) ?_
                rw [← hQQ]
                exact r_iret C hS (Nat.le_of_ble_eq_true rfl) (Nat.le_of_ble_eq_true rfl) dX0_signs_143 ⟨sg, (fun q => absurd q (by omega)), (fun _ => ⟨hsg, by unfold szb; rw [← hb2]; (repeat first | rw [sel_t (c := w = _) (by omega)] | rw [sel_f (c := w = _) (by omega)]) <;> first | rfl | (rw [sel_t (by assumption)]; done) | (rw [sel_f (by assumption)]; done)⟩), (fun q => absurd q (by omega)), hX⟩
            · refine lv_iload_n C.x C.b dX0_signs_115 rfl (lv_at hl 2 rfl) ?_
              refine lv_goto (tgt := 143) C.x C.b dX0_signs_116 (by decide) ?_
              rw [← hQQ]
              exact r_iret C hS (Nat.le_of_ble_eq_true rfl) (Nat.le_of_ble_eq_true rfl) dX0_signs_143 ⟨sg, (fun q => absurd q (by omega)), (fun _ => ⟨hsg, by unfold szb; rw [← hb2]; (repeat first | rw [sel_t (c := w = _) (by omega)] | rw [sel_f (c := w = _) (by omega)]) <;> first | rfl | (rw [sel_t (by assumption)]; done) | (rw [sel_f (by assumption)]; done)⟩), (fun q => absurd q (by omega)), hX⟩
          · have hbr := bst_r (n := F 1) (s := sg) h4.1
            rw [← hb] at hbr
            refine lv_aload_n C.x C.b dX0_signs_69 rfl (lv_at hl 0 rfl) ?_
            refine lv_iload C.x C.b dX0_signs_70 (lv_at hl 4 rfl) ?_
            refine r_callVi (As := [.int (zi v4)]) (rest := []) (cells' := 0) (slots' := 0) C (met_X0_isSign l E A B F (va_up M 3 sg) G T v4 (show -2147483648 ≤ v4 ∧ v4 < 2147483648 from (by omega))) (lw_V q153 q155 qs3 q86 q156) hd_X0_isSign rfl (by decide) (x_this C hX) hX hS hl.1 rfl (Nat.le_of_ble_eq_true rfl) dX0_signs_72 rfl rfl ⟨Nat.le_of_ble_eq_true rfl, Nat.le_of_ble_eq_true rfl⟩ (fun rr H locs hp hS => ?_)
            obtain ⟨hrr, hX⟩ := hp
            have hrr : rr = bI ((0 ≤ v4 ∧ v4 < (F 1)) ∧ sg v4 = v4) := hrr
            subst hrr
            have J104_7 : ∀ (t0 : Int) (ht0 : t0 = sel ((0 ≤ v4 ∧ v4 < (F 1)) ∧ sg v4 = v4) (sel (v3 = (-4)) v4 (sel ((sz_of ((F 1)) (sg) v3) < (sz_of ((F 1)) (sg) v4)) v4 v3)) v3) (H : Heap) (locs : List Loc) (ls : Array Slot) (hX : XH E A B F (va_up M 3 sg) G T H) (hS : va_S A s.heap H locs) (hl : lv_has ls 5 [(0, .ref (B 49 0)), (1, .int (zi w)), (2, .int (zi (sgn_many ((F 1)) sg))), (3, .int (zi v3)), (4, .int (zi v4))]), W p l e rm_X0_signs s m args below meth c H locs 0 0 QQ (F0 m 104 ls [.int (zi t0)]) := by
              intro t0 ht0 H locs ls hX hS hl
              subst ht0
              refine lv_istore_n (lv' := [(3, .int (zi (sel ((0 ≤ v4 ∧ v4 < (F 1)) ∧ sg v4 = v4) (sel (v3 = (-4)) v4 (sel ((sz_of ((F 1)) (sg) v3) < (sz_of ((F 1)) (sg) v4)) v4 v3)) v3))), (0, .ref (B 49 0)), (1, .int (zi w)), (2, .int (zi (sgn_many ((F 1)) sg))), (4, .int (zi v4))]) C.x C.b dX0_signs_104 rfl hl (by decide) rfl (fun ls hl => ?_)
              refine r_iinc (lv' := [(4, .int (zi (v4 + 1))), (3, .int (zi (sel ((0 ≤ v4 ∧ v4 < (F 1)) ∧ sg v4 = v4) (sel (v3 = (-4)) v4 (sel ((sz_of ((F 1)) (sg) v3) < (sz_of ((F 1)) (sg) v4)) v4 v3)) v3))), (0, .ref (B 49 0)), (1, .int (zi w)), (2, .int (zi (sgn_many ((F 1)) sg)))]) C dX0_signs_105 hl (k := 4) rfl (by decide) rfl (fun ls hl => ?_)
              refine lv_goto (tgt := 60) C.x C.b dX0_signs_108 (by decide) ?_
              exact ih60 (sel ((0 ≤ v4 ∧ v4 < (F 1)) ∧ sg v4 = v4) (sel (v3 = (-4)) v4 (sel ((sz_of ((F 1)) (sg) v3) < (sz_of ((F 1)) (sg) v4)) v4 v3)) v3) (v4 + 1) (by omega) (by rw [hb, bst_s h4.1]; rw [hb] at *; exact bst_x ⟨fun q => q.2, fun q => ⟨⟨h4.1, by omega⟩, q⟩⟩) (by omega) H locs ls hX hS (lv_sub hl [2, 3, 4, 1, 0] rfl)
            refine r_if_eq_b (tgt := 103) C dX0_signs_75 (by decide) (fun c_8 => ?_) (fun c_8 => ?_)
            · refine lv_iload_n C.x C.b dX0_signs_103 rfl (lv_at hl 3 rfl) ?_
              exact J104_7 v3 ((sel_f c_8).symm) H locs ls hX hS hl
            · refine lv_iload_n C.x C.b dX0_signs_78 rfl (lv_at hl 3 rfl) ?_
              refine r_bipush C (by decide) dX0_signs_79 ?_
              refine r_icmp_eq (tgt := 98) C (by omega) (by decide) dX0_signs_81 (by decide) (fun c_9 => ?_) (fun c_9 => ?_)
              · refine lv_iload C.x C.b dX0_signs_98 (lv_at hl 4 rfl) ?_
                refine lv_goto (tgt := 104) C.x C.b dX0_signs_100 (by decide) ?_
                exact J104_7 v4 (((sel_t c_8).trans (sel_t c_9)).symm) H locs ls hX hS hl
              · refine lv_aload_n C.x C.b dX0_signs_84 rfl (lv_at hl 0 rfl) ?_
                refine lv_iload C.x C.b dX0_signs_85 (lv_at hl 4 rfl) ?_
                refine r_callVi (As := [.int (zi v4)]) (rest := []) (cells' := 0) (slots' := 0) C (met_X0_sizeOf l E A B F (va_up M 3 sg) G T v4 (show -2147483648 ≤ v4 ∧ v4 < 2147483648 from (by omega))) (lw_V q157 q159 qs4 q86 q160) hd_X0_sizeOf rfl (by decide) (x_this C hX) hX hS hl.1 rfl (Nat.le_of_ble_eq_true rfl) dX0_signs_87 rfl rfl ⟨Nat.le_of_ble_eq_true rfl, Nat.le_of_ble_eq_true rfl⟩ (fun rr H locs hp hS => ?_)
                obtain ⟨hz1, hrr, hX⟩ := hp
                have hrr : rr = sz_of ((F 1)) (sg) v4 := hrr
                subst hrr
                replace hz1 : 0 ≤ sz_of ((F 1)) (sg) v4 ∧ sz_of ((F 1)) (sg) v4 ≤ 24 := hz1
                refine lv_aload_n C.x C.b dX0_signs_90 rfl (lv_at hl 0 rfl) ?_
                refine lv_iload_n C.x C.b dX0_signs_91 rfl (lv_at hl 3 rfl) ?_
                refine r_callVi (As := [.int (zi v3)]) (rest := [.int (zi (sz_of ((F 1)) (sg) v4))]) (cells' := 0) (slots' := 0) C (met_X0_sizeOf l E A B F (va_up M 3 sg) G T v3 (show -2147483648 ≤ v3 ∧ v3 < 2147483648 from (by omega))) (lw_V q157 q159 qs4 q86 q160) hd_X0_sizeOf rfl (by decide) (x_this C hX) hX hS hl.1 rfl (Nat.le_of_ble_eq_true rfl) dX0_signs_92 rfl rfl ⟨Nat.le_of_ble_eq_true rfl, Nat.le_of_ble_eq_true rfl⟩ (fun rr H locs hp hS => ?_)
                obtain ⟨hz2, hrr, hX⟩ := hp
                have hrr : rr = sz_of ((F 1)) (sg) v3 := hrr
                subst hrr
                replace hz2 : 0 ≤ sz_of ((F 1)) (sg) v3 ∧ sz_of ((F 1)) (sg) v3 ≤ 24 := hz2
                refine r_icmp_le (tgt := 103) C (by omega) (by omega) dX0_signs_95 (by decide) (fun c_10 => ?_) (fun c_10 => ?_)
                · refine lv_iload_n C.x C.b dX0_signs_103 rfl (lv_at hl 3 rfl) ?_
                  exact J104_7 v3 (((sel_t c_8).trans ((sel_f c_9).trans (sel_f c_10))).symm) H locs ls hX hS hl
                · refine lv_iload C.x C.b dX0_signs_98 (lv_at hl 4 rfl) ?_
                  refine lv_goto (tgt := 104) C.x C.b dX0_signs_100 (by decide) ?_
                  exact J104_7 v4 (((sel_t c_8).trans ((sel_f c_9).trans (sel_t c_10))).symm) H locs ls hX hS hl
      exact L60 _ (-4) 0 (by omega) rfl (Nat.lt_succ_self _) H locs ls hX hS (lv_sub hl [3, 4, 2, 1, 0] rfl)
    · refine r_const C dX0_signs_19 ?_
      refine lv_istore_n (lv' := [(2, .int (zi 0)), (0, .ref (B 49 0)), (1, .int (zi w))]) C.x C.b dX0_signs_20 rfl hl (by decide) rfl (fun ls hl => ?_)
      have L21 : ∀ (fu : Nat) (v2 : Int) (m3 : Int → Int) (hv : 0 ≤ v2 ∧ v2 ≤ 12) (hn : ∀ j : Int, 0 ≤ j → j < v2 → ¬ Uni (F 1) (M 0) j) (hm : Int.toNat (12 - v2) < fu) (H : Heap) (locs : List Loc) (ls : Array Slot) (hX : XH E A B F (va_up M 3 m3) G T H) (hS : va_S A s.heap H locs) (hl : lv_has ls 5 [(0, .ref (B 49 0)), (1, .int (zi w)), (2, .int (zi v2))]), W p l e rm_X0_signs s m args below meth c H locs 0 0 QQ (F0 m 21 ls []) := by
        intro fu
        induction fu with
        | zero => intro v2 m3 hv hn hm; exact absurd hm (Nat.not_lt_zero _)
        | succ fu ih21 =>
          intro v2 m3 hv hn hm H locs ls hX hS hl
          refine lv_aload_n C.x C.b dX0_signs_21 rfl (lv_at hl 0 rfl) ?_
          refine x_gi C hX 1 (by decide) rfl q737 (fun _ h => h) (F 1) rfl (b := (0, 24)) rfl dX0_signs_22 (fun _ => ?_)
          refine r_if_le (tgt := 43) C (by omega) dX0_signs_25 (by decide) (fun c_11 => ?_) (fun c_11 => ?_)
          · refine lv_iload_n C.x C.b dX0_signs_43 rfl (lv_at hl 2 rfl) ?_
            rw [← hQQ]
            exact r_iret C hS (Nat.le_of_ble_eq_true rfl) (Nat.le_of_ble_eq_true rfl) dX0_signs_44 ⟨m3, (fun _ => ⟨⟨by omega, by omega⟩, by first | exact ⟨_, hsn, by omega⟩ | exact Uni0 (by omega), hn⟩), (fun q => absurd q (by omega)), (fun q => absurd q (by omega)), hX⟩
          · refine lv_aload_n C.x C.b dX0_signs_28 rfl (lv_at hl 0 rfl) ?_
            refine lv_iload_n C.x C.b dX0_signs_29 rfl (lv_at hl 2 rfl) ?_
            refine r_callVi (As := [.int (zi v2)]) (rest := []) (cells' := 0) (slots' := 0) C (met_X0_laySigns l E A B F (va_up M 3 m3) G T v2 (show 0 ≤ v2 ∧ v2 ≤ 24 from (by omega))) (lw_V q138 q140 qs2 q86 q141) hd_X0_laySigns rfl (by decide) (x_this C hX) hX hS hl.1 rfl (Nat.le_of_ble_eq_true rfl) dX0_signs_30 rfl rfl ⟨Nat.le_of_ble_eq_true rfl, Nat.le_of_ble_eq_true rfl⟩ (fun rr H locs hp hS => ?_)
            obtain ⟨sn_, hsn, hmn, hrr, hX⟩ := hp
            have hrr : rr = sgn_many ((F 1)) sn_ := hrr
            subst hrr
            replace hsn : SgOK ((F 1)) ((M 0)) v2 sn_ := hsn
            replace hmn : 0 ≤ sgn_many ((F 1)) sn_ ∧ sgn_many ((F 1)) sn_ ≤ (F 1) := hmn
            have hX : XH E A B F (va_up M 3 sn_) G T H := hX.to rfl rfl (up_up _ _ _ _) rfl rfl
            refine r_const C dX0_signs_33 ?_
            refine r_icmp_le (tgt := 43) C (by omega) (by decide) dX0_signs_34 (by decide) (fun c_12 => ?_) (fun c_12 => ?_)
            · refine lv_iload_n C.x C.b dX0_signs_43 rfl (lv_at hl 2 rfl) ?_
              rw [← hQQ]
              exact r_iret C hS (Nat.le_of_ble_eq_true rfl) (Nat.le_of_ble_eq_true rfl) dX0_signs_44 ⟨sn_, (fun _ => ⟨⟨by omega, by omega⟩, by first | exact ⟨_, hsn, by omega⟩ | exact Uni0 (by omega), hn⟩), (fun q => absurd q (by omega)), (fun q => absurd q (by omega)), hX⟩
            · have hw12 : v2 < 12 := by
                rcases Int.lt_or_le v2 12 with q | q
                · exact q
                · have := Uni12 (by omega) hft q hsn
                  omega
              refine r_iinc (lv' := [(2, .int (zi (v2 + 1))), (0, .ref (B 49 0)), (1, .int (zi w))]) C dX0_signs_37 hl (k := 2) rfl (by decide) rfl (fun ls hl => ?_)
              refine lv_goto (tgt := 21) C.x C.b dX0_signs_40 (by decide) ?_
              exact ih21 (v2 + 1) sn_ (by omega) (fun j a b => by rcases Int.lt_or_le j v2 with q | q; exact hn j a q; exact (show j = v2 by omega) ▸ Uni_no hsn (by omega)) (by omega) H locs ls hX hS (lv_sub hl [1, 2, 0] rfl)
      exact L21 _ 0 (M 3) (by omega) (fun j a b => absurd a (by omega)) (Nat.lt_succ_self _) H locs ls (hX.to rfl rfl ((up_id M (k := 3) (a := (M 3)) rfl).symm.trans rfl) rfl rfl) hS (lv_sub hl [1, 2, 0] rfl)
  · refine r_const C dX0_signs_12 ?_
    rw [← hQQ]
    exact r_iret C hS (Nat.le_of_ble_eq_true rfl) (Nat.le_of_ble_eq_true rfl) dX0_signs_13 ⟨(M 3), (fun q => absurd q (by omega)), (fun q => absurd q (by omega)), (fun _ => rfl), (hX.to rfl rfl ((up_id M (k := 3) (a := (M 3)) rfl).symm.trans rfl) rfl rfl)⟩

theorem hd_X0_allSigns : yX0_allSigns.cls = RX0 ∧ yX0_allSigns.cls ≠ "java/lang/invoke/MethodHandle" ∧ yX0_allSigns.cls ≠ "java/lang/invoke/VarHandle" ∧ (parseMethodDescriptor yX0_allSigns.desc).map (fun d => d.parameters.length) = some 0 := by decide +kernel
abbrev rm_X0_allSigns : Room := { frames := 0, cells := 0, slots := 0, locals := 0 }
set_option maxHeartbeats 8000000 in
theorem met_X0_allSigns (l : Launch) (E : us_E) (A : Nat → Prop) (B : Nat → Int → Nat) (F : Nat → Int) (M : Nat → Int → Int) (G : Nat → Int → Option Nat) (T : x_T) : cMet l yX0_allSigns cX0_allSigns 7 (some .int) rm_X0_allSigns A E [.ref (B 49 0)] (fun H => XH E A B F M G T H) (qi A (fun r H => (0 ≤ alls (M 3) (mtc (M 56)) (M 200) (F 6) ∧ alls (M 3) (mtc (M 56)) (M 200) (F 6) ≤ 192) ∧ (r = alls (M 3) (mtc (M 56)) (M 200) (F 6)) ∧ XH E A B F M G T H)) := by
  refine cMet.of (by decide) (Nat.le_of_ble_eq_true rfl) (fun p e s m args below meth c C hnm hX hS ls hl => ?_)
  have C : Cx p s m args meth c A RX0 cX0_allSigns 7 (some .int) E := C
  have hX : XH E A B F M G T s.heap := hX
  have hl : lv_has ls 7 [(0, .ref (B 49 0))] := hl
  generalize hH : s.heap = H at hX
  have hS : va_S A s.heap H [] := by rw [← hH]; exact hS
  generalize hlocs : ([] : List Loc) = locs at hS ⊢
  obtain ⟨QQ, hQQ⟩ : ∃ z, MQ below (qi A (fun r H => (0 ≤ alls (M 3) (mtc (M 56)) (M 200) (F 6) ∧ alls (M 3) (mtc (M 56)) (M 200) (F 6) ≤ 192) ∧ (r = alls (M 3) (mtc (M 56)) (M 200) (F 6)) ∧ XH E A B F M G T H)) args s (rm_X0_allSigns).cells (rm_X0_allSigns).slots A = z := ⟨_, rfl⟩
  rw [hQQ]
  have rF6 : 0 ≤ F 6 ∧ F 6 ≤ 8 := hX.2.1 6 (0, 8) rfl
  have h24 : ∀ t, 0 ≤ M 200 t ∧ M 200 t ≤ 24 := fun t => hX.2.2.1 200 (0, 24) rfl t
  have hcl : ∀ q, -2 ≤ M 56 q ∧ M 56 q ≤ 23 := fun q => hX.2.2.1 56 (-2, 23) rfl q
  have hs3 : ∀ q, 0 ≤ M 3 q ∧ M 3 q ≤ 23 := fun q => hX.2.2.1 3 (0, 23) rfl q
  refine r_const C dX0_allSigns_0 ?_
  refine lv_istore_n (lv' := [(1, .int (zi 0)), (0, .ref (B 49 0))]) C.x C.b dX0_allSigns_1 rfl hl (by decide) rfl (fun ls hl => ?_)
  refine r_const C dX0_allSigns_2 ?_
  refine lv_istore_n (lv' := [(2, .int (zi 0)), (1, .int (zi 0)), (0, .ref (B 49 0))]) C.x C.b dX0_allSigns_3 rfl hl (by decide) rfl (fun ls hl => ?_)
  have L4 : ∀ (fu : Nat) (v1 : Int) (v2 : Int) (ht : 0 ≤ v2 ∧ v2 ≤ F 6) (ha : v1 = isum (fun t => isum (fun i => bI (¬ sa (M 3) ((mtc (M 56)) t i) < 0)) (M 200 t)) v2) (hm : Int.toNat (F 6 - v2) < fu) (H : Heap) (locs : List Loc) (ls : Array Slot) (hX : XH E A B F M G T H) (hS : va_S A s.heap H locs) (hl : lv_has ls 7 [(0, .ref (B 49 0)), (1, .int (zi v1)), (2, .int (zi v2))]), W p l e rm_X0_allSigns s m args below meth c H locs 0 0 QQ (F0 m 4 ls []) := by
    intro fu
    induction fu with
    | zero => intro v1 v2 ht ha hm; exact absurd hm (Nat.not_lt_zero _)
    | succ fu ih4 =>
      intro v1 v2 ht ha hm H locs ls hX hS hl
      refine lv_iload_n C.x C.b dX0_allSigns_4 rfl (lv_at hl 2 rfl) ?_
      refine lv_aload_n C.x C.b dX0_allSigns_5 rfl (lv_at hl 0 rfl) ?_
      refine x_gi C hX 6 (by decide) rfl q742 (fun _ h => h) (F 6) rfl (b := (0, 8)) rfl dX0_allSigns_6 (fun _ => ?_)
      refine r_icmp_ge (tgt := 67) C (by omega) (by omega) dX0_allSigns_9 (by decide) (fun c_1 => ?_) (fun c_1 => ?_)
      · refine lv_iload_n C.x C.b dX0_allSigns_67 rfl (lv_at hl 1 rfl) ?_
        rw [← hQQ]
        exact r_iret C hS (Nat.le_of_ble_eq_true rfl) (Nat.le_of_ble_eq_true rfl) dX0_allSigns_68 ⟨(alls_r rF6 h24), (by rw [ha, show v2 = F 6 by omega]; rfl), hX⟩
      · refine lv_aload_n C.x C.b dX0_allSigns_12 rfl (lv_at hl 0 rfl) ?_
        refine x_ga C hX 5 (by decide) rfl q741 (fun _ h => h) dX0_allSigns_13 ?_
        refine lv_iload_n C.x C.b dX0_allSigns_16 rfl (lv_at hl 2 rfl) ?_
        refine x_la C hX 5 rfl rfl rfl (by decide) rfl rfl (show 0 ≤ v2 ∧ v2 < F 6 from (by omega)) (by omega) (by decide) dX0_allSigns_17 ?_
        refine x_goN C hX 55 (by decide) (show 0 ≤ v2 ∧ v2 < F 6 from (by omega)).1 (xK_55 (show 0 ≤ v2 ∧ v2 < F 6 from (by omega))) rfl in_X3 0 (by decide) (List.mem_of_getElem? (i := 9) rfl) (fun _ h => h) (.ref (B 56 v2)) rfl dX0_allSigns_18 ?_
        refine lv_astore_n (lv' := [(3, .ref (B 56 v2)), (0, .ref (B 49 0)), (1, .int (zi v1)), (2, .int (zi v2))]) C.x C.b dX0_allSigns_21 rfl hl (by decide) rfl (fun ls hl => ?_)
        refine lv_aload_n C.x C.b dX0_allSigns_22 rfl (lv_at hl 0 rfl) ?_
        have rl23 : 0 ≤ M 200 v2 ∧ M 200 v2 ≤ 24 := hX.2.2.1 200 (0, 24) rfl _
        refine x_len C hX 56 (i := v2) rfl rfl (xpr_56 (show 0 ≤ v2 ∧ v2 < F 6 from (by omega))) (by decide) (show 0 ≤ v2 ∧ v2 < F 6 from (by omega)).1 rfl (M 200 v2) (by omega) dX0_allSigns_23 ?_
        refine lv_istore (lv' := [(4, .int (zi (M 200 v2))), (3, .ref (B 56 v2)), (0, .ref (B 49 0)), (1, .int (zi v1)), (2, .int (zi v2))]) C.x C.b dX0_allSigns_24 hl (by decide) rfl (fun ls hl => ?_)
        refine r_const C dX0_allSigns_26 ?_
        refine lv_istore (lv' := [(5, .int (zi 0)), (4, .int (zi (M 200 v2))), (3, .ref (B 56 v2)), (0, .ref (B 49 0)), (1, .int (zi v1)), (2, .int (zi v2))]) C.x C.b dX0_allSigns_27 hl (by decide) rfl (fun ls hl => ?_)
        have L29 : ∀ (fu : Nat) (v1 : Int) (v5 : Int) (hi : 0 ≤ v5 ∧ v5 ≤ M 200 v2) (hb : v1 = isum (fun t => isum (fun i => bI (¬ sa (M 3) ((mtc (M 56)) t i) < 0)) (M 200 t)) v2 + isum (fun i => bI (¬ sa (M 3) ((mtc (M 56)) v2 i) < 0)) v5) (hm : Int.toNat (M 200 v2 - v5) < fu) (H : Heap) (locs : List Loc) (ls : Array Slot) (hX : XH E A B F M G T H) (hS : va_S A s.heap H locs) (hl : lv_has ls 7 [(0, .ref (B 49 0)), (1, .int (zi v1)), (2, .int (zi v2)), (3, .ref (B 56 v2)), (4, .int (zi (M 200 v2))), (5, .int (zi v5))]), W p l e rm_X0_allSigns s m args below meth c H locs 0 0 QQ (F0 m 29 ls []) := by
          intro fu
          induction fu with
          | zero => intro v1 v5 hi hb hm; exact absurd hm (Nat.not_lt_zero _)
          | succ fu ih29 =>
            intro v1 v5 hi hb hm H locs ls hX hS hl
            refine lv_iload C.x C.b dX0_allSigns_29 (lv_at hl 5 rfl) ?_
            refine lv_iload C.x C.b dX0_allSigns_31 (lv_at hl 4 rfl) ?_
            refine r_icmp_ge (tgt := 61) C (by omega) (by omega) dX0_allSigns_33 (by decide) (fun c_2 => ?_) (fun c_2 => ?_)
            · refine r_iinc (lv' := [(2, .int (zi (v2 + 1))), (0, .ref (B 49 0)), (1, .int (zi v1)), (3, .ref (B 56 v2)), (4, .int (zi (M 200 v2))), (5, .int (zi v5))]) C dX0_allSigns_61 hl (k := 2) rfl (by decide) rfl (fun ls hl => ?_)
              refine lv_goto (tgt := 4) C.x C.b dX0_allSigns_64 (by decide) ?_
              exact ih4 v1 (v2 + 1) (by omega) (isum_out (f := fun i => bI (¬ sa (M 3) ((mtc (M 56)) v2 i) < 0)) (N := M 200 v2) (by omega) hb (by omega) rfl) (by omega) H locs ls hX hS (lv_sub hl [1, 2, 0] rfl)
            · refine lv_aload_n C.x C.b dX0_allSigns_36 rfl (lv_at hl 3 rfl) ?_
              refine lv_iload C.x C.b dX0_allSigns_37 (lv_at hl 5 rfl) ?_
              refine x_ld C hX 56 (i := v2) rfl rfl (xpr_56 (show 0 ≤ v2 ∧ v2 < F 6 from (by omega))) (by decide) (show 0 ≤ v2 ∧ v2 < F 6 from (by omega)).1 rfl (show 0 ≤ v5 ∧ v5 < (((M 200 v2).toNat : Nat) : Int) from (by omega)) (by omega) (by omega) (M 56 (24 * v2 + v5)) rfl dX0_allSigns_39 (fun r39 => ?_)
              have r39 : -2 ≤ M 56 (24 * v2 + v5) ∧ M 56 (24 * v2 + v5) ≤ 23 := r39 (-2, 23) rfl
              refine lv_istore (lv' := [(6, .int (zi (M 56 (24 * v2 + v5)))), (0, .ref (B 49 0)), (1, .int (zi v1)), (2, .int (zi v2)), (3, .ref (B 56 v2)), (4, .int (zi (M 200 v2))), (5, .int (zi v5))]) C.x C.b dX0_allSigns_40 hl (by decide) rfl (fun ls hl => ?_)
              refine lv_iload_n C.x C.b dX0_allSigns_42 rfl (lv_at hl 2 rfl) ?_
              refine lv_iload C.x C.b dX0_allSigns_43 (lv_at hl 0 rfl) ?_
              have J53_3 : ∀ (t1 : Int) (ht1 : t1 = bI (¬ ((M 56 (24 * v2 + v5)) < 0))) (H : Heap) (locs : List Loc) (ls : Array Slot) (hX : XH E A B F M G T H) (hS : va_S A s.heap H locs) (hl : lv_has ls 7 [(6, .int (zi (M 56 (24 * v2 + v5)))), (0, .ref (B 49 0)), (1, .int (zi v1)), (2, .int (zi v2)), (3, .ref (B 56 v2)), (4, .int (zi (M 200 v2))), (5, .int (zi v5))]), W p l e rm_X0_allSigns s m args below meth c H locs 0 0 QQ (F0 m 53 ls [.int (zi t1), .int (zi v1)]) := by
                intro t1 ht1 H locs ls hX hS hl
                subst ht1
                refine r_iadd C dX0_allSigns_53 ?_
                refine lv_istore_n (lv' := [(1, .int (zi (v1 + (bI (¬ ((M 56 (24 * v2 + v5)) < 0)))))), (6, .int (zi (M 56 (24 * v2 + v5)))), (0, .ref (B 49 0)), (2, .int (zi v2)), (3, .ref (B 56 v2)), (4, .int (zi (M 200 v2))), (5, .int (zi v5))]) C.x C.b dX0_allSigns_54 rfl hl (by decide) rfl (fun ls hl => ?_)
                refine r_iinc (lv' := [(5, .int (zi (v5 + 1))), (1, .int (zi (v1 + (bI (¬ ((M 56 (24 * v2 + v5)) < 0)))))), (6, .int (zi (M 56 (24 * v2 + v5)))), (0, .ref (B 49 0)), (2, .int (zi v2)), (3, .ref (B 56 v2)), (4, .int (zi (M 200 v2)))]) C dX0_allSigns_55 hl (k := 6) rfl (by decide) rfl (fun ls hl => ?_)
                refine lv_goto (tgt := 29) C.x C.b dX0_allSigns_58 (by decide) ?_
                exact ih29 (v1 + (bI (¬ ((M 56 (24 * v2 + v5)) < 0)))) (v5 + 1) (by omega) (isum_st2 hi.1 hb (bI_c (not_congr (sa_n (hs3 _).1).symm))) (by omega) H locs ls hX hS (lv_sub hl [3, 1, 4, 5, 6, 0] rfl)
              refine r_if_lt (tgt := 52) C (by omega) dX0_allSigns_45 (by decide) (fun c_4 => ?_) (fun c_4 => ?_)
              · refine r_const C dX0_allSigns_52 ?_
                exact J53_3 0 ((bI_f (fun q => q c_4)).symm) H locs ls hX hS hl
              · refine r_const C dX0_allSigns_48 ?_
                refine lv_goto (tgt := 53) C.x C.b dX0_allSigns_49 (by decide) ?_
                exact J53_3 1 ((bI_t c_4).symm) H locs ls hX hS hl
        have r5 := h24 v2
        exact L29 _ v1 0 (by omega) (by rw [ha]; exact (Int.add_zero _).symm) (Nat.lt_succ_self _) H locs ls hX hS (lv_sub hl [3, 4, 5, 2, 1, 0] rfl)
  exact L4 _ 0 0 (by omega) rfl (Nat.lt_succ_self _) H locs ls hX hS (lv_sub hl [2, 1, 0] rfl)

theorem hd_X0_chance : yX0_chance.cls = RX0 ∧ yX0_chance.cls ≠ "java/lang/invoke/MethodHandle" ∧ yX0_chance.cls ≠ "java/lang/invoke/VarHandle" ∧ (parseMethodDescriptor yX0_chance.desc).map (fun d => d.parameters.length) = some 3 := by decide +kernel
abbrev rm_X0_chance : Room := { frames := 3, cells := 0, slots := 0, locals := 67 }
set_option maxHeartbeats 8000000 in
theorem met_X0_chance (l : Launch) (E : us_E) (A : Nat → Prop) (B : Nat → Int → Nat) (F : Nat → Int) (M : Nat → Int → Int) (G : Nat → Int → Option Nat) (T : x_T) (a : Int) (b : Int) (w : Int) (ha : -2147483648 ≤ a ∧ a < 2147483648) (hb : -2147483648 ≤ b ∧ b < 2147483648) (hw : -2147483648 ≤ w ∧ w < 2147483648) : cMet l yX0_chance cX0_chance 16 (some .long) rm_X0_chance A E [.ref (B 49 0), .int (zi a), .int (zi b), .int (zi w)] (fun H => XH E A B F M G T H) (ql A (fun r H => ∃ m3 : Int → Int, SgOK (F 1) (M 0) (F 2) m3 ∧ (r = sel ((((0 ≤ a ∧ a < F 1) ∧ m3 a = a) ∧ ((0 ≤ b ∧ b < F 1) ∧ m3 b = b)) ∧ (0 ≤ w ∧ w ≤ 1)) (sel ((alls m3 (mtc (M 56)) (M 200) (F 6)) < 2) w (chn (bes m3 (mtc (M 56)) (M 200) (F 6) (-1) (-1) * (cnt m3 (mtc (M 56)) (M 200) (F 6)) a * sel (a = b) ((cnt m3 (mtc (M 56)) (M 200) (F 6)) a - 1) ((cnt m3 (mtc (M 56)) (M 200) (F 6)) b)) ((alls m3 (mtc (M 56)) (M 200) (F 6)) * ((alls m3 (mtc (M 56)) (M 200) (F 6)) - 1)) w)) (-1)) ∧ XH E A B F (va_up M 3 m3) G T H)) := by
  refine cMet.of (by decide) (Nat.le_of_ble_eq_true rfl) (fun p e s m args below meth c C hnm hX hS ls hl => ?_)
  have C : Cx p s m args meth c A RX0 cX0_chance 16 (some .long) E := C
  have hX : XH E A B F M G T s.heap := hX
  have hl : lv_has ls 16 [(0, .ref (B 49 0)), (1, .int (zi a)), (2, .int (zi b)), (3, .int (zi w))] := hl
  generalize hH : s.heap = H at hX
  have hS : va_S A s.heap H [] := by rw [← hH]; exact hS
  generalize hlocs : ([] : List Loc) = locs at hS ⊢
  obtain ⟨QQ, hQQ⟩ : ∃ z, MQ below (ql A (fun r H => ∃ m3 : Int → Int, SgOK (F 1) (M 0) (F 2) m3 ∧ (r = sel ((((0 ≤ a ∧ a < F 1) ∧ m3 a = a) ∧ ((0 ≤ b ∧ b < F 1) ∧ m3 b = b)) ∧ (0 ≤ w ∧ w ≤ 1)) (sel ((alls m3 (mtc (M 56)) (M 200) (F 6)) < 2) w (chn (bes m3 (mtc (M 56)) (M 200) (F 6) (-1) (-1) * (cnt m3 (mtc (M 56)) (M 200) (F 6)) a * sel (a = b) ((cnt m3 (mtc (M 56)) (M 200) (F 6)) a - 1) ((cnt m3 (mtc (M 56)) (M 200) (F 6)) b)) ((alls m3 (mtc (M 56)) (M 200) (F 6)) * ((alls m3 (mtc (M 56)) (M 200) (F 6)) - 1)) w)) (-1)) ∧ XH E A B F (va_up M 3 m3) G T H)) args s (rm_X0_chance).cells (rm_X0_chance).slots A = z := ⟨_, rfl⟩
  rw [hQQ]
  have rF6 : 0 ≤ F 6 ∧ F 6 ≤ 8 := hX.2.1 6 (0, 8) rfl
  have h24 : ∀ t, 0 ≤ M 200 t ∧ M 200 t ≤ 24 := fun t => hX.2.2.1 200 (0, 24) rfl t
  have hcl : ∀ q, -2 ≤ M 56 q ∧ M 56 q ≤ 23 := fun q => hX.2.2.1 56 (-2, 23) rfl q
  have hs3 : ∀ q, 0 ≤ M 3 q ∧ M 3 q ≤ 23 := fun q => hX.2.2.1 3 (0, 23) rfl q
  refine lv_aload_n C.x C.b dX0_chance_0 rfl (lv_at hl 0 rfl) ?_
  refine r_callVv (As := []) (rest := []) (cells' := 0) (slots' := 0) C (met_X0_layAll l E A B F M G T) (lw_V q134 q136 qs1 q86 q137) hd_X0_layAll rfl (by decide) (x_this C hX) hX hS hl.1 rfl (Nat.le_of_ble_eq_true rfl) dX0_chance_1 rfl rfl ⟨Nat.le_of_ble_eq_true rfl, Nat.le_of_ble_eq_true rfl⟩ (fun H locs hp hS => ?_)
  obtain ⟨sg, hsg, hX⟩ := hp
  replace hsg : SgOK ((F 1)) ((M 0)) ((F 2)) sg := hsg
  have hX : XH E A B F (va_up M 3 sg) G T H := hX.to rfl rfl rfl rfl rfl
  refine lv_aload_n C.x C.b dX0_chance_4 rfl (lv_at hl 0 rfl) ?_
  refine lv_iload_n C.x C.b dX0_chance_5 rfl (lv_at hl 1 rfl) ?_
  refine r_callVi (As := [.int (zi a)]) (rest := []) (cells' := 0) (slots' := 0) C (met_X0_isSign l E A B F (va_up M 3 sg) G T a (show -2147483648 ≤ a ∧ a < 2147483648 from (by omega))) (lw_V q153 q155 qs3 q86 q156) hd_X0_isSign rfl (by decide) (x_this C hX) hX hS hl.1 rfl (Nat.le_of_ble_eq_true rfl) dX0_chance_6 rfl rfl ⟨Nat.le_of_ble_eq_true rfl, Nat.le_of_ble_eq_true rfl⟩ (fun rr H locs hp hS => ?_)
  obtain ⟨hrr, hX⟩ := hp
  have hrr : rr = bI ((0 ≤ a ∧ a < (F 1)) ∧ sg a = a) := hrr
  subst hrr
  refine r_if_eq_b (tgt := 30) C dX0_chance_9 (by decide) (fun c_1 => ?_) (fun c_1 => ?_)
  · refine r_ldc2 C (-1) (by decide) q213 dX0_chance_30 ?_
    rw [← hQQ]
    exact r_lret C hS (Nat.le_of_ble_eq_true rfl) (Nat.le_of_ble_eq_true rfl) dX0_chance_33 ⟨sg, hsg, (by first | exact Eq.symm (sel_f (fun q => absurd q.1.1 (by assumption))) | exact Eq.symm (sel_f (fun q => absurd q.1.2 (by assumption))) | exact Eq.symm (sel_f (fun q => absurd q.2 (by assumption)))), hX⟩
  · refine lv_aload_n C.x C.b dX0_chance_12 rfl (lv_at hl 0 rfl) ?_
    refine lv_iload_n C.x C.b dX0_chance_13 rfl (lv_at hl 2 rfl) ?_
    refine r_callVi (As := [.int (zi b)]) (rest := []) (cells' := 0) (slots' := 0) C (met_X0_isSign l E A B F (va_up M 3 sg) G T b (show -2147483648 ≤ b ∧ b < 2147483648 from (by omega))) (lw_V q153 q155 qs3 q86 q156) hd_X0_isSign rfl (by decide) (x_this C hX) hX hS hl.1 rfl (Nat.le_of_ble_eq_true rfl) dX0_chance_14 rfl rfl ⟨Nat.le_of_ble_eq_true rfl, Nat.le_of_ble_eq_true rfl⟩ (fun rr H locs hp hS => ?_)
    obtain ⟨hrr, hX⟩ := hp
    have hrr : rr = bI ((0 ≤ b ∧ b < (F 1)) ∧ sg b = b) := hrr
    subst hrr
    refine r_if_eq_b (tgt := 30) C dX0_chance_17 (by decide) (fun c_2 => ?_) (fun c_2 => ?_)
    · refine r_ldc2 C (-1) (by decide) q213 dX0_chance_30 ?_
      rw [← hQQ]
      exact r_lret C hS (Nat.le_of_ble_eq_true rfl) (Nat.le_of_ble_eq_true rfl) dX0_chance_33 ⟨sg, hsg, (by first | exact Eq.symm (sel_f (fun q => absurd q.1.1 (by assumption))) | exact Eq.symm (sel_f (fun q => absurd q.1.2 (by assumption))) | exact Eq.symm (sel_f (fun q => absurd q.2 (by assumption)))), hX⟩
    · refine lv_iload_n C.x C.b dX0_chance_20 rfl (lv_at hl 3 rfl) ?_
      refine r_i2l C (by omega) dX0_chance_21 ?_
      refine r_lconst C 0 rfl dX0_chance_22 ?_
      refine r_lconst C 1 rfl dX0_chance_23 ?_
      refine r_callSi (As := [.long (zl w), .long (zl 0), .long (zl 1)]) (rest := []) (cells' := 0) (slots' := 0) C (met_X0_isIn l E A H w 0 1 (show -9223372036854775808 ≤ w ∧ w < 9223372036854775808 from (by omega)) (show -9223372036854775808 ≤ (0 : Int) ∧ (0 : Int) < 9223372036854775808 from (by omega)) (show -9223372036854775808 ≤ (1 : Int) ∧ (1 : Int) < 9223372036854775808 from (by omega))) (lw_S q117 q118 q86 q119) hd_X0_isIn rfl (by decide) rfl hS hl.1 rfl (Nat.le_of_ble_eq_true rfl) dX0_chance_24 rfl rfl ⟨Nat.le_of_ble_eq_true rfl, Nat.le_of_ble_eq_true rfl⟩ (fun rr H locs hp hS => ?_)
      obtain ⟨hrr, hH⟩ := hp
      have hrr : rr = bI ((0 : Int) ≤ w ∧ w ≤ (1 : Int)) := hrr
      subst hrr
      have hX : XH E A B F (va_up M 3 sg) G T H := by rw [hH]; exact hX
      refine r_if_ne_b (tgt := 34) C dX0_chance_27 (by decide) (fun c_3 => ?_) (fun c_3 => ?_)
      · refine lv_aload_n C.x C.b dX0_chance_34 rfl (lv_at hl 0 rfl) ?_
        refine r_callVi (As := []) (rest := []) (cells' := 0) (slots' := 0) C (met_X0_allSigns l E A B F (va_up M 3 sg) G T) (lw_V q214 q216 qs9 q86 q217) hd_X0_allSigns rfl (by decide) (x_this C hX) hX hS hl.1 rfl (Nat.le_of_ble_eq_true rfl) dX0_chance_35 rfl rfl ⟨Nat.le_of_ble_eq_true rfl, Nat.le_of_ble_eq_true rfl⟩ (fun rr H locs hp hS => ?_)
        obtain ⟨hal, hrr, hX⟩ := hp
        have hrr : rr = alls (sg) (mtc ((M 56))) ((M 200)) ((F 6)) := hrr
        subst hrr
        replace hal : 0 ≤ alls (sg) (mtc ((M 56))) ((M 200)) ((F 6)) ∧ alls (sg) (mtc ((M 56))) ((M 200)) ((F 6)) ≤ 192 := hal
        refine r_i2l C (by omega) dX0_chance_38 ?_
        refine lv_lstore (lv' := [(4, .long (zl (alls (sg) (mtc ((M 56))) ((M 200)) ((F 6))))), (0, .ref (B 49 0)), (1, .int (zi a)), (2, .int (zi b)), (3, .int (zi w))]) C.x C.b dX0_chance_39 hl (by decide) rfl (fun ls hl => ?_)
        refine lv_lload C.x C.b dX0_chance_41 (lv_at hl 0 rfl) ?_
        refine r_ldc2 C 2 (by decide) q218 dX0_chance_43 ?_
        refine r_lcmp C (by omega) (by omega) dX0_chance_46 ?_
        have J90_4 : ∀ (up_ : Int) (hup_ : up_ = sel ((alls sg (mtc (M 56)) (M 200) (F 6)) < 2) 0 (bes sg (mtc (M 56)) (M 200) (F 6) (-1) (-1) * (cnt sg (mtc (M 56)) (M 200) (F 6)) a * sel (a = b) ((cnt sg (mtc (M 56)) (M 200) (F 6)) a - 1) ((cnt sg (mtc (M 56)) (M 200) (F 6)) b))) (hup0 : 0 ≤ up_ ∧ up_ ≤ 7077888) (H : Heap) (locs : List Loc) (ls : Array Slot) (hX : XH E A B F (va_up M 3 sg) G T H) (hS : va_S A s.heap H locs) (hl : lv_has ls 16 [(4, .long (zl (alls (sg) (mtc ((M 56))) ((M 200)) ((F 6))))), (0, .ref (B 49 0)), (1, .int (zi a)), (2, .int (zi b)), (3, .int (zi w))]), W p l e rm_X0_chance s m args below meth c H locs 0 0 QQ (F0 m 90 ls [.long (zl up_)]) := by
          intro up_ hup_ hup0 H locs ls hX hS hl
          refine lv_lstore (lv' := [(6, .long (zl up_)), (4, .long (zl (alls (sg) (mtc ((M 56))) ((M 200)) ((F 6))))), (0, .ref (B 49 0)), (1, .int (zi a)), (2, .int (zi b)), (3, .int (zi w))]) C.x C.b dX0_chance_90 hl (by decide) rfl (fun ls hl => ?_)
          refine lv_lload C.x C.b dX0_chance_92 (lv_at hl 1 rfl) ?_
          refine r_ldc2 C 2 (by decide) q218 dX0_chance_94 ?_
          refine r_lcmp C (by omega) (by omega) dX0_chance_97 ?_
          have J112_5 : ∀ (dn_ : Int) (hdn_ : dn_ = sel ((alls sg (mtc (M 56)) (M 200) (F 6)) < 2) 1 ((alls sg (mtc (M 56)) (M 200) (F 6)) * ((alls sg (mtc (M 56)) (M 200) (F 6)) - 1))) (hdn0 : 1 ≤ dn_ ∧ dn_ ≤ 36864) (H : Heap) (locs : List Loc) (ls : Array Slot) (hX : XH E A B F (va_up M 3 sg) G T H) (hS : va_S A s.heap H locs) (hl : lv_has ls 16 [(6, .long (zl up_)), (4, .long (zl (alls (sg) (mtc ((M 56))) ((M 200)) ((F 6))))), (0, .ref (B 49 0)), (1, .int (zi a)), (2, .int (zi b)), (3, .int (zi w))]), W p l e rm_X0_chance s m args below meth c H locs 0 0 QQ (F0 m 112 ls [.long (zl dn_)]) := by
            intro dn_ hdn_ hdn0 H locs ls hX hS hl
            refine lv_lstore (lv' := [(8, .long (zl dn_)), (6, .long (zl up_)), (4, .long (zl (alls (sg) (mtc ((M 56))) ((M 200)) ((F 6))))), (0, .ref (B 49 0)), (1, .int (zi a)), (2, .int (zi b)), (3, .int (zi w))]) C.x C.b dX0_chance_112 hl (by decide) rfl (fun ls hl => ?_)
            refine lv_lload C.x C.b dX0_chance_114 (lv_at hl 1 rfl) ?_
            refine lv_lstore (lv' := [(10, .long (zl up_)), (8, .long (zl dn_)), (6, .long (zl up_)), (4, .long (zl (alls (sg) (mtc ((M 56))) ((M 200)) ((F 6))))), (0, .ref (B 49 0)), (1, .int (zi a)), (2, .int (zi b)), (3, .int (zi w))]) C.x C.b dX0_chance_116 hl (by decide) rfl (fun ls hl => ?_)
            refine lv_lload C.x C.b dX0_chance_118 (lv_at hl 1 rfl) ?_
            refine lv_lstore (lv' := [(12, .long (zl dn_)), (10, .long (zl up_)), (8, .long (zl dn_)), (6, .long (zl up_)), (4, .long (zl (alls (sg) (mtc ((M 56))) ((M 200)) ((F 6))))), (0, .ref (B 49 0)), (1, .int (zi a)), (2, .int (zi b)), (3, .int (zi w))]) C.x C.b dX0_chance_120 hl (by decide) rfl (fun ls hl => ?_)
            have L122 : ∀ (fu : Nat) (v10 : Int) (v12 : Int) (hx : 0 ≤ v10 ∧ v10 ≤ 7077888) (hy : 0 ≤ v12 ∧ v12 ≤ 7077888) (hg : gc v10 v12 = gc up_ dn_) (hm : Int.toNat (v12) < fu) (H : Heap) (locs : List Loc) (ls : Array Slot) (hX : XH E A B F (va_up M 3 sg) G T H) (hS : va_S A s.heap H locs) (hl : lv_has ls 16 [(0, .ref (B 49 0)), (1, .int (zi a)), (2, .int (zi b)), (3, .int (zi w)), (4, .long (zl (alls (sg) (mtc ((M 56))) ((M 200)) ((F 6))))), (6, .long (zl up_)), (8, .long (zl dn_)), (10, .long (zl v10)), (12, .long (zl v12))]), W p l e rm_X0_chance s m args below meth c H locs 0 0 QQ (F0 m 122 ls []) := by
              intro fu
              induction fu with
              | zero => intro v10 v12 hx hy hg hm; exact absurd hm (Nat.not_lt_zero _)
              | succ fu ih122 =>
                intro v10 v12 hx hy hg hm H locs ls hX hS hl
                refine lv_lload C.x C.b dX0_chance_122 (lv_at hl 8 rfl) ?_
                refine r_lconst C 0 rfl dX0_chance_124 ?_
                refine r_lcmp C (by omega) (by omega) dX0_chance_125 ?_
                refine r_if_eq_c (tgt := 147) C dX0_chance_126 (by decide) (fun c_6 => ?_) (fun c_6 => ?_)
                · have hfin : v10 = gc up_ dn_ := by
                    rw [← hg, show v12 = 0 by omega, gc_0 hx.1]
                  have hgp := gc_pos (x := up_) (y := dn_) (by omega)
                  rw [← hfin] at hgp
                  refine lv_iload_n C.x C.b dX0_chance_147 rfl (lv_at hl 3 rfl) ?_
                  refine r_if_ne (tgt := 156) C (by omega) dX0_chance_148 (by decide) (fun c_7 => ?_) (fun c_7 => ?_)
                  · refine lv_lload C.x C.b dX0_chance_156 (lv_at hl 6 rfl) ?_
                    refine lv_lload C.x C.b dX0_chance_158 (lv_at hl 7 rfl) ?_
                    refine r_ldiv C (by omega) (by omega) dX0_chance_160 ?_
                    rw [← hQQ]
                    exact r_lret C hS (Nat.le_of_ble_eq_true rfl) (Nat.le_of_ble_eq_true rfl) dX0_chance_161 ⟨sg, hsg, (by rw [sel_t (c := (((0 ≤ a ∧ a < F 1) ∧ sg a = a) ∧ ((0 ≤ b ∧ b < F 1) ∧ sg b = b)) ∧ (0 ≤ w ∧ w ≤ 1)) ⟨⟨by assumption, by assumption⟩, by assumption⟩, hfin]; exact chn_x hup_ hdn_ (show 0 ≤ w ∧ w ≤ 1 by assumption) (by first | exact Or.inl ⟨by assumption, rfl⟩ | exact Or.inr ⟨by assumption, rfl⟩)), hX⟩
                  · refine lv_lload C.x C.b dX0_chance_151 (lv_at hl 5 rfl) ?_
                    refine lv_goto (tgt := 158) C.x C.b dX0_chance_153 (by decide) ?_
                    refine lv_lload C.x C.b dX0_chance_158 (lv_at hl 7 rfl) ?_
                    refine r_ldiv C (by omega) (by omega) dX0_chance_160 ?_
                    rw [← hQQ]
                    exact r_lret C hS (Nat.le_of_ble_eq_true rfl) (Nat.le_of_ble_eq_true rfl) dX0_chance_161 ⟨sg, hsg, (by rw [sel_t (c := (((0 ≤ a ∧ a < F 1) ∧ sg a = a) ∧ ((0 ≤ b ∧ b < F 1) ∧ sg b = b)) ∧ (0 ≤ w ∧ w ≤ 1)) ⟨⟨by assumption, by assumption⟩, by assumption⟩, hfin]; exact chn_x hup_ hdn_ (show 0 ≤ w ∧ w ≤ 1 by assumption) (by first | exact Or.inl ⟨by assumption, rfl⟩ | exact Or.inr ⟨by assumption, rfl⟩)), hX⟩
                · have hmp := Int.emod_lt_of_pos v10 (b := v12) (by omega)
                  have hmn := Int.emod_nonneg v10 (b := v12) (by omega)
                  refine lv_lload C.x C.b dX0_chance_129 (lv_at hl 7 rfl) ?_
                  refine lv_lload C.x C.b dX0_chance_131 (lv_at hl 8 rfl) ?_
                  refine r_lrem C (by omega) (by omega) dX0_chance_133 ?_
                  refine lv_lstore (lv' := [(14, .long (zl (v10 % v12))), (0, .ref (B 49 0)), (1, .int (zi a)), (2, .int (zi b)), (3, .int (zi w)), (4, .long (zl (alls (sg) (mtc ((M 56))) ((M 200)) ((F 6))))), (6, .long (zl up_)), (8, .long (zl dn_)), (10, .long (zl v10)), (12, .long (zl v12))]) C.x C.b dX0_chance_134 hl (by decide) rfl (fun ls hl => ?_)
                  refine lv_lload C.x C.b dX0_chance_136 (lv_at hl 9 rfl) ?_
                  refine lv_lstore (lv' := [(10, .long (zl v12)), (14, .long (zl (v10 % v12))), (0, .ref (B 49 0)), (1, .int (zi a)), (2, .int (zi b)), (3, .int (zi w)), (4, .long (zl (alls (sg) (mtc ((M 56))) ((M 200)) ((F 6))))), (6, .long (zl up_)), (8, .long (zl dn_)), (12, .long (zl v12))]) C.x C.b dX0_chance_138 hl (by decide) rfl (fun ls hl => ?_)
                  refine lv_lload C.x C.b dX0_chance_140 (lv_at hl 1 rfl) ?_
                  refine lv_lstore (lv' := [(12, .long (zl (v10 % v12))), (10, .long (zl v12)), (14, .long (zl (v10 % v12))), (0, .ref (B 49 0)), (1, .int (zi a)), (2, .int (zi b)), (3, .int (zi w)), (4, .long (zl (alls (sg) (mtc ((M 56))) ((M 200)) ((F 6))))), (6, .long (zl up_)), (8, .long (zl dn_))]) C.x C.b dX0_chance_142 hl (by decide) rfl (fun ls hl => ?_)
                  refine lv_goto (tgt := 122) C.x C.b dX0_chance_144 (by decide) ?_
                  exact ih122 v12 (v10 % v12) hy (by omega) (by rw [gc_step hx.1 (by omega)]; exact hg) (by have := Int.emod_lt_of_pos v10 (b := v12) (by omega); have := Int.emod_nonneg v10 (b := v12) (by omega); omega) H locs ls hX hS (lv_sub hl [3, 4, 5, 6, 7, 8, 9, 1, 0] rfl)
            exact L122 _ up_ dn_ hup0 (by omega) rfl (Nat.lt_succ_self _) H locs ls hX hS (lv_sub hl [5, 6, 7, 8, 4, 3, 2, 1, 0] rfl)
          refine r_if_ge_c (tgt := 105) C dX0_chance_98 (by decide) (fun c_8 => ?_) (fun c_8 => ?_)
          · refine lv_lload C.x C.b dX0_chance_105 (lv_at hl 1 rfl) ?_
            refine lv_lload C.x C.b dX0_chance_107 (lv_at hl 1 rfl) ?_
            refine r_lconst C 1 rfl dX0_chance_109 ?_
            refine r_lsub C dX0_chance_110 ?_
            refine r_lmul C dX0_chance_111 ?_
            exact J112_5 ((alls (sg) (mtc ((M 56))) ((M 200)) ((F 6))) * ((alls (sg) (mtc ((M 56))) ((M 200)) ((F 6))) - 1)) (by first | exact (sel_t (by assumption)).symm | exact (sel_f (by assumption)).symm) (by first | exact ⟨by omega, by omega⟩ | (have z := dn_r (n := (alls sg (mtc (M 56)) (M 200) (F 6))) (by omega); omega)) H locs ls hX hS hl
          · refine r_lconst C 1 rfl dX0_chance_101 ?_
            refine lv_goto (tgt := 112) C.x C.b dX0_chance_102 (by decide) ?_
            exact J112_5 1 (by first | exact (sel_t (by assumption)).symm | exact (sel_f (by assumption)).symm) (by first | exact ⟨by omega, by omega⟩ | (have z := dn_r (n := (alls sg (mtc (M 56)) (M 200) (F 6))) (by omega); omega)) H locs ls hX hS hl
        refine r_if_ge_c (tgt := 54) C dX0_chance_47 (by decide) (fun c_9 => ?_) (fun c_9 => ?_)
        · refine lv_aload_n C.x C.b dX0_chance_54 rfl (lv_at hl 1 rfl) ?_
          refine r_const C dX0_chance_55 ?_
          refine r_const C dX0_chance_56 ?_
          refine r_callVi (As := [.int (zi (-1)), .int (zi (-1))]) (rest := []) (cells' := 0) (slots' := 0) C (met_X0_besideOf l E A B F (va_up M 3 sg) G T (-1) (-1) (show -2147483648 ≤ (-1) ∧ (-1) < 2147483648 from (by omega)) (show -2147483648 ≤ (-1) ∧ (-1) < 2147483648 from (by omega))) (lw_V q205 q207 qs8 q86 q208) hd_X0_besideOf rfl (by decide) (x_this C hX) hX hS hl.1 rfl (Nat.le_of_ble_eq_true rfl) dX0_chance_57 rfl rfl ⟨Nat.le_of_ble_eq_true rfl, Nat.le_of_ble_eq_true rfl⟩ (fun rr H locs hp hS => ?_)
          obtain ⟨hbs, hrr, hX⟩ := hp
          have hrr : rr = bes (sg) (mtc ((M 56))) ((M 200)) ((F 6)) (-1) (-1) := hrr
          subst hrr
          replace hbs : 0 ≤ bes (sg) (mtc ((M 56))) ((M 200)) ((F 6)) (-1) (-1) ∧ bes (sg) (mtc ((M 56))) ((M 200)) ((F 6)) (-1) (-1) ≤ 192 := hbs
          refine r_i2l C (by omega) dX0_chance_60 ?_
          refine lv_aload_n C.x C.b dX0_chance_61 rfl (lv_at hl 1 rfl) ?_
          refine lv_iload_n C.x C.b dX0_chance_62 rfl (lv_at hl 2 rfl) ?_
          refine r_callVi (As := [.int (zi a)]) (rest := [.long (zl (bes (sg) (mtc ((M 56))) ((M 200)) ((F 6)) (-1) (-1)))]) (cells' := 0) (slots' := 0) C (met_X0_countOf l E A B F (va_up M 3 sg) G T a (show -2147483648 ≤ a ∧ a < 2147483648 from (by omega))) (lw_V q197 q199 qs7 q86 q200) hd_X0_countOf rfl (by decide) (x_this C hX) hX hS hl.1 rfl (Nat.le_of_ble_eq_true rfl) dX0_chance_63 rfl rfl ⟨Nat.le_of_ble_eq_true rfl, Nat.le_of_ble_eq_true rfl⟩ (fun rr H locs hp hS => ?_)
          obtain ⟨hca, hrr, hX⟩ := hp
          have hrr : rr = cnt (sg) (mtc ((M 56))) ((M 200)) ((F 6)) a := hrr
          subst hrr
          replace hca : 0 ≤ cnt (sg) (mtc ((M 56))) ((M 200)) ((F 6)) a ∧ cnt (sg) (mtc ((M 56))) ((M 200)) ((F 6)) a ≤ 192 := hca
          refine r_i2l C (by omega) dX0_chance_66 ?_
          refine r_lmul C dX0_chance_67 ?_
          refine lv_iload_n C.x C.b dX0_chance_68 rfl (lv_at hl 2 rfl) ?_
          refine lv_iload_n C.x C.b dX0_chance_69 rfl (lv_at hl 3 rfl) ?_
          have J88_10 : ∀ (t1 : Int) (ht1 : t1 = sel (a = b) ((cnt (sg) (mtc ((M 56))) ((M 200)) ((F 6)) a) - 1) (cnt (sg) (mtc ((M 56))) ((M 200)) ((F 6)) b)) (H : Heap) (locs : List Loc) (ls : Array Slot) (hX : XH E A B F (va_up M 3 sg) G T H) (hS : va_S A s.heap H locs) (hl : lv_has ls 16 [(4, .long (zl (alls (sg) (mtc ((M 56))) ((M 200)) ((F 6))))), (0, .ref (B 49 0)), (1, .int (zi a)), (2, .int (zi b)), (3, .int (zi w))]), W p l e rm_X0_chance s m args below meth c H locs 0 0 QQ (F0 m 88 ls [.int (zi t1), .long (zl ((bes (sg) (mtc ((M 56))) ((M 200)) ((F 6)) (-1) (-1)) * (cnt (sg) (mtc ((M 56))) ((M 200)) ((F 6)) a)))]) := by
            intro t1 ht1 H locs ls hX hS hl
            subst ht1
            have hsl : (0 ≤ sel (a = b) ((cnt sg (mtc (M 56)) (M 200) (F 6)) a - 1) ((cnt sg (mtc (M 56)) (M 200) (F 6)) b) ∧ sel (a = b) ((cnt sg (mtc (M 56)) (M 200) (F 6)) a - 1) ((cnt sg (mtc (M 56)) (M 200) (F 6)) b) ≤ 192) ∨ sel (a = b) ((cnt sg (mtc (M 56)) (M 200) (F 6)) a - 1) ((cnt sg (mtc (M 56)) (M 200) (F 6)) b) = (cnt sg (mtc (M 56)) (M 200) (F 6)) a - 1 := by
              by_cases q : a = b
              · right; exact sel_t q
              · left; rw [sel_f q]; exact cnt_r rF6 h24
            have hup1 := up_r hbs hca hsl
            refine r_i2l C (by omega) dX0_chance_88 ?_
            refine r_lmul C dX0_chance_89 ?_
            exact J90_4 (((bes (sg) (mtc ((M 56))) ((M 200)) ((F 6)) (-1) (-1)) * (cnt (sg) (mtc ((M 56))) ((M 200)) ((F 6)) a)) * (sel (a = b) ((cnt (sg) (mtc ((M 56))) ((M 200)) ((F 6)) a) - 1) (cnt (sg) (mtc ((M 56))) ((M 200)) ((F 6)) b))) (by first | exact (sel_t (by assumption)).symm | exact (sel_f (by assumption)).symm) (by first | exact hup1 | exact ⟨by omega, by omega⟩) H locs ls hX hS hl
          refine r_icmp_ne (tgt := 83) C (by omega) (by omega) dX0_chance_70 (by decide) (fun c_11 => ?_) (fun c_11 => ?_)
          · refine lv_aload_n C.x C.b dX0_chance_83 rfl (lv_at hl 1 rfl) ?_
            refine lv_iload_n C.x C.b dX0_chance_84 rfl (lv_at hl 3 rfl) ?_
            refine r_callVi (As := [.int (zi b)]) (rest := [.long (zl ((bes (sg) (mtc ((M 56))) ((M 200)) ((F 6)) (-1) (-1)) * (cnt (sg) (mtc ((M 56))) ((M 200)) ((F 6)) a)))]) (cells' := 0) (slots' := 0) C (met_X0_countOf l E A B F (va_up M 3 sg) G T b (show -2147483648 ≤ b ∧ b < 2147483648 from (by omega))) (lw_V q197 q199 qs7 q86 q200) hd_X0_countOf rfl (by decide) (x_this C hX) hX hS hl.1 rfl (Nat.le_of_ble_eq_true rfl) dX0_chance_85 rfl rfl ⟨Nat.le_of_ble_eq_true rfl, Nat.le_of_ble_eq_true rfl⟩ (fun rr H locs hp hS => ?_)
            obtain ⟨hcb, hrr, hX⟩ := hp
            have hrr : rr = cnt (sg) (mtc ((M 56))) ((M 200)) ((F 6)) b := hrr
            subst hrr
            replace hcb : 0 ≤ cnt (sg) (mtc ((M 56))) ((M 200)) ((F 6)) b ∧ cnt (sg) (mtc ((M 56))) ((M 200)) ((F 6)) b ≤ 192 := hcb
            exact J88_10 (cnt (sg) (mtc ((M 56))) ((M 200)) ((F 6)) b) ((sel_f c_11).symm) H locs ls hX hS hl
          · refine lv_aload_n C.x C.b dX0_chance_73 rfl (lv_at hl 1 rfl) ?_
            refine lv_iload_n C.x C.b dX0_chance_74 rfl (lv_at hl 2 rfl) ?_
            refine r_callVi (As := [.int (zi a)]) (rest := [.long (zl ((bes (sg) (mtc ((M 56))) ((M 200)) ((F 6)) (-1) (-1)) * (cnt (sg) (mtc ((M 56))) ((M 200)) ((F 6)) a)))]) (cells' := 0) (slots' := 0) C (met_X0_countOf l E A B F (va_up M 3 sg) G T a (show -2147483648 ≤ a ∧ a < 2147483648 from (by omega))) (lw_V q197 q199 qs7 q86 q200) hd_X0_countOf rfl (by decide) (x_this C hX) hX hS hl.1 rfl (Nat.le_of_ble_eq_true rfl) dX0_chance_75 rfl rfl ⟨Nat.le_of_ble_eq_true rfl, Nat.le_of_ble_eq_true rfl⟩ (fun rr H locs hp hS => ?_)
            obtain ⟨hca2, hrr, hX⟩ := hp
            have hrr : rr = cnt (sg) (mtc ((M 56))) ((M 200)) ((F 6)) a := hrr
            subst hrr
            replace hca2 : 0 ≤ cnt (sg) (mtc ((M 56))) ((M 200)) ((F 6)) a ∧ cnt (sg) (mtc ((M 56))) ((M 200)) ((F 6)) a ≤ 192 := hca2
            refine r_const C dX0_chance_78 ?_
            refine r_isub C dX0_chance_79 ?_
            refine lv_goto (tgt := 88) C.x C.b dX0_chance_80 (by decide) ?_
            exact J88_10 ((cnt (sg) (mtc ((M 56))) ((M 200)) ((F 6)) a) - 1) ((sel_t c_11).symm) H locs ls hX hS hl
        · refine r_lconst C 0 rfl dX0_chance_50 ?_
          refine lv_goto (tgt := 90) C.x C.b dX0_chance_51 (by decide) ?_
          exact J90_4 0 (by first | exact (sel_t (by assumption)).symm | exact (sel_f (by assumption)).symm) (by first | exact hup1 | exact ⟨by omega, by omega⟩) H locs ls hX hS hl
      · refine r_ldc2 C (-1) (by decide) q213 dX0_chance_30 ?_
        rw [← hQQ]
        exact r_lret C hS (Nat.le_of_ble_eq_true rfl) (Nat.le_of_ble_eq_true rfl) dX0_chance_33 ⟨sg, hsg, (by first | exact Eq.symm (sel_f (fun q => absurd q.1.1 (by assumption))) | exact Eq.symm (sel_f (fun q => absurd q.1.2 (by assumption))) | exact Eq.symm (sel_f (fun q => absurd q.2 (by assumption)))), hX⟩

theorem hd_X0_textOf : yX0_textOf.cls = RX0 ∧ yX0_textOf.cls ≠ "java/lang/invoke/MethodHandle" ∧ yX0_textOf.cls ≠ "java/lang/invoke/VarHandle" ∧ (parseMethodDescriptor yX0_textOf.desc).map (fun d => d.parameters.length) = some 2 := by decide +kernel
abbrev rm_X0_textOf : Room := { frames := 3, cells := 0, slots := 0, locals := 64 }
set_option maxHeartbeats 8000000 in
theorem met_X0_textOf (l : Launch) (E : us_E) (A : Nat → Prop) (B : Nat → Int → Nat) (F : Nat → Int) (M : Nat → Int → Int) (G : Nat → Int → Option Nat) (T : x_T) (t : Int) (w : Int) (ht : -2147483648 ≤ t ∧ t < 2147483648) (hw : -2147483648 ≤ w ∧ w < 2147483648) : cMet l yX0_textOf cX0_textOf 11 (some .int) rm_X0_textOf A E [.ref (B 49 0), .int (zi t), .int (zi w)] (fun H => XH E A B F M G T H) (qi A (fun r H => ∃ m3 : Int → Int, (((0 ≤ t ∧ t < F 6) ∧ ((0 ≤ w ∧ w ≤ 5) ∨ (10 ≤ w ∧ w ≤ 9 + M 200 t))) → SgOK (F 1) (M 0) (F 2) m3) ∧ (r = sel ((0 ≤ t ∧ t < F 6) ∧ ((0 ≤ w ∧ w ≤ 5) ∨ (10 ≤ w ∧ w ≤ 9 + M 200 t))) (txo m3 (mtc (M 56)) (M 200) t w) (-10)) ∧ XH E A B F (va_up M 3 m3) G T H)) := by
  refine cMet.of (by decide) (Nat.le_of_ble_eq_true rfl) (fun p e s m args below meth c C hnm hX hS ls hl => ?_)
  have C : Cx p s m args meth c A RX0 cX0_textOf 11 (some .int) E := C
  have hX : XH E A B F M G T s.heap := hX
  have hl : lv_has ls 11 [(0, .ref (B 49 0)), (1, .int (zi t)), (2, .int (zi w))] := hl
  generalize hH : s.heap = H at hX
  have hS : va_S A s.heap H [] := by rw [← hH]; exact hS
  generalize hlocs : ([] : List Loc) = locs at hS ⊢
  obtain ⟨QQ, hQQ⟩ : ∃ z, MQ below (qi A (fun r H => ∃ m3 : Int → Int, (((0 ≤ t ∧ t < F 6) ∧ ((0 ≤ w ∧ w ≤ 5) ∨ (10 ≤ w ∧ w ≤ 9 + M 200 t))) → SgOK (F 1) (M 0) (F 2) m3) ∧ (r = sel ((0 ≤ t ∧ t < F 6) ∧ ((0 ≤ w ∧ w ≤ 5) ∨ (10 ≤ w ∧ w ≤ 9 + M 200 t))) (txo m3 (mtc (M 56)) (M 200) t w) (-10)) ∧ XH E A B F (va_up M 3 m3) G T H)) args s (rm_X0_textOf).cells (rm_X0_textOf).slots A = z := ⟨_, rfl⟩
  rw [hQQ]
  have rF6 : 0 ≤ F 6 ∧ F 6 ≤ 8 := hX.2.1 6 (0, 8) rfl
  have h24 : ∀ t, 0 ≤ M 200 t ∧ M 200 t ≤ 24 := fun t => hX.2.2.1 200 (0, 24) rfl t
  have hcl : ∀ q, -2 ≤ M 56 q ∧ M 56 q ≤ 23 := fun q => hX.2.2.1 56 (-2, 23) rfl q
  have hs3 : ∀ q, 0 ≤ M 3 q ∧ M 3 q ≤ 23 := fun q => hX.2.2.1 3 (0, 23) rfl q
  refine lv_aload_n C.x C.b dX0_textOf_0 rfl (lv_at hl 0 rfl) ?_
  refine lv_iload_n C.x C.b dX0_textOf_1 rfl (lv_at hl 1 rfl) ?_
  refine r_callVi (As := [.int (zi t)]) (rest := []) (cells' := 0) (slots' := 0) C (met_X0_isText l E A B F M G T t (show -2147483648 ≤ t ∧ t < 2147483648 from (by omega))) (lw_V q169 q171 qs5 q86 q172) hd_X0_isText rfl (by decide) (x_this C hX) hX hS hl.1 rfl (Nat.le_of_ble_eq_true rfl) dX0_textOf_2 rfl rfl ⟨Nat.le_of_ble_eq_true rfl, Nat.le_of_ble_eq_true rfl⟩ (fun rr H locs hp hS => ?_)
  obtain ⟨hrr, hX⟩ := hp
  have hrr : rr = bI (0 ≤ t ∧ t < (F 6)) := hrr
  subst hrr
  refine r_if_ne_b (tgt := 11) C dX0_textOf_5 (by decide) (fun c_1 => ?_) (fun c_1 => ?_)
  · have ht_ : 0 ≤ t ∧ t < F 6 := by assumption
    refine lv_aload_n C.x C.b dX0_textOf_11 rfl (lv_at hl 0 rfl) ?_
    refine r_callVv (As := []) (rest := []) (cells' := 0) (slots' := 0) C (met_X0_layAll l E A B F M G T) (lw_V q134 q136 qs1 q86 q137) hd_X0_layAll rfl (by decide) (x_this C hX) hX hS hl.1 rfl (Nat.le_of_ble_eq_true rfl) dX0_textOf_12 rfl rfl ⟨Nat.le_of_ble_eq_true rfl, Nat.le_of_ble_eq_true rfl⟩ (fun H locs hp hS => ?_)
    obtain ⟨sg, hsg, hX⟩ := hp
    replace hsg : SgOK ((F 1)) ((M 0)) ((F 2)) sg := hsg
    have hX : XH E A B F (va_up M 3 sg) G T H := hX.to rfl rfl rfl rfl rfl
    refine lv_aload_n C.x C.b dX0_textOf_15 rfl (lv_at hl 0 rfl) ?_
    refine x_ga C hX 5 (by decide) rfl q741 (fun _ h => h) dX0_textOf_16 ?_
    refine lv_iload_n C.x C.b dX0_textOf_19 rfl (lv_at hl 1 rfl) ?_
    refine x_la C hX 5 rfl rfl rfl (by decide) rfl rfl (show 0 ≤ t ∧ t < F 6 from (by omega)) (by omega) (by decide) dX0_textOf_20 ?_
    refine lv_astore_n (lv' := [(3, .ref (B 55 t)), (0, .ref (B 49 0)), (1, .int (zi t)), (2, .int (zi w))]) C.x C.b dX0_textOf_21 rfl hl (by decide) rfl (fun ls hl => ?_)
    refine lv_iload_n C.x C.b dX0_textOf_22 rfl (lv_at hl 3 rfl) ?_
    refine r_i2l C (by omega) dX0_textOf_23 ?_
    refine r_ldc2 C 10 (by decide) q173 dX0_textOf_24 ?_
    refine r_bipush C (by decide) dX0_textOf_27 ?_
    refine lv_aload_n C.x C.b dX0_textOf_29 rfl (lv_at hl 0 rfl) ?_
    refine r_callVi (As := []) (rest := [.int (zi 9), .long (zl 10), .long (zl w)]) (cells' := 0) (slots' := 0) C (met_X3_size l E A B F (va_up M 3 sg) G T t (show 0 ≤ t ∧ t < (F 6) from (by omega))) (lw_V q174 q175 q176 q98 q177) hd_X3_size rfl (by decide) (x_recv C hX (f := 55) (i := t) (by decide) (show 0 ≤ t ∧ t < F 6 from (by omega)).1 (xK_55 (show 0 ≤ t ∧ t < F 6 from (by omega))) (q := (RX3, TX3, 1)) rfl) hX hS hl.1 rfl (Nat.le_of_ble_eq_true rfl) dX0_textOf_30 rfl rfl ⟨Nat.le_of_ble_eq_true rfl, Nat.le_of_ble_eq_true rfl⟩ (fun rr H locs hp hS => ?_)
    obtain ⟨hsz1, hrr, hX⟩ := hp
    have hrr : rr = (M 200) t := hrr
    subst hrr
    replace hsz1 : 0 ≤ (M 200) t ∧ (M 200) t ≤ 24 := hsz1
    refine r_iadd C dX0_textOf_33 ?_
    refine r_i2l C (by omega) dX0_textOf_34 ?_
    refine r_callSi (As := [.long (zl w), .long (zl 10), .long (zl (9 + ((M 200) t)))]) (rest := []) (cells' := 0) (slots' := 0) C (met_X0_isIn l E A H w 10 (9 + ((M 200) t)) (show -9223372036854775808 ≤ w ∧ w < 9223372036854775808 from (by omega)) (show -9223372036854775808 ≤ (10 : Int) ∧ (10 : Int) < 9223372036854775808 from (by omega)) (show -9223372036854775808 ≤ (9 + ((M 200) t)) ∧ (9 + ((M 200) t)) < 9223372036854775808 from (by omega))) (lw_S q117 q118 q86 q119) hd_X0_isIn rfl (by decide) rfl hS hl.1 rfl (Nat.le_of_ble_eq_true rfl) dX0_textOf_35 rfl rfl ⟨Nat.le_of_ble_eq_true rfl, Nat.le_of_ble_eq_true rfl⟩ (fun rr H locs hp hS => ?_)
    obtain ⟨hrr, hH⟩ := hp
    have hrr : rr = bI ((10 : Int) ≤ w ∧ w ≤ (9 + ((M 200) t))) := hrr
    subst hrr
    have hX : XH E A B F (va_up M 3 sg) G T H := by rw [hH]; exact hX
    refine r_if_eq_b (tgt := 51) C dX0_textOf_38 (by decide) (fun c_2 => ?_) (fun c_2 => ?_)
    · refine r_const C dX0_textOf_51 ?_
      refine lv_istore (lv' := [(4, .int (zi 0)), (3, .ref (B 55 t)), (0, .ref (B 49 0)), (1, .int (zi t)), (2, .int (zi w))]) C.x C.b dX0_textOf_52 hl (by decide) rfl (fun ls hl => ?_)
      refine r_const C dX0_textOf_54 ?_
      refine lv_istore (lv' := [(5, .int (zi 0)), (4, .int (zi 0)), (3, .ref (B 55 t)), (0, .ref (B 49 0)), (1, .int (zi t)), (2, .int (zi w))]) C.x C.b dX0_textOf_55 hl (by decide) rfl (fun ls hl => ?_)
      refine r_const C dX0_textOf_57 ?_
      refine lv_istore (lv' := [(6, .int (zi 0)), (5, .int (zi 0)), (4, .int (zi 0)), (3, .ref (B 55 t)), (0, .ref (B 49 0)), (1, .int (zi t)), (2, .int (zi w))]) C.x C.b dX0_textOf_58 hl (by decide) rfl (fun ls hl => ?_)
      refine r_const C dX0_textOf_60 ?_
      refine lv_istore (lv' := [(7, .int (zi 0)), (6, .int (zi 0)), (5, .int (zi 0)), (4, .int (zi 0)), (3, .ref (B 55 t)), (0, .ref (B 49 0)), (1, .int (zi t)), (2, .int (zi w))]) C.x C.b dX0_textOf_61 hl (by decide) rfl (fun ls hl => ?_)
      refine r_const C dX0_textOf_63 ?_
      refine lv_istore (lv' := [(8, .int (zi 0)), (7, .int (zi 0)), (6, .int (zi 0)), (5, .int (zi 0)), (4, .int (zi 0)), (3, .ref (B 55 t)), (0, .ref (B 49 0)), (1, .int (zi t)), (2, .int (zi w))]) C.x C.b dX0_textOf_64 hl (by decide) rfl (fun ls hl => ?_)
      refine r_const C dX0_textOf_66 ?_
      refine lv_istore (lv' := [(9, .int (zi 0)), (8, .int (zi 0)), (7, .int (zi 0)), (6, .int (zi 0)), (5, .int (zi 0)), (4, .int (zi 0)), (3, .ref (B 55 t)), (0, .ref (B 49 0)), (1, .int (zi t)), (2, .int (zi w))]) C.x C.b dX0_textOf_67 hl (by decide) rfl (fun ls hl => ?_)
      have L69 : ∀ (fu : Nat) (v4 : Int) (v5 : Int) (v6 : Int) (v7 : Int) (v8 : Int) (v9 : Int) (h9 : 0 ≤ v9 ∧ v9 ≤ M 200 t) (h4 : v4 = tSig sg (mtc (M 56)) t v9) (h5 : v5 = tGap sg (mtc (M 56)) t v9) (h6 : v6 = tWds (mtc (M 56)) t v9) (h7 : v7 = tWho (mtc (M 56)) (M 200) t v9) (h8 : IsMx (fun v => ∃ i, 0 ≤ i ∧ i < v9 ∧ wh (mtc (M 56)) (M 200) t i ∧ v = we (mtc (M 56)) (M 200) t i - i) v8) (h8r : v8 ≤ 24) (hm : Int.toNat (M 200 t - v9) < fu) (H : Heap) (locs : List Loc) (ls : Array Slot) (hX : XH E A B F (va_up M 3 sg) G T H) (hS : va_S A s.heap H locs) (hl : lv_has ls 11 [(0, .ref (B 49 0)), (1, .int (zi t)), (2, .int (zi w)), (3, .ref (B 55 t)), (4, .int (zi v4)), (5, .int (zi v5)), (6, .int (zi v6)), (7, .int (zi v7)), (8, .int (zi v8)), (9, .int (zi v9))]), W p l e rm_X0_textOf s m args below meth c H locs 0 0 QQ (F0 m 69 ls []) := by
        intro fu
        induction fu with
        | zero => intro v4 v5 v6 v7 v8 v9 h9 h4 h5 h6 h7 h8 h8r hm; exact absurd hm (Nat.not_lt_zero _)
        | succ fu ih69 =>
          intro v4 v5 v6 v7 v8 v9 h9 h4 h5 h6 h7 h8 h8r hm H locs ls hX hS hl
          refine lv_iload C.x C.b dX0_textOf_69 (lv_at hl 9 rfl) ?_
          refine lv_aload_n C.x C.b dX0_textOf_71 rfl (lv_at hl 3 rfl) ?_
          refine r_callVi (As := []) (rest := [.int (zi v9)]) (cells' := 0) (slots' := 0) C (met_X3_size l E A B F (va_up M 3 sg) G T t (show 0 ≤ t ∧ t < (F 6) from (by omega))) (lw_V q174 q175 q176 q98 q177) hd_X3_size rfl (by decide) (x_recv C hX (f := 55) (i := t) (by decide) (show 0 ≤ t ∧ t < F 6 from (by omega)).1 (xK_55 (show 0 ≤ t ∧ t < F 6 from (by omega))) (q := (RX3, TX3, 1)) rfl) hX hS hl.1 rfl (Nat.le_of_ble_eq_true rfl) dX0_textOf_72 rfl rfl ⟨Nat.le_of_ble_eq_true rfl, Nat.le_of_ble_eq_true rfl⟩ (fun rr H locs hp hS => ?_)
          obtain ⟨hsz, hrr, hX⟩ := hp
          have hrr : rr = (M 200) t := hrr
          subst hrr
          replace hsz : 0 ≤ (M 200) t ∧ (M 200) t ≤ 24 := hsz
          refine r_icmp_ge (tgt := 176) C (by omega) (by omega) dX0_textOf_75 (by decide) (fun c_3 => ?_) (fun c_3 => ?_)
          · have e9 : v9 = M 200 t := by omega
            rw [e9] at h4 h5 h6 h7 h8
            refine lv_iload_n C.x C.b dX0_textOf_176 rfl (lv_at hl 2 rfl) ?_
            rcases (show w = 0 ∨ w = 1 ∨ w = 2 ∨ w = 3 ∨ w = 4 ∨ w = 5 ∨ (w < 0 ∨ 5 < w) by omega) with cs | cs | cs | cs | cs | cs | cs
            · refine r_tswIn (k := 0) (tgt := 216) (off := 39) C cs (by omega) dX0_textOf_177 (by decide) rfl (by decide) ?_
              refine lv_aload_n C.x C.b dX0_textOf_216 rfl (lv_at hl 3 rfl) ?_
              refine r_callVi (As := []) (rest := []) (cells' := 0) (slots' := 0) C (met_X3_size l E A B F (va_up M 3 sg) G T t (show 0 ≤ t ∧ t < (F 6) from (by omega))) (lw_V q174 q175 q176 q98 q177) hd_X3_size rfl (by decide) (x_recv C hX (f := 55) (i := t) (by decide) (show 0 ≤ t ∧ t < F 6 from (by omega)).1 (xK_55 (show 0 ≤ t ∧ t < F 6 from (by omega))) (q := (RX3, TX3, 1)) rfl) hX hS hl.1 rfl (Nat.le_of_ble_eq_true rfl) dX0_textOf_217 rfl rfl ⟨Nat.le_of_ble_eq_true rfl, Nat.le_of_ble_eq_true rfl⟩ (fun rr H locs hp hS => ?_)
              obtain ⟨hsz, hrr, hX⟩ := hp
              have hrr : rr = (M 200) t := hrr
              subst hrr
              replace hsz : 0 ≤ (M 200) t ∧ (M 200) t ≤ 24 := hsz
              rw [← hQQ]
              exact r_iret C hS (Nat.le_of_ble_eq_true rfl) (Nat.le_of_ble_eq_true rfl) dX0_textOf_220 ⟨sg, (fun _ => hsg), (by rw [sel_t (c := (0 ≤ t ∧ t < F 6) ∧ ((0 ≤ w ∧ w ≤ 5) ∨ (10 ≤ w ∧ w ≤ 9 + M 200 t))) ⟨ht_, Or.inl (by omega)⟩]; unfold txo; rw [sel_t (by omega)]), hX⟩
            · refine r_tswIn (k := 1) (tgt := 221) (off := 44) C cs (by omega) dX0_textOf_177 (by decide) rfl (by decide) ?_
              refine lv_iload C.x C.b dX0_textOf_221 (lv_at hl 4 rfl) ?_
              rw [← hQQ]
              exact r_iret C hS (Nat.le_of_ble_eq_true rfl) (Nat.le_of_ble_eq_true rfl) dX0_textOf_223 ⟨sg, (fun _ => hsg), (by rw [sel_t (c := (0 ≤ t ∧ t < F 6) ∧ ((0 ≤ w ∧ w ≤ 5) ∨ (10 ≤ w ∧ w ≤ 9 + M 200 t))) ⟨ht_, Or.inl (by omega)⟩]; unfold txo; rw [sel_f (by omega), sel_t (by omega)]; exact h4), hX⟩
            · refine r_tswIn (k := 2) (tgt := 224) (off := 47) C cs (by omega) dX0_textOf_177 (by decide) rfl (by decide) ?_
              refine lv_iload C.x C.b dX0_textOf_224 (lv_at hl 5 rfl) ?_
              rw [← hQQ]
              exact r_iret C hS (Nat.le_of_ble_eq_true rfl) (Nat.le_of_ble_eq_true rfl) dX0_textOf_226 ⟨sg, (fun _ => hsg), (by rw [sel_t (c := (0 ≤ t ∧ t < F 6) ∧ ((0 ≤ w ∧ w ≤ 5) ∨ (10 ≤ w ∧ w ≤ 9 + M 200 t))) ⟨ht_, Or.inl (by omega)⟩]; unfold txo; rw [sel_f (by omega), sel_f (by omega), sel_t (by omega)]; exact h5), hX⟩
            · refine r_tswIn (k := 3) (tgt := 227) (off := 50) C cs (by omega) dX0_textOf_177 (by decide) rfl (by decide) ?_
              refine lv_iload C.x C.b dX0_textOf_227 (lv_at hl 6 rfl) ?_
              rw [← hQQ]
              exact r_iret C hS (Nat.le_of_ble_eq_true rfl) (Nat.le_of_ble_eq_true rfl) dX0_textOf_229 ⟨sg, (fun _ => hsg), (by rw [sel_t (c := (0 ≤ t ∧ t < F 6) ∧ ((0 ≤ w ∧ w ≤ 5) ∨ (10 ≤ w ∧ w ≤ 9 + M 200 t))) ⟨ht_, Or.inl (by omega)⟩]; unfold txo; rw [sel_f (by omega), sel_f (by omega), sel_f (by omega), sel_t (by omega)]; exact h6), hX⟩
            · refine r_tswIn (k := 4) (tgt := 230) (off := 53) C cs (by omega) dX0_textOf_177 (by decide) rfl (by decide) ?_
              refine lv_iload C.x C.b dX0_textOf_230 (lv_at hl 7 rfl) ?_
              rw [← hQQ]
              exact r_iret C hS (Nat.le_of_ble_eq_true rfl) (Nat.le_of_ble_eq_true rfl) dX0_textOf_232 ⟨sg, (fun _ => hsg), (by rw [sel_t (c := (0 ≤ t ∧ t < F 6) ∧ ((0 ≤ w ∧ w ≤ 5) ∨ (10 ≤ w ∧ w ≤ 9 + M 200 t))) ⟨ht_, Or.inl (by omega)⟩]; unfold txo; rw [sel_f (by omega), sel_f (by omega), sel_f (by omega), sel_f (by omega), sel_t (by omega)]; exact h7), hX⟩
            · refine r_tswIn (k := 5) (tgt := 233) (off := 56) C cs (by omega) dX0_textOf_177 (by decide) rfl (by decide) ?_
              refine lv_iload C.x C.b dX0_textOf_233 (lv_at hl 8 rfl) ?_
              rw [← hQQ]
              exact r_iret C hS (Nat.le_of_ble_eq_true rfl) (Nat.le_of_ble_eq_true rfl) dX0_textOf_235 ⟨sg, (fun _ => hsg), (by rw [sel_t (c := (0 ≤ t ∧ t < F 6) ∧ ((0 ≤ w ∧ w ≤ 5) ∨ (10 ≤ w ∧ w ≤ 9 + M 200 t))) ⟨ht_, Or.inl (by omega)⟩]; unfold txo; rw [sel_f (by omega), sel_f (by omega), sel_f (by omega), sel_f (by omega), sel_f (by omega), sel_t (by omega)]; exact (tMst_e h8)), hX⟩
            · refine r_tswOut (tgt := 236) C (by omega) dX0_textOf_177 cs (by decide) ?_
              refine r_bipush C (by decide) dX0_textOf_236 ?_
              rw [← hQQ]
              exact r_iret C hS (Nat.le_of_ble_eq_true rfl) (Nat.le_of_ble_eq_true rfl) dX0_textOf_238 ⟨sg, (fun _ => hsg), (Eq.symm (sel_f (fun q => q.2.elim (fun z => by omega) (fun z => absurd z (by assumption))))), hX⟩
          · refine lv_iload C.x C.b dX0_textOf_78 (lv_at hl 4 rfl) ?_
            refine lv_aload_n C.x C.b dX0_textOf_80 rfl (lv_at hl 3 rfl) ?_
            refine x_goN C hX 55 (by decide) (show 0 ≤ t ∧ t < F 6 from (by omega)).1 (xK_55 (show 0 ≤ t ∧ t < F 6 from (by omega))) rfl in_X3 0 (by decide) (List.mem_of_getElem? (i := 9) rfl) (fun _ h => h) (.ref (B 56 t)) rfl dX0_textOf_81 ?_
            refine lv_iload C.x C.b dX0_textOf_84 (lv_at hl 9 rfl) ?_
            have rl86 : 0 ≤ M 200 t ∧ M 200 t ≤ 24 := hX.2.2.1 200 (0, 24) rfl _
            refine x_ld C hX 56 (i := t) rfl rfl (xpr_56 (show 0 ≤ t ∧ t < F 6 from (by omega))) (by decide) (show 0 ≤ t ∧ t < F 6 from (by omega)).1 rfl (show 0 ≤ v9 ∧ v9 < (((M 200 t).toNat : Nat) : Int) from (by omega)) (by omega) (by omega) (M 56 (24 * t + v9)) rfl dX0_textOf_86 (fun r86 => ?_)
            have r86 : -2 ≤ M 56 (24 * t + v9) ∧ M 56 (24 * t + v9) ≤ 23 := r86 (-2, 23) rfl
            have J95_4 : ∀ (t1 : Int) (ht1 : t1 = bI (¬ ((M 56 (24 * t + v9)) < 0))) (H : Heap) (locs : List Loc) (ls : Array Slot) (hX : XH E A B F (va_up M 3 sg) G T H) (hS : va_S A s.heap H locs) (hl : lv_has ls 11 [(0, .ref (B 49 0)), (1, .int (zi t)), (2, .int (zi w)), (3, .ref (B 55 t)), (4, .int (zi v4)), (5, .int (zi v5)), (6, .int (zi v6)), (7, .int (zi v7)), (8, .int (zi v8)), (9, .int (zi v9))]), W p l e rm_X0_textOf s m args below meth c H locs 0 0 QQ (F0 m 95 ls [.int (zi t1), .int (zi v4)]) := by
              intro t1 ht1 H locs ls hX hS hl
              subst ht1
              refine r_iadd C dX0_textOf_95 ?_
              refine lv_istore (lv' := [(4, .int (zi (v4 + (bI (¬ ((M 56 (24 * t + v9)) < 0)))))), (0, .ref (B 49 0)), (1, .int (zi t)), (2, .int (zi w)), (3, .ref (B 55 t)), (5, .int (zi v5)), (6, .int (zi v6)), (7, .int (zi v7)), (8, .int (zi v8)), (9, .int (zi v9))]) C.x C.b dX0_textOf_96 hl (by decide) rfl (fun ls hl => ?_)
              refine lv_iload C.x C.b dX0_textOf_98 (lv_at hl 5 rfl) ?_
              refine lv_aload_n C.x C.b dX0_textOf_100 rfl (lv_at hl 4 rfl) ?_
              refine x_goN C hX 55 (by decide) (show 0 ≤ t ∧ t < F 6 from (by omega)).1 (xK_55 (show 0 ≤ t ∧ t < F 6 from (by omega))) rfl in_X3 0 (by decide) (List.mem_of_getElem? (i := 9) rfl) (fun _ h => h) (.ref (B 56 t)) rfl dX0_textOf_101 ?_
              refine lv_iload C.x C.b dX0_textOf_104 (lv_at hl 9 rfl) ?_
              refine x_ld C hX 56 (i := t) rfl rfl (xpr_56 (show 0 ≤ t ∧ t < F 6 from (by omega))) (by decide) (show 0 ≤ t ∧ t < F 6 from (by omega)).1 rfl (show 0 ≤ v9 ∧ v9 < (((M 200 t).toNat : Nat) : Int) from (by omega)) (by omega) (by omega) (M 56 (24 * t + v9)) rfl dX0_textOf_106 (fun _ => ?_)
              refine r_const C dX0_textOf_107 ?_
              have J116_5 : ∀ (t1 : Int) (ht1 : t1 = bI ((M 56 (24 * t + v9)) = (-1))) (H : Heap) (locs : List Loc) (ls : Array Slot) (hX : XH E A B F (va_up M 3 sg) G T H) (hS : va_S A s.heap H locs) (hl : lv_has ls 11 [(4, .int (zi (v4 + (bI (¬ ((M 56 (24 * t + v9)) < 0)))))), (0, .ref (B 49 0)), (1, .int (zi t)), (2, .int (zi w)), (3, .ref (B 55 t)), (5, .int (zi v5)), (6, .int (zi v6)), (7, .int (zi v7)), (8, .int (zi v8)), (9, .int (zi v9))]), W p l e rm_X0_textOf s m args below meth c H locs 0 0 QQ (F0 m 116 ls [.int (zi t1), .int (zi v5)]) := by
                intro t1 ht1 H locs ls hX hS hl
                subst ht1
                refine r_iadd C dX0_textOf_116 ?_
                refine lv_istore (lv' := [(5, .int (zi (v5 + (bI ((M 56 (24 * t + v9)) = (-1)))))), (4, .int (zi (v4 + (bI (¬ ((M 56 (24 * t + v9)) < 0)))))), (0, .ref (B 49 0)), (1, .int (zi t)), (2, .int (zi w)), (3, .ref (B 55 t)), (6, .int (zi v6)), (7, .int (zi v7)), (8, .int (zi v8)), (9, .int (zi v9))]) C.x C.b dX0_textOf_117 hl (by decide) rfl (fun ls hl => ?_)
                refine lv_aload_n C.x C.b dX0_textOf_119 rfl (lv_at hl 5 rfl) ?_
                refine lv_iload C.x C.b dX0_textOf_120 (lv_at hl 9 rfl) ?_
                refine r_callVi (As := [.int (zi v9)]) (rest := []) (cells' := 0) (slots' := 0) C (met_X3_endOf l E A B F (va_up M 3 sg) G T t v9 (show 0 ≤ t ∧ t < (F 6) from (by omega)) (show 0 ≤ v9 ∧ v9 < (M 200) t from (by omega))) (lw_V q182 q183 q184 q98 q185) hd_X3_endOf rfl (by decide) (x_recv C hX (f := 55) (i := t) (by decide) (show 0 ≤ t ∧ t < F 6 from (by omega)).1 (xK_55 (show 0 ≤ t ∧ t < F 6 from (by omega))) (q := (RX3, TX3, 1)) rfl) hX hS hl.1 rfl (Nat.le_of_ble_eq_true rfl) dX0_textOf_122 rfl rfl ⟨Nat.le_of_ble_eq_true rfl, Nat.le_of_ble_eq_true rfl⟩ (fun rr H locs hp hS => ?_)
                obtain ⟨hen, hrr, hX⟩ := hp
                have hrr : rr = sel (wb (mtc ((M 56))) t v9) (we (mtc ((M 56))) ((M 200)) t v9) v9 := hrr
                subst hrr
                replace hen : v9 ≤ sel (wb (mtc ((M 56))) t v9) (we (mtc ((M 56))) ((M 200)) t v9) v9 ∧ sel (wb (mtc ((M 56))) t v9) (we (mtc ((M 56))) ((M 200)) t v9) v9 ≤ (M 200) t := hen
                refine lv_istore (lv' := [(10, .int (zi (sel (wb (mtc ((M 56))) t v9) (we (mtc ((M 56))) ((M 200)) t v9) v9))), (5, .int (zi (v5 + (bI ((M 56 (24 * t + v9)) = (-1)))))), (4, .int (zi (v4 + (bI (¬ ((M 56 (24 * t + v9)) < 0)))))), (0, .ref (B 49 0)), (1, .int (zi t)), (2, .int (zi w)), (3, .ref (B 55 t)), (6, .int (zi v6)), (7, .int (zi v7)), (8, .int (zi v8)), (9, .int (zi v9))]) C.x C.b dX0_textOf_125 hl (by decide) rfl (fun ls hl => ?_)
                have hs3g : ∀ q, 0 ≤ sg q ∧ sg q ≤ 23 := fun q => hX.2.2.1 3 (0, 23) rfl q
                have hwi := whole_i (tc := (mtc (M 56))) (tl := (M 200)) (t := t) (i := v9) (fun j => (hcl _).1) (by omega)
                have hwd := word_i (tc := (mtc (M 56))) (tl := (M 200)) (t := t) (i := v9) (by omega)
                have hs4 : v4 + bI (¬ M 56 (24 * t + v9) < 0) = tSig sg (mtc (M 56)) t (v9 + 1) := isum_st h9.1 h4 (bI_c (not_congr (sa_n (hs3g _).1).symm))
                have hs5 : v5 + bI (M 56 (24 * t + v9) = -1) = tGap sg (mtc (M 56)) t (v9 + 1) := isum_st h9.1 h5 (bI_c (sa_1 (hs3g _).1).symm)
                refine lv_iload C.x C.b dX0_textOf_127 (lv_at hl 7 rfl) ?_
                refine lv_iload C.x C.b dX0_textOf_129 (lv_at hl 0 rfl) ?_
                refine lv_iload C.x C.b dX0_textOf_131 (lv_at hl 10 rfl) ?_
                have J141_6 : ∀ (t1 : Int) (ht1 : t1 = bI (v9 < (sel (wb (mtc ((M 56))) t v9) (we (mtc ((M 56))) ((M 200)) t v9) v9))) (H : Heap) (locs : List Loc) (ls : Array Slot) (hX : XH E A B F (va_up M 3 sg) G T H) (hS : va_S A s.heap H locs) (hl : lv_has ls 11 [(10, .int (zi (sel (wb (mtc ((M 56))) t v9) (we (mtc ((M 56))) ((M 200)) t v9) v9))), (5, .int (zi (v5 + (bI ((M 56 (24 * t + v9)) = (-1)))))), (4, .int (zi (v4 + (bI (¬ ((M 56 (24 * t + v9)) < 0)))))), (0, .ref (B 49 0)), (1, .int (zi t)), (2, .int (zi w)), (3, .ref (B 55 t)), (6, .int (zi v6)), (7, .int (zi v7)), (8, .int (zi v8)), (9, .int (zi v9))]), W p l e rm_X0_textOf s m args below meth c H locs 0 0 QQ (F0 m 141 ls [.int (zi t1), .int (zi v6)]) := by
                  intro t1 ht1 H locs ls hX hS hl
                  subst ht1
                  refine r_iadd C dX0_textOf_141 ?_
                  refine lv_istore (lv' := [(6, .int (zi (v6 + (bI (v9 < (sel (wb (mtc ((M 56))) t v9) (we (mtc ((M 56))) ((M 200)) t v9) v9)))))), (10, .int (zi (sel (wb (mtc ((M 56))) t v9) (we (mtc ((M 56))) ((M 200)) t v9) v9))), (5, .int (zi (v5 + (bI ((M 56 (24 * t + v9)) = (-1)))))), (4, .int (zi (v4 + (bI (¬ ((M 56 (24 * t + v9)) < 0)))))), (0, .ref (B 49 0)), (1, .int (zi t)), (2, .int (zi w)), (3, .ref (B 55 t)), (7, .int (zi v7)), (8, .int (zi v8)), (9, .int (zi v9))]) C.x C.b dX0_textOf_142 hl (by decide) rfl (fun ls hl => ?_)
                  have hs6 := isum_st (f := fun i => bI (wb (mtc (M 56)) t i)) h9.1 h6 (bI_c hwd)
                  refine lv_aload_n C.x C.b dX0_textOf_144 rfl (lv_at hl 7 rfl) ?_
                  refine lv_iload C.x C.b dX0_textOf_145 (lv_at hl 10 rfl) ?_
                  refine lv_iload C.x C.b dX0_textOf_147 (lv_at hl 1 rfl) ?_
                  refine r_callVi (As := [.int (zi v9), .int (zi (sel (wb (mtc ((M 56))) t v9) (we (mtc ((M 56))) ((M 200)) t v9) v9))]) (rest := []) (cells' := 0) (slots' := 0) C (met_X3_isWhole l E A B F (va_up M 3 sg) G T t v9 (sel (wb (mtc ((M 56))) t v9) (we (mtc ((M 56))) ((M 200)) t v9) v9) (show 0 ≤ t ∧ t < (F 6) from (by omega)) (show 0 ≤ v9 ∧ v9 ≤ (sel (wb (mtc ((M 56))) t v9) (we (mtc ((M 56))) ((M 200)) t v9) v9) ∧ (sel (wb (mtc ((M 56))) t v9) (we (mtc ((M 56))) ((M 200)) t v9) v9) ≤ (M 200) t from (by omega))) (lw_V q186 q187 q188 q98 q189) hd_X3_isWhole rfl (by decide) (x_recv C hX (f := 55) (i := t) (by decide) (show 0 ≤ t ∧ t < F 6 from (by omega)).1 (xK_55 (show 0 ≤ t ∧ t < F 6 from (by omega))) (q := (RX3, TX3, 1)) rfl) hX hS hl.1 rfl (Nat.le_of_ble_eq_true rfl) dX0_textOf_149 rfl rfl ⟨Nat.le_of_ble_eq_true rfl, Nat.le_of_ble_eq_true rfl⟩ (fun rr H locs hp hS => ?_)
                  obtain ⟨hrr, hX⟩ := hp
                  have hrr : rr = bI (v9 < (sel (wb (mtc ((M 56))) t v9) (we (mtc ((M 56))) ((M 200)) t v9) v9) ∧ ∀ j : Int, v9 ≤ j → j < (sel (wb (mtc ((M 56))) t v9) (we (mtc ((M 56))) ((M 200)) t v9) v9) → ¬ (M 56) (24 * t + j) < 0) := hrr
                  subst hrr
                  have hs7 := fun z => (isum_st (f := fun i => bI (wh (mtc (M 56)) (M 200) t i)) (x := 1) h9.1 h7 (bI_t (hwi.1 z)).symm : v7 + 1 = tWho (mtc (M 56)) (M 200) t (v9 + 1))
                  have hn7 := fun (z : ¬ (v9 < sel (wb (mtc (M 56)) t v9) (we (mtc (M 56)) (M 200) t v9) v9 ∧ ∀ j : Int, v9 ≤ j → j < sel (wb (mtc (M 56)) t v9) (we (mtc (M 56)) (M 200) t v9) v9 → ¬ M 56 (24 * t + j) < 0)) => (show tWho (mtc (M 56)) (M 200) t v9 = tWho (mtc (M 56)) (M 200) t (v9 + 1) from by show _ = isum _ _; rw [isum_s h9.1, bI_f (fun y => z (hwi.2 y)), Int.add_zero]; rfl)
                  have hs8 := fun z => h8.yes (S' := fun v => ∃ i, 0 ≤ i ∧ i < v9 + 1 ∧ wh (mtc (M 56)) (M 200) t i ∧ v = we (mtc (M 56)) (M 200) t i - i) (x := sel (wb (mtc (M 56)) t v9) (we (mtc (M 56)) (M 200) t v9) v9 - v9) (fun v => ⟨fun ⟨i, a, b, e1, e2⟩ => (by
                      by_cases q : i = v9
                      · rw [q] at e2; exact Or.inr (by rw [e2, sel_t (hwi.1 z).1])
                      · exact Or.inl ⟨i, a, by omega, e1, e2⟩), fun q => q.elim (fun ⟨i, a, b, e1, e2⟩ => ⟨i, a, by omega, e1, e2⟩) (fun y => ⟨v9, h9.1, by omega, hwi.1 z, by rw [y, sel_t (hwi.1 z).1]⟩)⟩) (by omega)
                  have hn8 := fun (z : ¬ (v9 < sel (wb (mtc (M 56)) t v9) (we (mtc (M 56)) (M 200) t v9) v9 ∧ ∀ j : Int, v9 ≤ j → j < sel (wb (mtc (M 56)) t v9) (we (mtc (M 56)) (M 200) t v9) v9 → ¬ M 56 (24 * t + j) < 0)) => h8.congr (S' := fun v => ∃ i, 0 ≤ i ∧ i < v9 + 1 ∧ wh (mtc (M 56)) (M 200) t i ∧ v = we (mtc (M 56)) (M 200) t i - i) (fun v => ⟨fun ⟨i, a, b, e⟩ => ⟨i, a, by omega, e⟩, fun ⟨i, a, b, e1, e2⟩ => ⟨i, a, by
                      have y : ¬ i = v9 := fun y => z (hwi.2 (y ▸ e1))
                      omega, e1, e2⟩⟩)
                  have hv8 := h8.2.1
                  refine r_if_eq_b (tgt := 170) C dX0_textOf_152 (by decide) (fun c_7 => ?_) (fun c_7 => ?_)
                  · refine r_iinc (lv' := [(9, .int (zi (v9 + 1))), (6, .int (zi (v6 + (bI (v9 < (sel (wb (mtc ((M 56))) t v9) (we (mtc ((M 56))) ((M 200)) t v9) v9)))))), (10, .int (zi (sel (wb (mtc ((M 56))) t v9) (we (mtc ((M 56))) ((M 200)) t v9) v9))), (5, .int (zi (v5 + (bI ((M 56 (24 * t + v9)) = (-1)))))), (4, .int (zi (v4 + (bI (¬ ((M 56 (24 * t + v9)) < 0)))))), (0, .ref (B 49 0)), (1, .int (zi t)), (2, .int (zi w)), (3, .ref (B 55 t)), (7, .int (zi v7)), (8, .int (zi v8))]) C dX0_textOf_170 hl (k := 10) rfl (by decide) rfl (fun ls hl => ?_)
                    refine lv_goto (tgt := 69) C.x C.b dX0_textOf_173 (by decide) ?_
                    exact ih69 (v4 + (bI (¬ ((M 56 (24 * t + v9)) < 0)))) (v5 + (bI ((M 56 (24 * t + v9)) = (-1)))) (v6 + (bI (v9 < (sel (wb (mtc ((M 56))) t v9) (we (mtc ((M 56))) ((M 200)) t v9) v9)))) v7 v8 (v9 + 1) (by omega) hs4 hs5 hs6 (by first | exact hs7 (by assumption) | (rw [h7]; exact hn7 (by assumption))) (by first | exact hs8 (by assumption) | exact hn8 (by assumption)) (by first | omega | (have z := mx_r (x := v8) (y := sel (wb (mtc (M 56)) t v9) (we (mtc (M 56)) (M 200) t v9) v9 - v9); omega)) (by omega) H locs ls hX hS (lv_sub hl [5, 6, 7, 8, 4, 3, 1, 9, 10, 0] rfl)
                  · refine r_iinc (lv' := [(7, .int (zi (v7 + 1))), (6, .int (zi (v6 + (bI (v9 < (sel (wb (mtc ((M 56))) t v9) (we (mtc ((M 56))) ((M 200)) t v9) v9)))))), (10, .int (zi (sel (wb (mtc ((M 56))) t v9) (we (mtc ((M 56))) ((M 200)) t v9) v9))), (5, .int (zi (v5 + (bI ((M 56 (24 * t + v9)) = (-1)))))), (4, .int (zi (v4 + (bI (¬ ((M 56 (24 * t + v9)) < 0)))))), (0, .ref (B 49 0)), (1, .int (zi t)), (2, .int (zi w)), (3, .ref (B 55 t)), (8, .int (zi v8)), (9, .int (zi v9))]) C dX0_textOf_155 hl (k := 8) rfl (by decide) rfl (fun ls hl => ?_)
                    refine lv_iload C.x C.b dX0_textOf_158 (lv_at hl 9 rfl) ?_
                    refine lv_iload C.x C.b dX0_textOf_160 (lv_at hl 2 rfl) ?_
                    refine lv_iload C.x C.b dX0_textOf_162 (lv_at hl 10 rfl) ?_
                    refine r_isub C dX0_textOf_164 ?_
                    refine r_mmax C hl.1 (by omega) (by omega) q190 q191 q99 q192 (by decide) (Nat.le_trans (Nat.add_le_add_right (show _ ≤ 8 from Nat.le_of_ble_eq_true rfl) 13) (by decide)) (Nat.le_of_ble_eq_true rfl) (Nat.le_of_ble_eq_true rfl) dX0_textOf_165 ?_
                    refine lv_istore (lv' := [(8, .int (zi (sel (v8 < ((sel (wb (mtc ((M 56))) t v9) (we (mtc ((M 56))) ((M 200)) t v9) v9) - v9)) ((sel (wb (mtc ((M 56))) t v9) (we (mtc ((M 56))) ((M 200)) t v9) v9) - v9) v8))), (7, .int (zi (v7 + 1))), (6, .int (zi (v6 + (bI (v9 < (sel (wb (mtc ((M 56))) t v9) (we (mtc ((M 56))) ((M 200)) t v9) v9)))))), (10, .int (zi (sel (wb (mtc ((M 56))) t v9) (we (mtc ((M 56))) ((M 200)) t v9) v9))), (5, .int (zi (v5 + (bI ((M 56 (24 * t + v9)) = (-1)))))), (4, .int (zi (v4 + (bI (¬ ((M 56 (24 * t + v9)) < 0)))))), (0, .ref (B 49 0)), (1, .int (zi t)), (2, .int (zi w)), (3, .ref (B 55 t)), (9, .int (zi v9))]) C.x C.b dX0_textOf_168 hl (by decide) rfl (fun ls hl => ?_)
                    refine r_iinc (lv' := [(9, .int (zi (v9 + 1))), (8, .int (zi (sel (v8 < ((sel (wb (mtc ((M 56))) t v9) (we (mtc ((M 56))) ((M 200)) t v9) v9) - v9)) ((sel (wb (mtc ((M 56))) t v9) (we (mtc ((M 56))) ((M 200)) t v9) v9) - v9) v8))), (7, .int (zi (v7 + 1))), (6, .int (zi (v6 + (bI (v9 < (sel (wb (mtc ((M 56))) t v9) (we (mtc ((M 56))) ((M 200)) t v9) v9)))))), (10, .int (zi (sel (wb (mtc ((M 56))) t v9) (we (mtc ((M 56))) ((M 200)) t v9) v9))), (5, .int (zi (v5 + (bI ((M 56 (24 * t + v9)) = (-1)))))), (4, .int (zi (v4 + (bI (¬ ((M 56 (24 * t + v9)) < 0)))))), (0, .ref (B 49 0)), (1, .int (zi t)), (2, .int (zi w)), (3, .ref (B 55 t))]) C dX0_textOf_170 hl (k := 10) rfl (by decide) rfl (fun ls hl => ?_)
                    refine lv_goto (tgt := 69) C.x C.b dX0_textOf_173 (by decide) ?_
                    exact ih69 (v4 + (bI (¬ ((M 56 (24 * t + v9)) < 0)))) (v5 + (bI ((M 56 (24 * t + v9)) = (-1)))) (v6 + (bI (v9 < (sel (wb (mtc ((M 56))) t v9) (we (mtc ((M 56))) ((M 200)) t v9) v9)))) (v7 + 1) (sel (v8 < ((sel (wb (mtc ((M 56))) t v9) (we (mtc ((M 56))) ((M 200)) t v9) v9) - v9)) ((sel (wb (mtc ((M 56))) t v9) (we (mtc ((M 56))) ((M 200)) t v9) v9) - v9) v8) (v9 + 1) (by omega) hs4 hs5 hs6 (by first | exact hs7 (by assumption) | (rw [h7]; exact hn7 (by assumption))) (by first | exact hs8 (by assumption) | exact hn8 (by assumption)) (by first | omega | (have z := mx_r (x := v8) (y := sel (wb (mtc (M 56)) t v9) (we (mtc (M 56)) (M 200) t v9) v9 - v9); omega)) (by omega) H locs ls hX hS (lv_sub hl [7, 8, 9, 10, 6, 5, 3, 2, 1, 0] rfl)
                refine r_icmp_le (tgt := 140) C (by omega) (by omega) dX0_textOf_133 (by decide) (fun c_8 => ?_) (fun c_8 => ?_)
                · refine r_const C dX0_textOf_140 ?_
                  exact J141_6 0 ((bI_f c_8).symm) H locs ls hX hS hl
                · refine r_const C dX0_textOf_136 ?_
                  refine lv_goto (tgt := 141) C.x C.b dX0_textOf_137 (by decide) ?_
                  exact J141_6 1 ((bI_t c_8).symm) H locs ls hX hS hl
              refine r_icmp_ne (tgt := 115) C (by omega) (by decide) dX0_textOf_108 (by decide) (fun c_9 => ?_) (fun c_9 => ?_)
              · refine r_const C dX0_textOf_115 ?_
                exact J116_5 0 ((bI_f c_9).symm) H locs ls hX hS hl
              · refine r_const C dX0_textOf_111 ?_
                refine lv_goto (tgt := 116) C.x C.b dX0_textOf_112 (by decide) ?_
                exact J116_5 1 ((bI_t c_9).symm) H locs ls hX hS hl
            refine r_if_lt (tgt := 94) C (by omega) dX0_textOf_87 (by decide) (fun c_10 => ?_) (fun c_10 => ?_)
            · refine r_const C dX0_textOf_94 ?_
              exact J95_4 0 ((bI_f (fun q => q c_10)).symm) H locs ls hX hS hl
            · refine r_const C dX0_textOf_90 ?_
              refine lv_goto (tgt := 95) C.x C.b dX0_textOf_91 (by decide) ?_
              exact J95_4 1 ((bI_t c_10).symm) H locs ls hX hS hl
      exact L69 _ 0 0 0 0 0 0 (by have := h24 t; omega) rfl rfl rfl rfl ⟨Or.inl rfl, Int.le_refl _, fun v ⟨i, a, b, _⟩ => absurd a (by omega)⟩ (by omega) (Nat.lt_succ_self _) H locs ls hX hS (lv_sub hl [7, 8, 9, 6, 5, 4, 3, 2, 1, 0] rfl)
    · refine lv_aload_n C.x C.b dX0_textOf_41 rfl (lv_at hl 1 rfl) ?_
      refine lv_aload_n C.x C.b dX0_textOf_42 rfl (lv_at hl 0 rfl) ?_
      refine lv_iload_n C.x C.b dX0_textOf_43 rfl (lv_at hl 3 rfl) ?_
      refine r_bipush C (by decide) dX0_textOf_44 ?_
      refine r_isub C dX0_textOf_46 ?_
      refine r_callVi (As := [.ref (B 55 t), .int (zi (w - 10))]) (rest := []) (cells' := 0) (slots' := 0) C (met_X0_signAt l E A B F (va_up M 3 sg) G T t (w - 10) (show 0 ≤ t ∧ t < (F 6) from (by omega)) (show 0 ≤ (w - 10) ∧ (w - 10) < (M 200) t from (by omega))) (lw_V q178 q180 qs6 q86 q181) hd_X0_signAt rfl (by decide) (x_this C hX) hX hS hl.1 rfl (Nat.le_of_ble_eq_true rfl) dX0_textOf_47 rfl rfl ⟨Nat.le_of_ble_eq_true rfl, Nat.le_of_ble_eq_true rfl⟩ (fun rr H locs hp hS => ?_)
      obtain ⟨hat1, hrr, hX⟩ := hp
      have hrr : rr = sa (sg) ((M 56) (24 * t + (w - 10))) := hrr
      subst hrr
      replace hat1 : -2 ≤ sa (sg) ((M 56) (24 * t + (w - 10))) ∧ sa (sg) ((M 56) (24 * t + (w - 10))) ≤ 23 := hat1
      rw [← hQQ]
      exact r_iret C hS (Nat.le_of_ble_eq_true rfl) (Nat.le_of_ble_eq_true rfl) dX0_textOf_50 ⟨sg, (fun _ => hsg), (by rw [sel_t (c := (0 ≤ t ∧ t < F 6) ∧ ((0 ≤ w ∧ w ≤ 5) ∨ (10 ≤ w ∧ w ≤ 9 + M 200 t))) ⟨ht_, Or.inr (by assumption)⟩]; unfold txo; rw [sel_f (by omega), sel_f (by omega), sel_f (by omega), sel_f (by omega), sel_f (by omega), sel_f (by omega)]; rfl), hX⟩
  · refine r_bipush C (by decide) dX0_textOf_8 ?_
    rw [← hQQ]
    exact r_iret C hS (Nat.le_of_ble_eq_true rfl) (Nat.le_of_ble_eq_true rfl) dX0_textOf_10 ⟨(M 3), (fun q => absurd q.1 (by assumption)), (Eq.symm (sel_f (fun q => absurd q.1 (by assumption)))), (hX.to rfl rfl ((up_id M (k := 3) (a := (M 3)) rfl).symm.trans rfl) rfl rfl)⟩

theorem hd_X0_runs : yX0_runs.cls = RX0 ∧ yX0_runs.cls ≠ "java/lang/invoke/MethodHandle" ∧ yX0_runs.cls ≠ "java/lang/invoke/VarHandle" ∧ (parseMethodDescriptor yX0_runs.desc).map (fun d => d.parameters.length) = some 1 := by decide +kernel
abbrev rm_X0_runs : Room := { frames := 3, cells := 0, slots := 0, locals := 64 }
set_option maxHeartbeats 8000000 in
theorem met_X0_runs (l : Launch) (E : us_E) (A : Nat → Prop) (B : Nat → Int → Nat) (F : Nat → Int) (M : Nat → Int → Int) (G : Nat → Int → Option Nat) (T : x_T) (w : Int) (hw : -2147483648 ≤ w ∧ w < 2147483648) : cMet l yX0_runs cX0_runs 6 (some .int) rm_X0_runs A E [.ref (B 49 0), .int (zi w)] (fun H => XH E A B F M G T H) (qi A (fun r H => ∃ m3 : Int → Int, ∃ m7 : Int → Int, ∃ m8 : Int → Int, ((0 ≤ w ∧ w ≤ 2) → SgOK (F 1) (M 0) (F 2) m3 ∧ r = runS w (sqs (edgeS m3 (mtc (M 56)) (M 200) (F 6) False)) (sqs (edgeS m3 (mtc (M 56)) (M 200) (F 6) True))) ∧ (¬ (0 ≤ w ∧ w ≤ 2) → r = -10) ∧ XH E A B F (va_up (va_up (va_up M 3 m3) 7 m7) 8 m8) G T H)) := by
  refine cMet.of (by decide) (Nat.le_of_ble_eq_true rfl) (fun p e s m args below meth c C hnm hX hS ls hl => ?_)
  have C : Cx p s m args meth c A RX0 cX0_runs 6 (some .int) E := C
  have hX : XH E A B F M G T s.heap := hX
  have hl : lv_has ls 6 [(0, .ref (B 49 0)), (1, .int (zi w))] := hl
  generalize hH : s.heap = H at hX
  have hS : va_S A s.heap H [] := by rw [← hH]; exact hS
  generalize hlocs : ([] : List Loc) = locs at hS ⊢
  obtain ⟨QQ, hQQ⟩ : ∃ z, MQ below (qi A (fun r H => ∃ m3 : Int → Int, ∃ m7 : Int → Int, ∃ m8 : Int → Int, ((0 ≤ w ∧ w ≤ 2) → SgOK (F 1) (M 0) (F 2) m3 ∧ r = runS w (sqs (edgeS m3 (mtc (M 56)) (M 200) (F 6) False)) (sqs (edgeS m3 (mtc (M 56)) (M 200) (F 6) True))) ∧ (¬ (0 ≤ w ∧ w ≤ 2) → r = -10) ∧ XH E A B F (va_up (va_up (va_up M 3 m3) 7 m7) 8 m8) G T H)) args s (rm_X0_runs).cells (rm_X0_runs).slots A = z := ⟨_, rfl⟩
  rw [hQQ]
  have rF6 : 0 ≤ F 6 ∧ F 6 ≤ 8 := hX.2.1 6 (0, 8) rfl
  have h24 : ∀ t, 0 ≤ M 200 t ∧ M 200 t ≤ 24 := fun t => hX.2.2.1 200 (0, 24) rfl t
  have hcl : ∀ q, -2 ≤ M 56 q ∧ M 56 q ≤ 23 := fun q => hX.2.2.1 56 (-2, 23) rfl q
  have hs3 : ∀ q, 0 ≤ M 3 q ∧ M 3 q ≤ 23 := fun q => hX.2.2.1 3 (0, 23) rfl q
  refine lv_iload_n C.x C.b dX0_runs_0 rfl (lv_at hl 1 rfl) ?_
  refine r_i2l C (by omega) dX0_runs_1 ?_
  refine r_lconst C 0 rfl dX0_runs_2 ?_
  refine r_ldc2 C 2 (by decide) q218 dX0_runs_3 ?_
  refine r_callSi (As := [.long (zl w), .long (zl 0), .long (zl 2)]) (rest := []) (cells' := 0) (slots' := 0) C (met_X0_isIn l E A H w 0 2 (show -9223372036854775808 ≤ w ∧ w < 9223372036854775808 from (by omega)) (show -9223372036854775808 ≤ (0 : Int) ∧ (0 : Int) < 9223372036854775808 from (by omega)) (show -9223372036854775808 ≤ (2 : Int) ∧ (2 : Int) < 9223372036854775808 from (by omega))) (lw_S q117 q118 q86 q119) hd_X0_isIn rfl (by decide) rfl hS hl.1 rfl (Nat.le_of_ble_eq_true rfl) dX0_runs_6 rfl rfl ⟨Nat.le_of_ble_eq_true rfl, Nat.le_of_ble_eq_true rfl⟩ (fun rr H locs hp hS => ?_)
  obtain ⟨hrr, hH⟩ := hp
  have hrr : rr = bI ((0 : Int) ≤ w ∧ w ≤ (2 : Int)) := hrr
  subst hrr
  have hX : XH E A B F M G T H := by rw [hH]; exact hX
  refine r_if_ne_b (tgt := 15) C dX0_runs_9 (by decide) (fun c_1 => ?_) (fun c_1 => ?_)
  · refine lv_aload_n C.x C.b dX0_runs_15 rfl (lv_at hl 0 rfl) ?_
    refine r_callVv (As := []) (rest := []) (cells' := 0) (slots' := 0) C (met_X0_layAll l E A B F M G T) (lw_V q134 q136 qs1 q86 q137) hd_X0_layAll rfl (by decide) (x_this C hX) hX hS hl.1 rfl (Nat.le_of_ble_eq_true rfl) dX0_runs_16 rfl rfl ⟨Nat.le_of_ble_eq_true rfl, Nat.le_of_ble_eq_true rfl⟩ (fun H locs hp hS => ?_)
    obtain ⟨sg, hsg, hX⟩ := hp
    replace hsg : SgOK ((F 1)) ((M 0)) ((F 2)) sg := hsg
    have hX : XH E A B F (va_up M 3 sg) G T H := hX.to rfl rfl rfl rfl rfl
    refine lv_aload_n C.x C.b dX0_runs_19 rfl (lv_at hl 0 rfl) ?_
    refine x_ga C hX 7 (by decide) rfl q743 (fun _ h => h) dX0_runs_20 ?_
    refine r_const C dX0_runs_23 ?_
    refine r_callSv (As := [.ref (B 7 0), .int (zi 0)]) (rest := []) (cells' := 0) (slots' := 0) C (met_fill1 l E A B F (va_up M 3 sg) G T 7 24 0 rfl (by decide) (by decide) (fun b hb => by cases hb)) (lw_S q223 q224 q100 q225) hd_J10_fill rfl (by decide) hX hS hl.1 rfl (Nat.le_of_ble_eq_true rfl) dX0_runs_24 rfl rfl ⟨Nat.le_of_ble_eq_true rfl, Nat.le_of_ble_eq_true rfl⟩ (fun H locs hp hS => ?_)
    have hX : XH E A B F (va_up (va_up M 3 sg) 7 (ffill (M 7) 0 24 0)) G T H := hp.to rfl rfl rfl rfl rfl
    refine lv_aload_n C.x C.b dX0_runs_27 rfl (lv_at hl 0 rfl) ?_
    refine x_ga C hX 8 (by decide) rfl q744 (fun _ h => h) dX0_runs_28 ?_
    refine r_const C dX0_runs_31 ?_
    refine r_callSv (As := [.ref (B 8 0), .int (zi 0)]) (rest := []) (cells' := 0) (slots' := 0) C (met_fill1 l E A B F (va_up (va_up M 3 sg) 7 (ffill (M 7) 0 24 0)) G T 8 24 0 rfl (by decide) (by decide) (fun b hb => by cases hb)) (lw_S q223 q224 q100 q225) hd_J10_fill rfl (by decide) hX hS hl.1 rfl (Nat.le_of_ble_eq_true rfl) dX0_runs_32 rfl rfl ⟨Nat.le_of_ble_eq_true rfl, Nat.le_of_ble_eq_true rfl⟩ (fun H locs hp hS => ?_)
    have hX : XH E A B F (va_up (va_up (va_up M 3 sg) 7 (ffill (M 7) 0 24 0)) 8 (ffill (M 8) 0 24 0)) G T H := hp.to rfl rfl rfl rfl rfl
    refine r_const C dX0_runs_35 ?_
    refine lv_istore_n (lv' := [(2, .int (zi 0)), (0, .ref (B 49 0)), (1, .int (zi w))]) C.x C.b dX0_runs_36 rfl hl (by decide) rfl (fun ls hl => ?_)
    have L37 : ∀ (fu : Nat) (v2 : Int) (m7 : Int → Int) (m8 : Int → Int) (h2 : 0 ≤ v2 ∧ v2 ≤ F 6) (hA7 : EdgA sg (mtc (M 56)) (M 200) False m7 v2 0) (hA8 : EdgA sg (mtc (M 56)) (M 200) True m8 v2 0) (hm : Int.toNat (F 6 - v2) < fu) (H : Heap) (locs : List Loc) (ls : Array Slot) (hX : XH E A B F (va_up (va_up (va_up M 3 sg) 7 m7) 8 m8) G T H) (hS : va_S A s.heap H locs) (hl : lv_has ls 6 [(0, .ref (B 49 0)), (1, .int (zi w)), (2, .int (zi v2))]), W p l e rm_X0_runs s m args below meth c H locs 0 0 QQ (F0 m 37 ls []) := by
      intro fu
      induction fu with
      | zero => intro v2 m7 m8 h2 hA7 hA8 hm; exact absurd hm (Nat.not_lt_zero _)
      | succ fu ih37 =>
        intro v2 m7 m8 h2 hA7 hA8 hm H locs ls hX hS hl
        refine lv_iload_n C.x C.b dX0_runs_37 rfl (lv_at hl 2 rfl) ?_
        refine lv_aload_n C.x C.b dX0_runs_38 rfl (lv_at hl 0 rfl) ?_
        refine x_gi C hX 6 (by decide) rfl q742 (fun _ h => h) (F 6) rfl (b := (0, 8)) rfl dX0_runs_39 (fun _ => ?_)
        refine r_icmp_ge (tgt := 129) C (by omega) (by omega) dX0_runs_42 (by decide) (fun c_2 => ?_) (fun c_2 => ?_)
        · refine r_const C dX0_runs_129 ?_
          refine lv_istore_n (lv' := [(2, .int (zi 0)), (0, .ref (B 49 0)), (1, .int (zi w))]) C.x C.b dX0_runs_130 rfl hl (by decide) rfl (fun ls hl => ?_)
          refine r_const C dX0_runs_131 ?_
          refine lv_istore_n (lv' := [(3, .int (zi 0)), (2, .int (zi 0)), (0, .ref (B 49 0)), (1, .int (zi w))]) C.x C.b dX0_runs_132 rfl hl (by decide) rfl (fun ls hl => ?_)
          refine r_const C dX0_runs_133 ?_
          refine lv_istore (lv' := [(4, .int (zi 0)), (3, .int (zi 0)), (2, .int (zi 0)), (0, .ref (B 49 0)), (1, .int (zi w))]) C.x C.b dX0_runs_134 hl (by decide) rfl (fun ls hl => ?_)
          have L136 : ∀ (fu : Nat) (v2_136 : Int) (v3_136 : Int) (v4 : Int) (h4b : 0 ≤ v4 ∧ v4 ≤ 24) (hq1 : v2_136 = isum (fun k => m7 k * m7 k) v4) (hq2 : v3_136 = isum (fun k => m8 k * m8 k) v4) (hm : Int.toNat (24 - v4) < fu) (H : Heap) (locs : List Loc) (ls : Array Slot) (hX : XH E A B F (va_up (va_up (va_up M 3 sg) 7 m7) 8 m8) G T H) (hS : va_S A s.heap H locs) (hl : lv_has ls 6 [(0, .ref (B 49 0)), (1, .int (zi w)), (2, .int (zi v2_136)), (3, .int (zi v3_136)), (4, .int (zi v4))]), W p l e rm_X0_runs s m args below meth c H locs 0 0 QQ (F0 m 136 ls []) := by
            intro fu
            induction fu with
            | zero => intro v2_136 v3_136 v4 h4b hq1 hq2 hm; exact absurd hm (Nat.not_lt_zero _)
            | succ fu ih136 =>
              intro v2_136 v3_136 v4 h4b hq1 hq2 hm H locs ls hX hS hl
              refine lv_iload C.x C.b dX0_runs_136 (lv_at hl 4 rfl) ?_
              refine r_bipush C (by decide) dX0_runs_138 ?_
              refine r_icmp_ge (tgt := 185) C (by omega) (by decide) dX0_runs_140 (by decide) (fun c_3 => ?_) (fun c_3 => ?_)
              · have e6 : v2 = F 6 := by omega
                rw [e6] at hA7 hA8
                have e1 : v2_136 = sqs (edgeS sg (mtc (M 56)) (M 200) (F 6) False) := by rw [hq1, show v4 = 24 by omega]; exact isum_congr (fun k a b => by rw [hA7 k a b]; rfl)
                have e2 : v3_136 = sqs (edgeS sg (mtc (M 56)) (M 200) (F 6) True) := by rw [hq2, show v4 = 24 by omega]; exact isum_congr (fun k a b => by rw [hA8 k a b]; rfl)
                have hq1r := sqs_r (e := edgeS sg (mtc (M 56)) (M 200) (F 6) False) (fun k => edgeS_r h24 rF6)
                have hq2r := sqs_r (e := edgeS sg (mtc (M 56)) (M 200) (F 6) True) (fun k => edgeS_r h24 rF6)
                rw [← e1] at hq1r
                rw [← e2] at hq2r
                refine lv_iload_n C.x C.b dX0_runs_185 rfl (lv_at hl 1 rfl) ?_
                refine r_const C dX0_runs_186 ?_
                refine r_icmp_ne (tgt := 194) C (by omega) (by decide) dX0_runs_187 (by decide) (fun c_4 => ?_) (fun c_4 => ?_)
                · refine lv_iload_n C.x C.b dX0_runs_194 rfl (lv_at hl 1 rfl) ?_
                  refine r_const C dX0_runs_195 ?_
                  refine r_icmp_ne (tgt := 203) C (by omega) (by decide) dX0_runs_196 (by decide) (fun c_5 => ?_) (fun c_5 => ?_)
                  · refine lv_iload_n C.x C.b dX0_runs_203 rfl (lv_at hl 3 rfl) ?_
                    refine lv_iload_n C.x C.b dX0_runs_204 rfl (lv_at hl 2 rfl) ?_
                    refine r_callSi (As := [.int (zi v3_136), .int (zi v2_136)]) (rest := []) (cells' := 0) (slots' := 0) C (met_J0_compare l E A H v3_136 v2_136 (show -2147483648 ≤ v3_136 ∧ v3_136 < 2147483648 from (by omega)) (show -2147483648 ≤ v2_136 ∧ v2_136 < 2147483648 from (by omega))) (lw_S q226 q227 q89 q228) hd_J0_compare rfl (by decide) rfl hS hl.1 rfl (Nat.le_of_ble_eq_true rfl) dX0_runs_205 rfl rfl ⟨Nat.le_of_ble_eq_true rfl, Nat.le_of_ble_eq_true rfl⟩ (fun rr H locs hp hS => ?_)
                    obtain ⟨r_6, hrr⟩ : ∃ z, z = rr := ⟨_, rfl⟩
                    rw [← hrr] at hp ⊢
                    obtain ⟨hcm, hH⟩ := hp
                    have hX : XH E A B F (va_up (va_up (va_up M 3 sg) 7 m7) 8 m8) G T H := by rw [hH]; exact hX
                    replace hcm : r_6 = (if v3_136 < v2_136 then (-1 : Int) else if v3_136 = v2_136 then 0 else 1) := hcm
                    rw [← hQQ]
                    exact r_iret C hS (Nat.le_of_ble_eq_true rfl) (Nat.le_of_ble_eq_true rfl) dX0_runs_208 ⟨sg, m7, m8, (fun _ => ⟨hsg, by rw [← e1, ← e2]; unfold runS; first | (rw [if_pos (by omega)]; done) | (rw [if_neg (by omega), if_pos (by omega)]; done) | (rw [if_neg (by omega), if_neg (by omega), hcm]; exact cmp_x)⟩), (fun q => absurd (by assumption) q), hX⟩
                  · refine lv_iload_n C.x C.b dX0_runs_199 rfl (lv_at hl 3 rfl) ?_
                    refine lv_goto (tgt := 208) C.x C.b dX0_runs_200 (by decide) ?_
                    rw [← hQQ]
                    exact r_iret C hS (Nat.le_of_ble_eq_true rfl) (Nat.le_of_ble_eq_true rfl) dX0_runs_208 ⟨sg, m7, m8, (fun _ => ⟨hsg, by rw [← e1, ← e2]; unfold runS; first | (rw [if_pos (by omega)]; done) | (rw [if_neg (by omega), if_pos (by omega)]; done) | (rw [if_neg (by omega), if_neg (by omega), hcm]; exact cmp_x)⟩), (fun q => absurd (by assumption) q), hX⟩
                · refine lv_iload_n C.x C.b dX0_runs_190 rfl (lv_at hl 2 rfl) ?_
                  refine lv_goto (tgt := 208) C.x C.b dX0_runs_191 (by decide) ?_
                  rw [← hQQ]
                  exact r_iret C hS (Nat.le_of_ble_eq_true rfl) (Nat.le_of_ble_eq_true rfl) dX0_runs_208 ⟨sg, m7, m8, (fun _ => ⟨hsg, by rw [← e1, ← e2]; unfold runS; first | (rw [if_pos (by omega)]; done) | (rw [if_neg (by omega), if_pos (by omega)]; done) | (rw [if_neg (by omega), if_neg (by omega), hcm]; exact cmp_x)⟩), (fun q => absurd (by assumption) q), hX⟩
              · refine lv_iload_n C.x C.b dX0_runs_143 rfl (lv_at hl 2 rfl) ?_
                refine lv_aload_n C.x C.b dX0_runs_144 rfl (lv_at hl 0 rfl) ?_
                refine x_ga C hX 7 (by decide) rfl q743 (fun _ h => h) dX0_runs_145 ?_
                refine lv_iload C.x C.b dX0_runs_148 (lv_at hl 4 rfl) ?_
                refine x_li1 C hX 7 rfl (by decide) rfl (show 0 ≤ v4 ∧ v4 < 24 from (by omega)) (by decide) (m7 v4) rfl dX0_runs_150 (fun _ => ?_)
                refine lv_aload_n C.x C.b dX0_runs_151 rfl (lv_at hl 0 rfl) ?_
                refine x_ga C hX 7 (by decide) rfl q743 (fun _ h => h) dX0_runs_152 ?_
                refine lv_iload C.x C.b dX0_runs_155 (lv_at hl 4 rfl) ?_
                refine x_li1 C hX 7 rfl (by decide) rfl (show 0 ≤ v4 ∧ v4 < 24 from (by omega)) (by decide) (m7 v4) rfl dX0_runs_157 (fun _ => ?_)
                refine r_imul C dX0_runs_158 ?_
                refine r_iadd C dX0_runs_159 ?_
                refine lv_istore_n (lv' := [(2, .int (zi (v2_136 + ((m7 v4) * (m7 v4))))), (0, .ref (B 49 0)), (1, .int (zi w)), (3, .int (zi v3_136)), (4, .int (zi v4))]) C.x C.b dX0_runs_160 rfl hl (by decide) rfl (fun ls hl => ?_)
                refine lv_iload_n C.x C.b dX0_runs_161 rfl (lv_at hl 3 rfl) ?_
                refine lv_aload_n C.x C.b dX0_runs_162 rfl (lv_at hl 1 rfl) ?_
                refine x_ga C hX 8 (by decide) rfl q744 (fun _ h => h) dX0_runs_163 ?_
                refine lv_iload C.x C.b dX0_runs_166 (lv_at hl 4 rfl) ?_
                refine x_li1 C hX 8 rfl (by decide) rfl (show 0 ≤ v4 ∧ v4 < 24 from (by omega)) (by decide) (m8 v4) rfl dX0_runs_168 (fun _ => ?_)
                refine lv_aload_n C.x C.b dX0_runs_169 rfl (lv_at hl 1 rfl) ?_
                refine x_ga C hX 8 (by decide) rfl q744 (fun _ h => h) dX0_runs_170 ?_
                refine lv_iload C.x C.b dX0_runs_173 (lv_at hl 4 rfl) ?_
                refine x_li1 C hX 8 rfl (by decide) rfl (show 0 ≤ v4 ∧ v4 < 24 from (by omega)) (by decide) (m8 v4) rfl dX0_runs_175 (fun _ => ?_)
                refine r_imul C dX0_runs_176 ?_
                refine r_iadd C dX0_runs_177 ?_
                refine lv_istore_n (lv' := [(3, .int (zi (v3_136 + ((m8 v4) * (m8 v4))))), (2, .int (zi (v2_136 + ((m7 v4) * (m7 v4))))), (0, .ref (B 49 0)), (1, .int (zi w)), (4, .int (zi v4))]) C.x C.b dX0_runs_178 rfl hl (by decide) rfl (fun ls hl => ?_)
                refine r_iinc (lv' := [(4, .int (zi (v4 + 1))), (3, .int (zi (v3_136 + ((m8 v4) * (m8 v4))))), (2, .int (zi (v2_136 + ((m7 v4) * (m7 v4))))), (0, .ref (B 49 0)), (1, .int (zi w))]) C dX0_runs_179 hl (k := 4) rfl (by decide) rfl (fun ls hl => ?_)
                refine lv_goto (tgt := 136) C.x C.b dX0_runs_182 (by decide) ?_
                exact ih136 (v2_136 + ((m7 v4) * (m7 v4))) (v3_136 + ((m8 v4) * (m8 v4))) (v4 + 1) (by omega) (isum_st h4b.1 hq1 rfl) (isum_st h4b.1 hq2 rfl) (by omega) H locs ls hX hS (lv_sub hl [3, 4, 2, 1, 0] rfl)
          exact L136 _ 0 0 0 (by omega) rfl rfl (Nat.lt_succ_self _) H locs ls hX hS (lv_sub hl [3, 4, 2, 1, 0] rfl)
        · refine lv_aload_n C.x C.b dX0_runs_45 rfl (lv_at hl 0 rfl) ?_
          refine x_ga C hX 5 (by decide) rfl q741 (fun _ h => h) dX0_runs_46 ?_
          refine lv_iload_n C.x C.b dX0_runs_49 rfl (lv_at hl 2 rfl) ?_
          refine x_la C hX 5 rfl rfl rfl (by decide) rfl rfl (show 0 ≤ v2 ∧ v2 < F 6 from (by omega)) (by omega) (by decide) dX0_runs_50 ?_
          refine lv_astore_n (lv' := [(3, .ref (B 55 v2)), (0, .ref (B 49 0)), (1, .int (zi w)), (2, .int (zi v2))]) C.x C.b dX0_runs_51 rfl hl (by decide) rfl (fun ls hl => ?_)
          refine r_const C dX0_runs_52 ?_
          refine lv_istore (lv' := [(4, .int (zi 0)), (3, .ref (B 55 v2)), (0, .ref (B 49 0)), (1, .int (zi w)), (2, .int (zi v2))]) C.x C.b dX0_runs_53 hl (by decide) rfl (fun ls hl => ?_)
          have L55 : ∀ (fu : Nat) (v4 : Int) (m7_55 : Int → Int) (m8_55 : Int → Int) (h4 : 0 ≤ v4 ∧ v4 ≤ M 200 v2) (hB7 : EdgA sg (mtc (M 56)) (M 200) False m7_55 v2 v4) (hB8 : EdgA sg (mtc (M 56)) (M 200) True m8_55 v2 v4) (hm : Int.toNat (M 200 v2 - v4) < fu) (H : Heap) (locs : List Loc) (ls : Array Slot) (hX : XH E A B F (va_up (va_up (va_up M 3 sg) 7 m7_55) 8 m8_55) G T H) (hS : va_S A s.heap H locs) (hl : lv_has ls 6 [(0, .ref (B 49 0)), (1, .int (zi w)), (2, .int (zi v2)), (3, .ref (B 55 v2)), (4, .int (zi v4))]), W p l e rm_X0_runs s m args below meth c H locs 0 0 QQ (F0 m 55 ls []) := by
            intro fu
            induction fu with
            | zero => intro v4 m7_55 m8_55 h4 hB7 hB8 hm; exact absurd hm (Nat.not_lt_zero _)
            | succ fu ih55 =>
              intro v4 m7_55 m8_55 h4 hB7 hB8 hm H locs ls hX hS hl
              refine lv_iload C.x C.b dX0_runs_55 (lv_at hl 4 rfl) ?_
              refine lv_aload_n C.x C.b dX0_runs_57 rfl (lv_at hl 3 rfl) ?_
              refine r_callVi (As := []) (rest := [.int (zi v4)]) (cells' := 0) (slots' := 0) C (met_X3_size l E A B F (va_up (va_up (va_up M 3 sg) 7 m7_55) 8 m8_55) G T v2 (show 0 ≤ v2 ∧ v2 < (F 6) from (by omega))) (lw_V q174 q175 q176 q98 q177) hd_X3_size rfl (by decide) (x_recv C hX (f := 55) (i := v2) (by decide) (show 0 ≤ v2 ∧ v2 < F 6 from (by omega)).1 (xK_55 (show 0 ≤ v2 ∧ v2 < F 6 from (by omega))) (q := (RX3, TX3, 1)) rfl) hX hS hl.1 rfl (Nat.le_of_ble_eq_true rfl) dX0_runs_58 rfl rfl ⟨Nat.le_of_ble_eq_true rfl, Nat.le_of_ble_eq_true rfl⟩ (fun rr H locs hp hS => ?_)
              obtain ⟨hsz, hrr, hX⟩ := hp
              have hrr : rr = (M 200) v2 := hrr
              subst hrr
              replace hsz : 0 ≤ (M 200) v2 ∧ (M 200) v2 ≤ 24 := hsz
              refine r_icmp_ge (tgt := 123) C (by omega) (by omega) dX0_runs_61 (by decide) (fun c_7 => ?_) (fun c_7 => ?_)
              · refine r_iinc (lv' := [(2, .int (zi (v2 + 1))), (0, .ref (B 49 0)), (1, .int (zi w)), (3, .ref (B 55 v2)), (4, .int (zi v4))]) C dX0_runs_123 hl (k := 2) rfl (by decide) rfl (fun ls hl => ?_)
                refine lv_goto (tgt := 37) C.x C.b dX0_runs_126 (by decide) ?_
                exact ih37 (v2 + 1) m7_55 m8_55 (by omega) (hB7.row h2.1 (by omega)) (hB8.row h2.1 (by omega)) (by omega) H locs ls hX hS (lv_sub hl [1, 2, 0] rfl)
              · refine lv_aload_n C.x C.b dX0_runs_64 rfl (lv_at hl 3 rfl) ?_
                refine lv_iload C.x C.b dX0_runs_65 (lv_at hl 4 rfl) ?_
                refine r_callVi (As := [.int (zi v4)]) (rest := []) (cells' := 0) (slots' := 0) C (met_X3_endOf l E A B F (va_up (va_up (va_up M 3 sg) 7 m7_55) 8 m8_55) G T v2 v4 (show 0 ≤ v2 ∧ v2 < (F 6) from (by omega)) (show 0 ≤ v4 ∧ v4 < (M 200) v2 from (by omega))) (lw_V q182 q183 q184 q98 q185) hd_X3_endOf rfl (by decide) (x_recv C hX (f := 55) (i := v2) (by decide) (show 0 ≤ v2 ∧ v2 < F 6 from (by omega)).1 (xK_55 (show 0 ≤ v2 ∧ v2 < F 6 from (by omega))) (q := (RX3, TX3, 1)) rfl) hX hS hl.1 rfl (Nat.le_of_ble_eq_true rfl) dX0_runs_67 rfl rfl ⟨Nat.le_of_ble_eq_true rfl, Nat.le_of_ble_eq_true rfl⟩ (fun rr H locs hp hS => ?_)
                obtain ⟨hen, hrr, hX⟩ := hp
                have hrr : rr = sel (wb (mtc ((M 56))) v2 v4) (we (mtc ((M 56))) ((M 200)) v2 v4) v4 := hrr
                subst hrr
                replace hen : v4 ≤ sel (wb (mtc ((M 56))) v2 v4) (we (mtc ((M 56))) ((M 200)) v2 v4) v4 ∧ sel (wb (mtc ((M 56))) v2 v4) (we (mtc ((M 56))) ((M 200)) v2 v4) v4 ≤ (M 200) v2 := hen
                have hs3g : ∀ q, 0 ≤ sg q ∧ sg q ≤ 23 := fun q => hX.2.2.1 3 (0, 23) rfl q
                have hwi := whole_i (tc := (mtc (M 56))) (tl := (M 200)) (t := v2) (i := v4) (fun j => (hcl _).1) (by omega)
                refine lv_istore (lv' := [(5, .int (zi (sel (wb (mtc ((M 56))) v2 v4) (we (mtc ((M 56))) ((M 200)) v2 v4) v4))), (0, .ref (B 49 0)), (1, .int (zi w)), (2, .int (zi v2)), (3, .ref (B 55 v2)), (4, .int (zi v4))]) C.x C.b dX0_runs_70 hl (by decide) rfl (fun ls hl => ?_)
                refine lv_aload_n C.x C.b dX0_runs_72 rfl (lv_at hl 4 rfl) ?_
                refine lv_iload C.x C.b dX0_runs_73 (lv_at hl 5 rfl) ?_
                refine lv_iload C.x C.b dX0_runs_75 (lv_at hl 0 rfl) ?_
                refine r_callVi (As := [.int (zi v4), .int (zi (sel (wb (mtc ((M 56))) v2 v4) (we (mtc ((M 56))) ((M 200)) v2 v4) v4))]) (rest := []) (cells' := 0) (slots' := 0) C (met_X3_isWhole l E A B F (va_up (va_up (va_up M 3 sg) 7 m7_55) 8 m8_55) G T v2 v4 (sel (wb (mtc ((M 56))) v2 v4) (we (mtc ((M 56))) ((M 200)) v2 v4) v4) (show 0 ≤ v2 ∧ v2 < (F 6) from (by omega)) (show 0 ≤ v4 ∧ v4 ≤ (sel (wb (mtc ((M 56))) v2 v4) (we (mtc ((M 56))) ((M 200)) v2 v4) v4) ∧ (sel (wb (mtc ((M 56))) v2 v4) (we (mtc ((M 56))) ((M 200)) v2 v4) v4) ≤ (M 200) v2 from (by omega))) (lw_V q186 q187 q188 q98 q189) hd_X3_isWhole rfl (by decide) (x_recv C hX (f := 55) (i := v2) (by decide) (show 0 ≤ v2 ∧ v2 < F 6 from (by omega)).1 (xK_55 (show 0 ≤ v2 ∧ v2 < F 6 from (by omega))) (q := (RX3, TX3, 1)) rfl) hX hS hl.1 rfl (Nat.le_of_ble_eq_true rfl) dX0_runs_77 rfl rfl ⟨Nat.le_of_ble_eq_true rfl, Nat.le_of_ble_eq_true rfl⟩ (fun rr H locs hp hS => ?_)
                obtain ⟨hrr, hX⟩ := hp
                have hrr : rr = bI (v4 < (sel (wb (mtc ((M 56))) v2 v4) (we (mtc ((M 56))) ((M 200)) v2 v4) v4) ∧ ∀ j : Int, v4 ≤ j → j < (sel (wb (mtc ((M 56))) v2 v4) (we (mtc ((M 56))) ((M 200)) v2 v4) v4) → ¬ (M 56) (24 * v2 + j) < 0) := hrr
                subst hrr
                refine r_if_eq_b (tgt := 117) C dX0_runs_80 (by decide) (fun c_8 => ?_) (fun c_8 => ?_)
                · refine r_iinc (lv' := [(4, .int (zi (v4 + 1))), (5, .int (zi (sel (wb (mtc ((M 56))) v2 v4) (we (mtc ((M 56))) ((M 200)) v2 v4) v4))), (0, .ref (B 49 0)), (1, .int (zi w)), (2, .int (zi v2)), (3, .ref (B 55 v2))]) C dX0_runs_117 hl (k := 5) rfl (by decide) rfl (fun ls hl => ?_)
                  refine lv_goto (tgt := 55) C.x C.b dX0_runs_120 (by decide) ?_
                  exact ih55 (v4 + 1) m7_55 m8_55 (by omega) (by first | exact hB7.no h4.1 (fun y => absurd (hwi.2 y) (by assumption)) | exact hB7.yes h4.1 (hwi.1 (by assumption)) (by rw [ec_F]; rfl) ⟨by omega, by omega⟩) (by first | exact hB8.no h4.1 (fun y => absurd (hwi.2 y) (by assumption)) | exact hB8.yes h4.1 (hwi.1 (by assumption)) (by rw [ec_T, hsw]; rfl) ⟨by omega, by omega⟩) (by omega) H locs ls hX hS (lv_sub hl [2, 3, 4, 5, 0] rfl)
                · have hwh := hwi.1 (by assumption)
                  have hsw : sel (wb (mtc (M 56)) v2 v4) (we (mtc (M 56)) (M 200) v2 v4) v4 = we (mtc (M 56)) (M 200) v2 v4 := sel_t hwh.1
                  have hlt := wb_lt (tl := (M 200)) hwh.1 (show v4 < M 200 v2 by omega)
                  have hc1 := wh_cell hwh ⟨h4.1, by omega⟩ (fun j => (hcl _).1) (Int.le_refl _) hlt
                  have hc2 := wh_cell (j := we (mtc (M 56)) (M 200) v2 v4 - 1) hwh ⟨h4.1, by omega⟩ (fun j => (hcl _).1) (by omega) (by omega)
                  have hn1 := sa_n (sg := sg) (c := M 56 (24 * v2 + v4)) (hs3g _).1
                  have hn2 := sa_n (sg := sg) (c := M 56 (24 * v2 + (we (mtc (M 56)) (M 200) v2 v4 - 1))) (hs3g _).1
                  rw [← hsw] at hn2 hc2
                  have hc1 : 0 ≤ M 56 (24 * v2 + v4) := hc1
                  have hc2 : 0 ≤ M 56 (24 * v2 + (sel (wb (mtc (M 56)) v2 v4) (we (mtc (M 56)) (M 200) v2 v4) v4 - 1)) := hc2
                  refine lv_aload_n C.x C.b dX0_runs_83 rfl (lv_at hl 1 rfl) ?_
                  refine x_ga C hX 7 (by decide) rfl q743 (fun _ h => h) dX0_runs_84 ?_
                  refine lv_aload_n C.x C.b dX0_runs_87 rfl (lv_at hl 1 rfl) ?_
                  refine lv_aload_n C.x C.b dX0_runs_88 rfl (lv_at hl 4 rfl) ?_
                  refine lv_iload C.x C.b dX0_runs_89 (lv_at hl 5 rfl) ?_
                  refine r_callVi (As := [.ref (B 55 v2), .int (zi v4)]) (rest := [.ref (B 7 0)]) (cells' := 0) (slots' := 0) C (met_X0_signAt l E A B F (va_up (va_up (va_up M 3 sg) 7 m7_55) 8 m8_55) G T v2 v4 (show 0 ≤ v2 ∧ v2 < (F 6) from (by omega)) (show 0 ≤ v4 ∧ v4 < (M 200) v2 from (by omega))) (lw_V q178 q180 qs6 q86 q181) hd_X0_signAt rfl (by decide) (x_this C hX) hX hS hl.1 rfl (Nat.le_of_ble_eq_true rfl) dX0_runs_91 rfl rfl ⟨Nat.le_of_ble_eq_true rfl, Nat.le_of_ble_eq_true rfl⟩ (fun rr H locs hp hS => ?_)
                  obtain ⟨hat1, hrr, hX⟩ := hp
                  have hrr : rr = sa (sg) ((M 56) (24 * v2 + v4)) := hrr
                  subst hrr
                  replace hat1 : -2 ≤ sa (sg) ((M 56) (24 * v2 + v4)) ∧ sa (sg) ((M 56) (24 * v2 + v4)) ≤ 23 := hat1
                  refine lv_dup2_11 C.x C.b dX0_runs_94 rfl rfl ?_
                  refine x_li1 C hX 7 rfl (by decide) rfl (show 0 ≤ (sa (sg) ((M 56) (24 * v2 + v4))) ∧ (sa (sg) ((M 56) (24 * v2 + v4))) < 24 from (by omega)) (by decide) (m7_55 (sa (sg) ((M 56) (24 * v2 + v4)))) rfl dX0_runs_95 (fun _ => ?_)
                  refine r_const C dX0_runs_96 ?_
                  refine r_iadd C dX0_runs_97 ?_
                  refine x_si1 C hX hS 7 rfl (by decide) rfl (show 0 ≤ (sa (sg) ((M 56) (24 * v2 + v4))) ∧ (sa (sg) ((M 56) (24 * v2 + v4))) < 24 from (by omega)) (by decide) (fun b hb => by cases hb) (M' := (va_up (va_up (va_up M 3 sg) 7 (fup m7_55 (sa (sg) ((M 56) (24 * v2 + v4))) ((m7_55 (sa (sg) ((M 56) (24 * v2 + v4)))) + 1))) 8 m8_55)) (up_in (by decide) (up_up _ _ _ _)) dX0_runs_98 (fun H locs hX hS => ?_)
                  refine lv_aload_n C.x C.b dX0_runs_99 rfl (lv_at hl 1 rfl) ?_
                  refine x_ga C hX 8 (by decide) rfl q744 (fun _ h => h) dX0_runs_100 ?_
                  refine lv_aload_n C.x C.b dX0_runs_103 rfl (lv_at hl 1 rfl) ?_
                  refine lv_aload_n C.x C.b dX0_runs_104 rfl (lv_at hl 4 rfl) ?_
                  refine lv_iload C.x C.b dX0_runs_105 (lv_at hl 0 rfl) ?_
                  refine r_const C dX0_runs_107 ?_
                  refine r_isub C dX0_runs_108 ?_
                  refine r_callVi (As := [.ref (B 55 v2), .int (zi ((sel (wb (mtc ((M 56))) v2 v4) (we (mtc ((M 56))) ((M 200)) v2 v4) v4) - 1))]) (rest := [.ref (B 8 0)]) (cells' := 0) (slots' := 0) C (met_X0_signAt l E A B F (va_up (va_up (va_up M 3 sg) 7 (fup m7_55 (sa (sg) ((M 56) (24 * v2 + v4))) ((m7_55 (sa (sg) ((M 56) (24 * v2 + v4)))) + 1))) 8 m8_55) G T v2 ((sel (wb (mtc ((M 56))) v2 v4) (we (mtc ((M 56))) ((M 200)) v2 v4) v4) - 1) (show 0 ≤ v2 ∧ v2 < (F 6) from (by omega)) (show 0 ≤ ((sel (wb (mtc ((M 56))) v2 v4) (we (mtc ((M 56))) ((M 200)) v2 v4) v4) - 1) ∧ ((sel (wb (mtc ((M 56))) v2 v4) (we (mtc ((M 56))) ((M 200)) v2 v4) v4) - 1) < (M 200) v2 from (by omega))) (lw_V q178 q180 qs6 q86 q181) hd_X0_signAt rfl (by decide) (x_this C hX) hX hS hl.1 rfl (Nat.le_of_ble_eq_true rfl) dX0_runs_109 rfl rfl ⟨Nat.le_of_ble_eq_true rfl, Nat.le_of_ble_eq_true rfl⟩ (fun rr H locs hp hS => ?_)
                  obtain ⟨hat2, hrr, hX⟩ := hp
                  have hrr : rr = sa (sg) ((M 56) (24 * v2 + ((sel (wb (mtc ((M 56))) v2 v4) (we (mtc ((M 56))) ((M 200)) v2 v4) v4) - 1))) := hrr
                  subst hrr
                  replace hat2 : -2 ≤ sa (sg) ((M 56) (24 * v2 + ((sel (wb (mtc ((M 56))) v2 v4) (we (mtc ((M 56))) ((M 200)) v2 v4) v4) - 1))) ∧ sa (sg) ((M 56) (24 * v2 + ((sel (wb (mtc ((M 56))) v2 v4) (we (mtc ((M 56))) ((M 200)) v2 v4) v4) - 1))) ≤ 23 := hat2
                  refine lv_dup2_11 C.x C.b dX0_runs_112 rfl rfl ?_
                  refine x_li1 C hX 8 rfl (by decide) rfl (show 0 ≤ (sa (sg) ((M 56) (24 * v2 + ((sel (wb (mtc ((M 56))) v2 v4) (we (mtc ((M 56))) ((M 200)) v2 v4) v4) - 1)))) ∧ (sa (sg) ((M 56) (24 * v2 + ((sel (wb (mtc ((M 56))) v2 v4) (we (mtc ((M 56))) ((M 200)) v2 v4) v4) - 1)))) < 24 from (by omega)) (by decide) (m8_55 (sa (sg) ((M 56) (24 * v2 + ((sel (wb (mtc ((M 56))) v2 v4) (we (mtc ((M 56))) ((M 200)) v2 v4) v4) - 1))))) rfl dX0_runs_113 (fun _ => ?_)
                  refine r_const C dX0_runs_114 ?_
                  refine r_iadd C dX0_runs_115 ?_
                  refine x_si1 C hX hS 8 rfl (by decide) rfl (show 0 ≤ (sa (sg) ((M 56) (24 * v2 + ((sel (wb (mtc ((M 56))) v2 v4) (we (mtc ((M 56))) ((M 200)) v2 v4) v4) - 1)))) ∧ (sa (sg) ((M 56) (24 * v2 + ((sel (wb (mtc ((M 56))) v2 v4) (we (mtc ((M 56))) ((M 200)) v2 v4) v4) - 1)))) < 24 from (by omega)) (by decide) (fun b hb => by cases hb) (M' := (va_up (va_up (va_up M 3 sg) 7 (fup m7_55 (sa (sg) ((M 56) (24 * v2 + v4))) ((m7_55 (sa (sg) ((M 56) (24 * v2 + v4)))) + 1))) 8 (fup m8_55 (sa (sg) ((M 56) (24 * v2 + ((sel (wb (mtc ((M 56))) v2 v4) (we (mtc ((M 56))) ((M 200)) v2 v4) v4) - 1)))) ((m8_55 (sa (sg) ((M 56) (24 * v2 + ((sel (wb (mtc ((M 56))) v2 v4) (we (mtc ((M 56))) ((M 200)) v2 v4) v4) - 1))))) + 1)))) (up_up _ _ _ _) dX0_runs_116 (fun H locs hX hS => ?_)
                  refine r_iinc (lv' := [(4, .int (zi (v4 + 1))), (5, .int (zi (sel (wb (mtc ((M 56))) v2 v4) (we (mtc ((M 56))) ((M 200)) v2 v4) v4))), (0, .ref (B 49 0)), (1, .int (zi w)), (2, .int (zi v2)), (3, .ref (B 55 v2))]) C dX0_runs_117 hl (k := 5) rfl (by decide) rfl (fun ls hl => ?_)
                  refine lv_goto (tgt := 55) C.x C.b dX0_runs_120 (by decide) ?_
                  exact ih55 (v4 + 1) (fup m7_55 (sa (sg) ((M 56) (24 * v2 + v4))) ((m7_55 (sa (sg) ((M 56) (24 * v2 + v4)))) + 1)) (fup m8_55 (sa (sg) ((M 56) (24 * v2 + ((sel (wb (mtc ((M 56))) v2 v4) (we (mtc ((M 56))) ((M 200)) v2 v4) v4) - 1)))) ((m8_55 (sa (sg) ((M 56) (24 * v2 + ((sel (wb (mtc ((M 56))) v2 v4) (we (mtc ((M 56))) ((M 200)) v2 v4) v4) - 1))))) + 1)) (by omega) (by first | exact hB7.no h4.1 (fun y => absurd (hwi.2 y) (by assumption)) | exact hB7.yes h4.1 (hwi.1 (by assumption)) (by rw [ec_F]; rfl) ⟨by omega, by omega⟩) (by first | exact hB8.no h4.1 (fun y => absurd (hwi.2 y) (by assumption)) | exact hB8.yes h4.1 (hwi.1 (by assumption)) (by rw [ec_T, hsw]; rfl) ⟨by omega, by omega⟩) (by omega) H locs ls hX hS (lv_sub hl [2, 3, 4, 5, 0] rfl)
          exact L55 _ 0 m7 m8 (by have := h24 v2; omega) hA7 hA8 (Nat.lt_succ_self _) H locs ls hX hS (lv_sub hl [2, 3, 4, 1, 0] rfl)
    exact L37 _ 0 (ffill (M 7) 0 24 0) (ffill (M 8) 0 24 0) (by omega) (EdgA.zero (fun k a b => ffill_in ⟨a, by omega⟩)) (EdgA.zero (fun k a b => ffill_in ⟨a, by omega⟩)) (Nat.lt_succ_self _) H locs ls hX hS (lv_sub hl [1, 2, 0] rfl)
  · refine r_bipush C (by decide) dX0_runs_12 ?_
    rw [← hQQ]
    exact r_iret C hS (Nat.le_of_ble_eq_true rfl) (Nat.le_of_ble_eq_true rfl) dX0_runs_14 ⟨(M 3), (M 7), (M 8), (fun q => absurd q (by assumption)), (fun _ => rfl), (hX.to rfl rfl ((((up_id M (k := 3) (a := (M 3)) rfl).symm.trans rfl).trans ((up_id (va_up M 3 (M 3)) (k := 7) (a := (M 7)) rfl).symm.trans rfl)).trans ((up_id (va_up (va_up M 3 (M 3)) 7 (M 7)) (k := 8) (a := (M 8)) rfl).symm.trans rfl)) rfl rfl)⟩
