set_option maxRecDepth 100000

theorem hd_X2_look : yX2_look.cls = RX2 ∧ yX2_look.cls ≠ "java/lang/invoke/MethodHandle" ∧ yX2_look.cls ≠ "java/lang/invoke/VarHandle" ∧ (parseMethodDescriptor yX2_look.desc).map (fun d => d.parameters.length) = some 1 := by decide +kernel
abbrev rm_X2_look : Room := { frames := 0, cells := 0, slots := 0, locals := 0 }
set_option maxHeartbeats 8000000 in
theorem met_X2_look (l : Launch) (E : us_E) (A : Nat → Prop) (ad : Nat → Nat) (F : Nat → Int) (M : Nat → Int → Int) (x : Int) (hp : 0 ≤ x ∧ x < 2147483648) : cMet l yX2_look cX2_look 2 (some .int) rm_X2_look A E [.ref (ad 63), .int (zi x)] (fun H => MH E A ad F M H) (qi A (fun r H => ((-1 ≤ lk (M 44) (F 45) x ∧ lk (M 44) (F 45) x ≤ 255) ∧ (lk (M 44) (F 45) x < 0 ∨ x < F 45)) ∧ (r = lk (M 44) (F 45) x) ∧ MH E A ad F M H)) := by
  refine cMet.of (by decide) (Nat.le_of_ble_eq_true rfl) (fun p e s m args below meth c C hnm hX hS ls hl => ?_)
  have C : Cx p s m args meth c A RX2 cX2_look 2 (some .int) E := C
  have hX : MH E A ad F M s.heap := hX
  have hl : lv_has ls 2 [(0, .ref (ad 63)), (1, .int (zi x))] := hl
  generalize hH : s.heap = H at hX
  have hS : va_S A s.heap H [] := by rw [← hH]; exact hS
  generalize hlocs : ([] : List Loc) = locs at hS ⊢
  obtain ⟨QQ, hQQ⟩ : ∃ z, MQ below (qi A (fun r H => ((-1 ≤ lk (M 44) (F 45) x ∧ lk (M 44) (F 45) x ≤ 255) ∧ (lk (M 44) (F 45) x < 0 ∨ x < F 45)) ∧ (r = lk (M 44) (F 45) x) ∧ MH E A ad F M H)) args s (rm_X2_look).cells (rm_X2_look).slots A = z := ⟨_, rfl⟩
  rw [hQQ]
  have rF45 : 0 ≤ F 45 ∧ F 45 ≤ 160 := hX.2.1 45 (0, 160) rfl
  have ht44 : ∀ j, 0 ≤ M 44 j ∧ M 44 j ≤ 255 := fun j => hX.2.2 44 (0, 255) rfl j
  refine lv_iload_n C.x C.b dX2_look_0 rfl (lv_at hl 1 rfl) ?_
  refine lv_aload_n C.x C.b dX2_look_1 rfl (lv_at hl 0 rfl) ?_
  refine mg_45 C hX (F 45) rfl dX2_look_2 (fun _ => ?_)
  have J18_1 : ∀ (t0 : Int) (ht0 : t0 = sel (x < (F 45)) (M 44 x) (-1)) (H : Heap) (locs : List Loc) (ls : Array Slot) (hX : MH E A ad F M H) (hS : va_S A s.heap H locs) (hl : lv_has ls 2 [(0, .ref (ad 63)), (1, .int (zi x))]), W p l e rm_X2_look s m args below meth c H locs 0 0 QQ (F0 m 18 ls [.int (zi t0)]) := by
    intro t0 ht0 H locs ls hX hS hl
    subst ht0
    rw [← hQQ]
    exact r_iret C hS (Nat.le_of_ble_eq_true rfl) (Nat.le_of_ble_eq_true rfl) dX2_look_18 ⟨⟨lk_r ht44, by rcases Int.lt_or_le x (F 45) with q | q; exact Or.inr q; exact Or.inl (by unfold lk; rw [sel_f (by omega)]; omega)⟩, (by first | rfl | (unfold lk; first | exact (sel_t (by omega)).symm | exact (sel_f (by omega)).symm)), hX⟩
  refine r_icmp_ge (tgt := 17) C (by omega) (by omega) dX2_look_5 (by decide) (fun c_2 => ?_) (fun c_2 => ?_)
  · refine r_const C dX2_look_17 ?_
    exact J18_1 (-1) ((sel_f c_2).symm) H locs ls hX hS hl
  · refine lv_aload_n C.x C.b dX2_look_8 rfl (lv_at hl 0 rfl) ?_
    refine mg_44 C hX dX2_look_9 ?_
    refine lv_iload_n C.x C.b dX2_look_12 rfl (lv_at hl 1 rfl) ?_
    refine ml_44 C hX (by omega) (M 44) rfl dX2_look_13 (fun r13 => ?_)
    refine lv_goto (tgt := 18) C.x C.b dX2_look_14 (by decide) ?_
    exact J18_1 (M 44 x) ((sel_t c_2).symm) H locs ls hX hS hl

theorem hd_X2_is : yX2_is.cls = RX2 ∧ yX2_is.cls ≠ "java/lang/invoke/MethodHandle" ∧ yX2_is.cls ≠ "java/lang/invoke/VarHandle" ∧ (parseMethodDescriptor yX2_is.desc).map (fun d => d.parameters.length) = some 6 := by decide +kernel
abbrev rm_X2_is : Room := { frames := 1, cells := 0, slots := 0, locals := 21 }
set_option maxHeartbeats 8000000 in
theorem met_X2_is (l : Launch) (E : us_E) (A : Nat → Prop) (ad : Nat → Nat) (F : Nat → Int) (M : Nat → Int → Int) (n : Int) (a : Int) (b : Int) (c_ : Int) (d : Int) (e_ : Int) (h47 : 0 ≤ F 47 ∧ F 47 < 2147483000) (hn : -2147483648 ≤ n ∧ n < 2147483648) (ha : -2147483648 ≤ a ∧ a < 2147483648) (hb : -2147483648 ≤ b ∧ b < 2147483648) (hc_ : -2147483648 ≤ c_ ∧ c_ < 2147483648) (hd : -2147483648 ≤ d ∧ d < 2147483648) (he_ : -2147483648 ≤ e_ ∧ e_ < 2147483648) : cMet l yX2_is cX2_is 7 (some .boolean) rm_X2_is A E [.ref (ad 63), .int (zi n), .int (zi a), .int (zi b), .int (zi c_), .int (zi d), .int (zi e_)] (fun H => MH E A ad F M H) (qi A (fun r H => (r = bI (isW (M 44) (F 45) (F 47) (F 46) n a b c_ d e_)) ∧ MH E A ad F M H)) := by
  refine cMet.of (by decide) (Nat.le_of_ble_eq_true rfl) (fun p e s m args below meth c C hnm hX hS ls hl => ?_)
  have C : Cx p s m args meth c A RX2 cX2_is 7 (some .boolean) E := C
  have hX : MH E A ad F M s.heap := hX
  have hl : lv_has ls 7 [(0, .ref (ad 63)), (1, .int (zi n)), (2, .int (zi a)), (3, .int (zi b)), (4, .int (zi c_)), (5, .int (zi d)), (6, .int (zi e_))] := hl
  generalize hH : s.heap = H at hX
  have hS : va_S A s.heap H [] := by rw [← hH]; exact hS
  generalize hlocs : ([] : List Loc) = locs at hS ⊢
  obtain ⟨QQ, hQQ⟩ : ∃ z, MQ below (qi A (fun r H => (r = bI (isW (M 44) (F 45) (F 47) (F 46) n a b c_ d e_)) ∧ MH E A ad F M H)) args s (rm_X2_is).cells (rm_X2_is).slots A = z := ⟨_, rfl⟩
  rw [hQQ]
  have rF45 : 0 ≤ F 45 ∧ F 45 ≤ 160 := hX.2.1 45 (0, 160) rfl
  have rF46 : 0 ≤ F 46 ∧ F 46 ≤ 160 := hX.2.1 46 (0, 160) rfl
  have rF47 : 0 ≤ F 47 ∧ F 47 ≤ 160 := hX.2.1 47 (0, 160) rfl
  refine lv_aload_n C.x C.b dX2_is_0 rfl (lv_at hl 0 rfl) ?_
  refine mg_46 C hX (F 46) rfl dX2_is_1 (fun _ => ?_)
  refine lv_aload_n C.x C.b dX2_is_4 rfl (lv_at hl 0 rfl) ?_
  refine mg_47 C hX (F 47) rfl dX2_is_5 (fun _ => ?_)
  refine r_isub C dX2_is_8 ?_
  refine lv_iload_n C.x C.b dX2_is_9 rfl (lv_at hl 1 rfl) ?_
  have J99_1 : ∀ (t0 : Int) (ht0 : t0 = bI ((((F 46) - (F 47)) = n) ∧ (((lk ((M 44)) ((F 45)) (F 47)) = a) ∧ (((lk ((M 44)) ((F 45)) ((F 47) + 1)) = b) ∧ (((n < 3) ∧ ((n < 5) ∨ ((lk ((M 44)) ((F 45)) ((F 47) + 4)) = e_))) ∨ ((¬ (n < 3)) ∧ (((lk ((M 44)) ((F 45)) ((F 47) + 2)) = c_) ∧ (((lk ((M 44)) ((F 45)) ((F 47) + 3)) = d) ∧ ((n < 5) ∨ ((lk ((M 44)) ((F 45)) ((F 47) + 4)) = e_)))))))))) (H : Heap) (locs : List Loc) (ls : Array Slot) (hX : MH E A ad F M H) (hS : va_S A s.heap H locs) (hl : lv_has ls 7 [(0, .ref (ad 63)), (1, .int (zi n)), (2, .int (zi a)), (3, .int (zi b)), (4, .int (zi c_)), (5, .int (zi d)), (6, .int (zi e_))]), W p l e rm_X2_is s m args below meth c H locs 0 0 QQ (F0 m 99 ls [.int (zi t0)]) := by
    intro t0 ht0 H locs ls hX hS hl
    subst ht0
    rw [← hQQ]
    exact r_zret C (bI_e _) hS (Nat.le_of_ble_eq_true rfl) (Nat.le_of_ble_eq_true rfl) dX2_is_99 ⟨(bI_c ⟨fun q => by unfold isW; omega, fun q => by unfold isW at q; omega⟩), hX⟩
  refine r_icmp_ne (tgt := 98) C (by omega) (by omega) dX2_is_10 (by decide) (fun c_2 => ?_) (fun c_2 => ?_)
  · refine r_const C dX2_is_98 ?_
    exact J99_1 0 ((bI_f (fun q => c_2 q.1)).symm) H locs ls hX hS hl
  · refine lv_aload_n C.x C.b dX2_is_13 rfl (lv_at hl 0 rfl) ?_
    refine lv_aload_n C.x C.b dX2_is_14 rfl (lv_at hl 0 rfl) ?_
    refine mg_47 C hX (F 47) rfl dX2_is_15 (fun _ => ?_)
    refine r_callVi (As := [.int (zi (F 47))]) (rest := []) (cells' := 0) (slots' := 0) C (met_X2_look l E A ad F M (F 47) (show 0 ≤ (F 47) ∧ (F 47) < 2147483648 from (by omega))) (lw_V q1474 q1476 qs76 q88 q1477) hd_X2_look rfl (by decide) (m_recv C hX) hX hS hl.1 rfl (Nat.le_of_ble_eq_true rfl) dX2_is_18 rfl rfl ⟨Nat.le_of_ble_eq_true rfl, Nat.le_of_ble_eq_true rfl⟩ (fun rr H locs hp hS => ?_)
    obtain ⟨hlk18, hrr, hX⟩ := hp
    have hrr : rr = lk ((M 44)) ((F 45)) (F 47) := hrr
    subst hrr
    replace hlk18 : (-1 ≤ lk ((M 44)) ((F 45)) (F 47) ∧ lk ((M 44)) ((F 45)) (F 47) ≤ 255) ∧ (lk ((M 44)) ((F 45)) (F 47) < 0 ∨ (F 47) < (F 45)) := hlk18
    refine lv_iload_n C.x C.b dX2_is_21 rfl (lv_at hl 2 rfl) ?_
    refine r_icmp_ne (tgt := 98) C (by omega) (by omega) dX2_is_22 (by decide) (fun c_3 => ?_) (fun c_3 => ?_)
    · refine r_const C dX2_is_98 ?_
      exact J99_1 0 ((bI_f (fun q => (fun q => c_3 q.1) q.2)).symm) H locs ls hX hS hl
    · refine lv_aload_n C.x C.b dX2_is_25 rfl (lv_at hl 0 rfl) ?_
      refine lv_aload_n C.x C.b dX2_is_26 rfl (lv_at hl 0 rfl) ?_
      refine mg_47 C hX (F 47) rfl dX2_is_27 (fun _ => ?_)
      refine r_const C dX2_is_30 ?_
      refine r_iadd C dX2_is_31 ?_
      refine r_callVi (As := [.int (zi ((F 47) + 1))]) (rest := []) (cells' := 0) (slots' := 0) C (met_X2_look l E A ad F M ((F 47) + 1) (show 0 ≤ ((F 47) + 1) ∧ ((F 47) + 1) < 2147483648 from (by omega))) (lw_V q1474 q1476 qs76 q88 q1477) hd_X2_look rfl (by decide) (m_recv C hX) hX hS hl.1 rfl (Nat.le_of_ble_eq_true rfl) dX2_is_32 rfl rfl ⟨Nat.le_of_ble_eq_true rfl, Nat.le_of_ble_eq_true rfl⟩ (fun rr H locs hp hS => ?_)
      obtain ⟨hlk32, hrr, hX⟩ := hp
      have hrr : rr = lk ((M 44)) ((F 45)) ((F 47) + 1) := hrr
      subst hrr
      replace hlk32 : (-1 ≤ lk ((M 44)) ((F 45)) ((F 47) + 1) ∧ lk ((M 44)) ((F 45)) ((F 47) + 1) ≤ 255) ∧ (lk ((M 44)) ((F 45)) ((F 47) + 1) < 0 ∨ ((F 47) + 1) < (F 45)) := hlk32
      refine lv_iload_n C.x C.b dX2_is_35 rfl (lv_at hl 3 rfl) ?_
      refine r_icmp_ne (tgt := 98) C (by omega) (by omega) dX2_is_36 (by decide) (fun c_4 => ?_) (fun c_4 => ?_)
      · refine r_const C dX2_is_98 ?_
        exact J99_1 0 ((bI_f (fun q => (fun q => (fun q => c_4 q.1) q.2) q.2)).symm) H locs ls hX hS hl
      · refine lv_iload_n C.x C.b dX2_is_39 rfl (lv_at hl 1 rfl) ?_
        refine r_const C dX2_is_40 ?_
        refine r_icmp_lt (tgt := 74) C (by omega) (by decide) dX2_is_41 (by decide) (fun c_5 => ?_) (fun c_5 => ?_)
        · refine lv_iload_n C.x C.b dX2_is_74 rfl (lv_at hl 1 rfl) ?_
          refine r_const C dX2_is_75 ?_
          refine r_icmp_lt (tgt := 94) C (by omega) (by decide) dX2_is_76 (by decide) (fun c_6 => ?_) (fun c_6 => ?_)
          · refine r_const C dX2_is_94 ?_
            refine lv_goto (tgt := 99) C.x C.b dX2_is_95 (by decide) ?_
            exact J99_1 1 ((bI_t ⟨c_2, ⟨c_3, ⟨c_4, (Or.inl ⟨c_5, (Or.inl c_6)⟩)⟩⟩⟩).symm) H locs ls hX hS hl
          · refine lv_aload_n C.x C.b dX2_is_79 rfl (lv_at hl 0 rfl) ?_
            refine lv_aload_n C.x C.b dX2_is_80 rfl (lv_at hl 0 rfl) ?_
            refine mg_47 C hX (F 47) rfl dX2_is_81 (fun _ => ?_)
            refine r_const C dX2_is_84 ?_
            refine r_iadd C dX2_is_85 ?_
            refine r_callVi (As := [.int (zi ((F 47) + 4))]) (rest := []) (cells' := 0) (slots' := 0) C (met_X2_look l E A ad F M ((F 47) + 4) (show 0 ≤ ((F 47) + 4) ∧ ((F 47) + 4) < 2147483648 from (by omega))) (lw_V q1474 q1476 qs76 q88 q1477) hd_X2_look rfl (by decide) (m_recv C hX) hX hS hl.1 rfl (Nat.le_of_ble_eq_true rfl) dX2_is_86 rfl rfl ⟨Nat.le_of_ble_eq_true rfl, Nat.le_of_ble_eq_true rfl⟩ (fun rr H locs hp hS => ?_)
            obtain ⟨hlk86, hrr, hX⟩ := hp
            have hrr : rr = lk ((M 44)) ((F 45)) ((F 47) + 4) := hrr
            subst hrr
            replace hlk86 : (-1 ≤ lk ((M 44)) ((F 45)) ((F 47) + 4) ∧ lk ((M 44)) ((F 45)) ((F 47) + 4) ≤ 255) ∧ (lk ((M 44)) ((F 45)) ((F 47) + 4) < 0 ∨ ((F 47) + 4) < (F 45)) := hlk86
            refine lv_iload C.x C.b dX2_is_89 (lv_at hl 6 rfl) ?_
            refine r_icmp_ne (tgt := 98) C (by omega) (by omega) dX2_is_91 (by decide) (fun c_7 => ?_) (fun c_7 => ?_)
            · refine r_const C dX2_is_98 ?_
              exact J99_1 0 ((bI_f (fun q => (fun q => (fun q => (fun q => q.elim (fun q => (fun q => q.elim c_6 c_7) q.2) (fun q => (fun q => q c_5) q.1)) q.2) q.2) q.2)).symm) H locs ls hX hS hl
            · refine r_const C dX2_is_94 ?_
              refine lv_goto (tgt := 99) C.x C.b dX2_is_95 (by decide) ?_
              exact J99_1 1 ((bI_t ⟨c_2, ⟨c_3, ⟨c_4, (Or.inl ⟨c_5, (Or.inr c_7)⟩)⟩⟩⟩).symm) H locs ls hX hS hl
        · refine lv_aload_n C.x C.b dX2_is_44 rfl (lv_at hl 0 rfl) ?_
          refine lv_aload_n C.x C.b dX2_is_45 rfl (lv_at hl 0 rfl) ?_
          refine mg_47 C hX (F 47) rfl dX2_is_46 (fun _ => ?_)
          refine r_const C dX2_is_49 ?_
          refine r_iadd C dX2_is_50 ?_
          refine r_callVi (As := [.int (zi ((F 47) + 2))]) (rest := []) (cells' := 0) (slots' := 0) C (met_X2_look l E A ad F M ((F 47) + 2) (show 0 ≤ ((F 47) + 2) ∧ ((F 47) + 2) < 2147483648 from (by omega))) (lw_V q1474 q1476 qs76 q88 q1477) hd_X2_look rfl (by decide) (m_recv C hX) hX hS hl.1 rfl (Nat.le_of_ble_eq_true rfl) dX2_is_51 rfl rfl ⟨Nat.le_of_ble_eq_true rfl, Nat.le_of_ble_eq_true rfl⟩ (fun rr H locs hp hS => ?_)
          obtain ⟨hlk51, hrr, hX⟩ := hp
          have hrr : rr = lk ((M 44)) ((F 45)) ((F 47) + 2) := hrr
          subst hrr
          replace hlk51 : (-1 ≤ lk ((M 44)) ((F 45)) ((F 47) + 2) ∧ lk ((M 44)) ((F 45)) ((F 47) + 2) ≤ 255) ∧ (lk ((M 44)) ((F 45)) ((F 47) + 2) < 0 ∨ ((F 47) + 2) < (F 45)) := hlk51
          refine lv_iload C.x C.b dX2_is_54 (lv_at hl 4 rfl) ?_
          refine r_icmp_ne (tgt := 98) C (by omega) (by omega) dX2_is_56 (by decide) (fun c_8 => ?_) (fun c_8 => ?_)
          · refine r_const C dX2_is_98 ?_
            exact J99_1 0 ((bI_f (fun q => (fun q => (fun q => (fun q => q.elim (fun q => c_5 q.1) (fun q => (fun q => c_8 q.1) q.2)) q.2) q.2) q.2)).symm) H locs ls hX hS hl
          · refine lv_aload_n C.x C.b dX2_is_59 rfl (lv_at hl 0 rfl) ?_
            refine lv_aload_n C.x C.b dX2_is_60 rfl (lv_at hl 0 rfl) ?_
            refine mg_47 C hX (F 47) rfl dX2_is_61 (fun _ => ?_)
            refine r_const C dX2_is_64 ?_
            refine r_iadd C dX2_is_65 ?_
            refine r_callVi (As := [.int (zi ((F 47) + 3))]) (rest := []) (cells' := 0) (slots' := 0) C (met_X2_look l E A ad F M ((F 47) + 3) (show 0 ≤ ((F 47) + 3) ∧ ((F 47) + 3) < 2147483648 from (by omega))) (lw_V q1474 q1476 qs76 q88 q1477) hd_X2_look rfl (by decide) (m_recv C hX) hX hS hl.1 rfl (Nat.le_of_ble_eq_true rfl) dX2_is_66 rfl rfl ⟨Nat.le_of_ble_eq_true rfl, Nat.le_of_ble_eq_true rfl⟩ (fun rr H locs hp hS => ?_)
            obtain ⟨hlk66, hrr, hX⟩ := hp
            have hrr : rr = lk ((M 44)) ((F 45)) ((F 47) + 3) := hrr
            subst hrr
            replace hlk66 : (-1 ≤ lk ((M 44)) ((F 45)) ((F 47) + 3) ∧ lk ((M 44)) ((F 45)) ((F 47) + 3) ≤ 255) ∧ (lk ((M 44)) ((F 45)) ((F 47) + 3) < 0 ∨ ((F 47) + 3) < (F 45)) := hlk66
            refine lv_iload C.x C.b dX2_is_69 (lv_at hl 5 rfl) ?_
            refine r_icmp_ne (tgt := 98) C (by omega) (by omega) dX2_is_71 (by decide) (fun c_9 => ?_) (fun c_9 => ?_)
            · refine r_const C dX2_is_98 ?_
              exact J99_1 0 ((bI_f (fun q => (fun q => (fun q => (fun q => q.elim (fun q => c_5 q.1) (fun q => (fun q => (fun q => c_9 q.1) q.2) q.2)) q.2) q.2) q.2)).symm) H locs ls hX hS hl
            · refine lv_iload_n C.x C.b dX2_is_74 rfl (lv_at hl 1 rfl) ?_
              refine r_const C dX2_is_75 ?_
              refine r_icmp_lt (tgt := 94) C (by omega) (by decide) dX2_is_76 (by decide) (fun c_10 => ?_) (fun c_10 => ?_)
              · refine r_const C dX2_is_94 ?_
                refine lv_goto (tgt := 99) C.x C.b dX2_is_95 (by decide) ?_
                exact J99_1 1 ((bI_t ⟨c_2, ⟨c_3, ⟨c_4, (Or.inr ⟨c_5, ⟨c_8, ⟨c_9, (Or.inl c_10)⟩⟩⟩)⟩⟩⟩).symm) H locs ls hX hS hl
              · refine lv_aload_n C.x C.b dX2_is_79 rfl (lv_at hl 0 rfl) ?_
                refine lv_aload_n C.x C.b dX2_is_80 rfl (lv_at hl 0 rfl) ?_
                refine mg_47 C hX (F 47) rfl dX2_is_81 (fun _ => ?_)
                refine r_const C dX2_is_84 ?_
                refine r_iadd C dX2_is_85 ?_
                refine r_callVi (As := [.int (zi ((F 47) + 4))]) (rest := []) (cells' := 0) (slots' := 0) C (met_X2_look l E A ad F M ((F 47) + 4) (show 0 ≤ ((F 47) + 4) ∧ ((F 47) + 4) < 2147483648 from (by omega))) (lw_V q1474 q1476 qs76 q88 q1477) hd_X2_look rfl (by decide) (m_recv C hX) hX hS hl.1 rfl (Nat.le_of_ble_eq_true rfl) dX2_is_86 rfl rfl ⟨Nat.le_of_ble_eq_true rfl, Nat.le_of_ble_eq_true rfl⟩ (fun rr H locs hp hS => ?_)
                obtain ⟨hlk86, hrr, hX⟩ := hp
                have hrr : rr = lk ((M 44)) ((F 45)) ((F 47) + 4) := hrr
                subst hrr
                replace hlk86 : (-1 ≤ lk ((M 44)) ((F 45)) ((F 47) + 4) ∧ lk ((M 44)) ((F 45)) ((F 47) + 4) ≤ 255) ∧ (lk ((M 44)) ((F 45)) ((F 47) + 4) < 0 ∨ ((F 47) + 4) < (F 45)) := hlk86
                refine lv_iload C.x C.b dX2_is_89 (lv_at hl 6 rfl) ?_
                refine r_icmp_ne (tgt := 98) C (by omega) (by omega) dX2_is_91 (by decide) (fun c_11 => ?_) (fun c_11 => ?_)
                · refine r_const C dX2_is_98 ?_
                  exact J99_1 0 ((bI_f (fun q => (fun q => (fun q => (fun q => q.elim (fun q => c_5 q.1) (fun q => (fun q => (fun q => (fun q => q.elim c_10 c_11) q.2) q.2) q.2)) q.2) q.2) q.2)).symm) H locs ls hX hS hl
                · refine r_const C dX2_is_94 ?_
                  refine lv_goto (tgt := 99) C.x C.b dX2_is_95 (by decide) ?_
                  exact J99_1 1 ((bI_t ⟨c_2, ⟨c_3, ⟨c_4, (Or.inr ⟨c_5, ⟨c_8, ⟨c_9, (Or.inr c_11)⟩⟩⟩)⟩⟩⟩).symm) H locs ls hX hS hl

theorem hd_X2_nameNow : yX2_nameNow.cls = RX2 ∧ yX2_nameNow.cls ≠ "java/lang/invoke/MethodHandle" ∧ yX2_nameNow.cls ≠ "java/lang/invoke/VarHandle" ∧ (parseMethodDescriptor yX2_nameNow.desc).map (fun d => d.parameters.length) = some 0 := by decide +kernel
abbrev rm_X2_nameNow : Room := { frames := 2, cells := 0, slots := 0, locals := 47 }
set_option maxHeartbeats 8000000 in
theorem met_X2_nameNow (l : Launch) (E : us_E) (A : Nat → Prop) (ad : Nat → Nat) (F : Nat → Int) (M : Nat → Int → Int) : cMet l yX2_nameNow cX2_nameNow 1 (some .int) rm_X2_nameNow A E [.ref (ad 63)] (fun H => MH E A ad F M H) (qi A (fun r H => (-4 ≤ nmv (M 44) (F 45) (F 47) (F 46) ∧ nmv (M 44) (F 45) (F 47) (F 46) ≤ 5) ∧ (r = nmv (M 44) (F 45) (F 47) (F 46)) ∧ MH E A ad F M H)) := by
  refine cMet.of (by decide) (Nat.le_of_ble_eq_true rfl) (fun p e s m args below meth c C hnm hX hS ls hl => ?_)
  have C : Cx p s m args meth c A RX2 cX2_nameNow 1 (some .int) E := C
  have hX : MH E A ad F M s.heap := hX
  have hl : lv_has ls 1 [(0, .ref (ad 63))] := hl
  generalize hH : s.heap = H at hX
  have hS : va_S A s.heap H [] := by rw [← hH]; exact hS
  generalize hlocs : ([] : List Loc) = locs at hS ⊢
  obtain ⟨QQ, hQQ⟩ : ∃ z, MQ below (qi A (fun r H => (-4 ≤ nmv (M 44) (F 45) (F 47) (F 46) ∧ nmv (M 44) (F 45) (F 47) (F 46) ≤ 5) ∧ (r = nmv (M 44) (F 45) (F 47) (F 46)) ∧ MH E A ad F M H)) args s (rm_X2_nameNow).cells (rm_X2_nameNow).slots A = z := ⟨_, rfl⟩
  rw [hQQ]
  have rF45 : 0 ≤ F 45 ∧ F 45 ≤ 160 := hX.2.1 45 (0, 160) rfl
  have rF46 : 0 ≤ F 46 ∧ F 46 ≤ 160 := hX.2.1 46 (0, 160) rfl
  have rF47 : 0 ≤ F 47 ∧ F 47 ≤ 160 := hX.2.1 47 (0, 160) rfl
  refine lv_aload_n C.x C.b dX2_nameNow_0 rfl (lv_at hl 0 rfl) ?_
  refine r_const C dX2_nameNow_1 ?_
  refine r_bipush C (by decide) dX2_nameNow_2 ?_
  refine r_bipush C (by decide) dX2_nameNow_4 ?_
  refine r_bipush C (by decide) dX2_nameNow_6 ?_
  refine r_bipush C (by decide) dX2_nameNow_8 ?_
  refine r_const C dX2_nameNow_10 ?_
  refine r_callVi (As := [.int (zi 4), .int (zi 115), .int (zi 105), .int (zi 103), .int (zi 110), .int (zi 0)]) (rest := []) (cells' := 0) (slots' := 0) C (met_X2_is l E A ad F M 4 115 105 103 110 0 (show 0 ≤ (F 47) ∧ (F 47) < 2147483000 from (by omega)) (show -2147483648 ≤ 4 ∧ 4 < 2147483648 from (by omega)) (show -2147483648 ≤ 115 ∧ 115 < 2147483648 from (by omega)) (show -2147483648 ≤ 105 ∧ 105 < 2147483648 from (by omega)) (show -2147483648 ≤ 103 ∧ 103 < 2147483648 from (by omega)) (show -2147483648 ≤ 110 ∧ 110 < 2147483648 from (by omega)) (show -2147483648 ≤ 0 ∧ 0 < 2147483648 from (by omega))) (lw_V q1484 q1486 qs78 q88 q1487) hd_X2_is rfl (by decide) (m_recv C hX) hX hS hl.1 rfl (Nat.le_of_ble_eq_true rfl) dX2_nameNow_11 rfl rfl ⟨Nat.le_of_ble_eq_true rfl, Nat.le_of_ble_eq_true rfl⟩ (fun rr H locs hp hS => ?_)
  obtain ⟨hrr, hX⟩ := hp
  have hrr : rr = bI (isW ((M 44)) ((F 45)) ((F 47)) ((F 46)) 4 115 105 103 110 0) := hrr
  subst hrr
  refine r_if_eq_b (tgt := 19) C dX2_nameNow_14 (by decide) (fun c_1 => ?_) (fun c_1 => ?_)
  · refine lv_aload_n C.x C.b dX2_nameNow_19 rfl (lv_at hl 0 rfl) ?_
    refine r_const C dX2_nameNow_20 ?_
    refine r_bipush C (by decide) dX2_nameNow_21 ?_
    refine r_bipush C (by decide) dX2_nameNow_23 ?_
    refine r_bipush C (by decide) dX2_nameNow_25 ?_
    refine r_bipush C (by decide) dX2_nameNow_27 ?_
    refine r_bipush C (by decide) dX2_nameNow_29 ?_
    refine r_callVi (As := [.int (zi 5), .int (zi 115), .int (zi 111), .int (zi 117), .int (zi 110), .int (zi 100)]) (rest := []) (cells' := 0) (slots' := 0) C (met_X2_is l E A ad F M 5 115 111 117 110 100 (show 0 ≤ (F 47) ∧ (F 47) < 2147483000 from (by omega)) (show -2147483648 ≤ 5 ∧ 5 < 2147483648 from (by omega)) (show -2147483648 ≤ 115 ∧ 115 < 2147483648 from (by omega)) (show -2147483648 ≤ 111 ∧ 111 < 2147483648 from (by omega)) (show -2147483648 ≤ 117 ∧ 117 < 2147483648 from (by omega)) (show -2147483648 ≤ 110 ∧ 110 < 2147483648 from (by omega)) (show -2147483648 ≤ 100 ∧ 100 < 2147483648 from (by omega))) (lw_V q1484 q1486 qs78 q88 q1487) hd_X2_is rfl (by decide) (m_recv C hX) hX hS hl.1 rfl (Nat.le_of_ble_eq_true rfl) dX2_nameNow_31 rfl rfl ⟨Nat.le_of_ble_eq_true rfl, Nat.le_of_ble_eq_true rfl⟩ (fun rr H locs hp hS => ?_)
    obtain ⟨hrr, hX⟩ := hp
    have hrr : rr = bI (isW ((M 44)) ((F 45)) ((F 47)) ((F 46)) 5 115 111 117 110 100) := hrr
    subst hrr
    refine r_if_eq_b (tgt := 39) C dX2_nameNow_34 (by decide) (fun c_2 => ?_) (fun c_2 => ?_)
    · refine lv_aload_n C.x C.b dX2_nameNow_39 rfl (lv_at hl 0 rfl) ?_
      refine r_const C dX2_nameNow_40 ?_
      refine r_bipush C (by decide) dX2_nameNow_41 ?_
      refine r_bipush C (by decide) dX2_nameNow_43 ?_
      refine r_bipush C (by decide) dX2_nameNow_45 ?_
      refine r_bipush C (by decide) dX2_nameNow_47 ?_
      refine r_const C dX2_nameNow_49 ?_
      refine r_callVi (As := [.int (zi 4), .int (zi 119), .int (zi 111), .int (zi 114), .int (zi 100), .int (zi 0)]) (rest := []) (cells' := 0) (slots' := 0) C (met_X2_is l E A ad F M 4 119 111 114 100 0 (show 0 ≤ (F 47) ∧ (F 47) < 2147483000 from (by omega)) (show -2147483648 ≤ 4 ∧ 4 < 2147483648 from (by omega)) (show -2147483648 ≤ 119 ∧ 119 < 2147483648 from (by omega)) (show -2147483648 ≤ 111 ∧ 111 < 2147483648 from (by omega)) (show -2147483648 ≤ 114 ∧ 114 < 2147483648 from (by omega)) (show -2147483648 ≤ 100 ∧ 100 < 2147483648 from (by omega)) (show -2147483648 ≤ 0 ∧ 0 < 2147483648 from (by omega))) (lw_V q1484 q1486 qs78 q88 q1487) hd_X2_is rfl (by decide) (m_recv C hX) hX hS hl.1 rfl (Nat.le_of_ble_eq_true rfl) dX2_nameNow_50 rfl rfl ⟨Nat.le_of_ble_eq_true rfl, Nat.le_of_ble_eq_true rfl⟩ (fun rr H locs hp hS => ?_)
      obtain ⟨hrr, hX⟩ := hp
      have hrr : rr = bI (isW ((M 44)) ((F 45)) ((F 47)) ((F 46)) 4 119 111 114 100 0) := hrr
      subst hrr
      refine r_if_eq_b (tgt := 58) C dX2_nameNow_53 (by decide) (fun c_3 => ?_) (fun c_3 => ?_)
      · refine lv_aload_n C.x C.b dX2_nameNow_58 rfl (lv_at hl 0 rfl) ?_
        refine r_const C dX2_nameNow_59 ?_
        refine r_bipush C (by decide) dX2_nameNow_60 ?_
        refine r_bipush C (by decide) dX2_nameNow_62 ?_
        refine r_bipush C (by decide) dX2_nameNow_64 ?_
        refine r_bipush C (by decide) dX2_nameNow_66 ?_
        refine r_const C dX2_nameNow_68 ?_
        refine r_callVi (As := [.int (zi 4), .int (zi 110), .int (zi 97), .int (zi 109), .int (zi 101), .int (zi 0)]) (rest := []) (cells' := 0) (slots' := 0) C (met_X2_is l E A ad F M 4 110 97 109 101 0 (show 0 ≤ (F 47) ∧ (F 47) < 2147483000 from (by omega)) (show -2147483648 ≤ 4 ∧ 4 < 2147483648 from (by omega)) (show -2147483648 ≤ 110 ∧ 110 < 2147483648 from (by omega)) (show -2147483648 ≤ 97 ∧ 97 < 2147483648 from (by omega)) (show -2147483648 ≤ 109 ∧ 109 < 2147483648 from (by omega)) (show -2147483648 ≤ 101 ∧ 101 < 2147483648 from (by omega)) (show -2147483648 ≤ 0 ∧ 0 < 2147483648 from (by omega))) (lw_V q1484 q1486 qs78 q88 q1487) hd_X2_is rfl (by decide) (m_recv C hX) hX hS hl.1 rfl (Nat.le_of_ble_eq_true rfl) dX2_nameNow_69 rfl rfl ⟨Nat.le_of_ble_eq_true rfl, Nat.le_of_ble_eq_true rfl⟩ (fun rr H locs hp hS => ?_)
        obtain ⟨hrr, hX⟩ := hp
        have hrr : rr = bI (isW ((M 44)) ((F 45)) ((F 47)) ((F 46)) 4 110 97 109 101 0) := hrr
        subst hrr
        refine r_if_eq_b (tgt := 77) C dX2_nameNow_72 (by decide) (fun c_4 => ?_) (fun c_4 => ?_)
        · refine lv_aload_n C.x C.b dX2_nameNow_77 rfl (lv_at hl 0 rfl) ?_
          refine r_bipush C (by decide) dX2_nameNow_78 ?_
          refine r_bipush C (by decide) dX2_nameNow_80 ?_
          refine r_bipush C (by decide) dX2_nameNow_82 ?_
          refine r_bipush C (by decide) dX2_nameNow_84 ?_
          refine r_bipush C (by decide) dX2_nameNow_86 ?_
          refine r_bipush C (by decide) dX2_nameNow_88 ?_
          refine r_callVi (As := [.int (zi 6), .int (zi 116), .int (zi 111), .int (zi 110), .int (zi 103), .int (zi 117)]) (rest := []) (cells' := 0) (slots' := 0) C (met_X2_is l E A ad F M 6 116 111 110 103 117 (show 0 ≤ (F 47) ∧ (F 47) < 2147483000 from (by omega)) (show -2147483648 ≤ 6 ∧ 6 < 2147483648 from (by omega)) (show -2147483648 ≤ 116 ∧ 116 < 2147483648 from (by omega)) (show -2147483648 ≤ 111 ∧ 111 < 2147483648 from (by omega)) (show -2147483648 ≤ 110 ∧ 110 < 2147483648 from (by omega)) (show -2147483648 ≤ 103 ∧ 103 < 2147483648 from (by omega)) (show -2147483648 ≤ 117 ∧ 117 < 2147483648 from (by omega))) (lw_V q1484 q1486 qs78 q88 q1487) hd_X2_is rfl (by decide) (m_recv C hX) hX hS hl.1 rfl (Nat.le_of_ble_eq_true rfl) dX2_nameNow_90 rfl rfl ⟨Nat.le_of_ble_eq_true rfl, Nat.le_of_ble_eq_true rfl⟩ (fun rr H locs hp hS => ?_)
          obtain ⟨hrr, hX⟩ := hp
          have hrr : rr = bI (isW ((M 44)) ((F 45)) ((F 47)) ((F 46)) 6 116 111 110 103 117) := hrr
          subst hrr
          refine r_if_eq_b (tgt := 113) C dX2_nameNow_93 (by decide) (fun c_5 => ?_) (fun c_5 => ?_)
          · refine lv_aload_n C.x C.b dX2_nameNow_113 rfl (lv_at hl 0 rfl) ?_
            refine r_const C dX2_nameNow_114 ?_
            refine r_bipush C (by decide) dX2_nameNow_115 ?_
            refine r_bipush C (by decide) dX2_nameNow_117 ?_
            refine r_const C dX2_nameNow_119 ?_
            refine r_const C dX2_nameNow_120 ?_
            refine r_const C dX2_nameNow_121 ?_
            refine r_callVi (As := [.int (zi 2), .int (zi 111), .int (zi 110), .int (zi 0), .int (zi 0), .int (zi 0)]) (rest := []) (cells' := 0) (slots' := 0) C (met_X2_is l E A ad F M 2 111 110 0 0 0 (show 0 ≤ (F 47) ∧ (F 47) < 2147483000 from (by omega)) (show -2147483648 ≤ 2 ∧ 2 < 2147483648 from (by omega)) (show -2147483648 ≤ 111 ∧ 111 < 2147483648 from (by omega)) (show -2147483648 ≤ 110 ∧ 110 < 2147483648 from (by omega)) (show -2147483648 ≤ 0 ∧ 0 < 2147483648 from (by omega)) (show -2147483648 ≤ 0 ∧ 0 < 2147483648 from (by omega)) (show -2147483648 ≤ 0 ∧ 0 < 2147483648 from (by omega))) (lw_V q1484 q1486 qs78 q88 q1487) hd_X2_is rfl (by decide) (m_recv C hX) hX hS hl.1 rfl (Nat.le_of_ble_eq_true rfl) dX2_nameNow_122 rfl rfl ⟨Nat.le_of_ble_eq_true rfl, Nat.le_of_ble_eq_true rfl⟩ (fun rr H locs hp hS => ?_)
            obtain ⟨hrr, hX⟩ := hp
            have hrr : rr = bI (isW ((M 44)) ((F 45)) ((F 47)) ((F 46)) 2 111 110 0 0 0) := hrr
            subst hrr
            refine r_if_eq_b (tgt := 132) C dX2_nameNow_125 (by decide) (fun c_6 => ?_) (fun c_6 => ?_)
            · refine r_bipush C (by decide) dX2_nameNow_132 ?_
              rw [← hQQ]
              exact r_iret C hS (Nat.le_of_ble_eq_true rfl) (Nat.le_of_ble_eq_true rfl) dX2_nameNow_134 ⟨(by have := nmv_r (M 44) (F 45) (F 47) (F 46); omega), (by unfold nmv; first | (rw [sel_t (by assumption)]; done) | (rw [sel_f (by assumption), sel_t (by assumption)]; done) | (rw [sel_f (by assumption), sel_f (by assumption), sel_t (by assumption)]; done) | (rw [sel_f (by assumption), sel_f (by assumption), sel_f (by assumption), sel_t (by assumption)]; done) | (rw [sel_f (by assumption), sel_f (by assumption), sel_f (by assumption), sel_f (by assumption), sel_t ⟨by assumption, by assumption⟩]; done) | (rw [sel_f (by assumption), sel_f (by assumption), sel_f (by assumption), sel_f (by assumption), sel_f (fun q => by first | exact absurd q.1 (by assumption) | exact absurd q.2 (by assumption))]; first | (rw [sel_t (by assumption)]; done) | (rw [sel_f (by assumption)]; done))), hX⟩
            · refine r_const C dX2_nameNow_128 ?_
              refine lv_goto (tgt := 134) C.x C.b dX2_nameNow_129 (by decide) ?_
              rw [← hQQ]
              exact r_iret C hS (Nat.le_of_ble_eq_true rfl) (Nat.le_of_ble_eq_true rfl) dX2_nameNow_134 ⟨(by have := nmv_r (M 44) (F 45) (F 47) (F 46); omega), (by unfold nmv; first | (rw [sel_t (by assumption)]; done) | (rw [sel_f (by assumption), sel_t (by assumption)]; done) | (rw [sel_f (by assumption), sel_f (by assumption), sel_t (by assumption)]; done) | (rw [sel_f (by assumption), sel_f (by assumption), sel_f (by assumption), sel_t (by assumption)]; done) | (rw [sel_f (by assumption), sel_f (by assumption), sel_f (by assumption), sel_f (by assumption), sel_t ⟨by assumption, by assumption⟩]; done) | (rw [sel_f (by assumption), sel_f (by assumption), sel_f (by assumption), sel_f (by assumption), sel_f (fun q => by first | exact absurd q.1 (by assumption) | exact absurd q.2 (by assumption))]; first | (rw [sel_t (by assumption)]; done) | (rw [sel_f (by assumption)]; done))), hX⟩
          · refine lv_aload_n C.x C.b dX2_nameNow_96 rfl (lv_at hl 0 rfl) ?_
            refine lv_aload_n C.x C.b dX2_nameNow_97 rfl (lv_at hl 0 rfl) ?_
            refine mg_47 C hX (F 47) rfl dX2_nameNow_98 (fun _ => ?_)
            refine r_const C dX2_nameNow_101 ?_
            refine r_iadd C dX2_nameNow_102 ?_
            refine r_callVi (As := [.int (zi ((F 47) + 5))]) (rest := []) (cells' := 0) (slots' := 0) C (met_X2_look l E A ad F M ((F 47) + 5) (show 0 ≤ ((F 47) + 5) ∧ ((F 47) + 5) < 2147483648 from (by omega))) (lw_V q1474 q1476 qs76 q88 q1477) hd_X2_look rfl (by decide) (m_recv C hX) hX hS hl.1 rfl (Nat.le_of_ble_eq_true rfl) dX2_nameNow_103 rfl rfl ⟨Nat.le_of_ble_eq_true rfl, Nat.le_of_ble_eq_true rfl⟩ (fun rr H locs hp hS => ?_)
            obtain ⟨hlk, hrr, hX⟩ := hp
            have hrr : rr = lk ((M 44)) ((F 45)) ((F 47) + 5) := hrr
            subst hrr
            replace hlk : (-1 ≤ lk ((M 44)) ((F 45)) ((F 47) + 5) ∧ lk ((M 44)) ((F 45)) ((F 47) + 5) ≤ 255) ∧ (lk ((M 44)) ((F 45)) ((F 47) + 5) < 0 ∨ ((F 47) + 5) < (F 45)) := hlk
            refine r_bipush C (by decide) dX2_nameNow_106 ?_
            refine r_icmp_ne (tgt := 113) C (by omega) (by decide) dX2_nameNow_108 (by decide) (fun c_7 => ?_) (fun c_7 => ?_)
            · refine lv_aload_n C.x C.b dX2_nameNow_113 rfl (lv_at hl 0 rfl) ?_
              refine r_const C dX2_nameNow_114 ?_
              refine r_bipush C (by decide) dX2_nameNow_115 ?_
              refine r_bipush C (by decide) dX2_nameNow_117 ?_
              refine r_const C dX2_nameNow_119 ?_
              refine r_const C dX2_nameNow_120 ?_
              refine r_const C dX2_nameNow_121 ?_
              refine r_callVi (As := [.int (zi 2), .int (zi 111), .int (zi 110), .int (zi 0), .int (zi 0), .int (zi 0)]) (rest := []) (cells' := 0) (slots' := 0) C (met_X2_is l E A ad F M 2 111 110 0 0 0 (show 0 ≤ (F 47) ∧ (F 47) < 2147483000 from (by omega)) (show -2147483648 ≤ 2 ∧ 2 < 2147483648 from (by omega)) (show -2147483648 ≤ 111 ∧ 111 < 2147483648 from (by omega)) (show -2147483648 ≤ 110 ∧ 110 < 2147483648 from (by omega)) (show -2147483648 ≤ 0 ∧ 0 < 2147483648 from (by omega)) (show -2147483648 ≤ 0 ∧ 0 < 2147483648 from (by omega)) (show -2147483648 ≤ 0 ∧ 0 < 2147483648 from (by omega))) (lw_V q1484 q1486 qs78 q88 q1487) hd_X2_is rfl (by decide) (m_recv C hX) hX hS hl.1 rfl (Nat.le_of_ble_eq_true rfl) dX2_nameNow_122 rfl rfl ⟨Nat.le_of_ble_eq_true rfl, Nat.le_of_ble_eq_true rfl⟩ (fun rr H locs hp hS => ?_)
              obtain ⟨hrr, hX⟩ := hp
              have hrr : rr = bI (isW ((M 44)) ((F 45)) ((F 47)) ((F 46)) 2 111 110 0 0 0) := hrr
              subst hrr
              refine r_if_eq_b (tgt := 132) C dX2_nameNow_125 (by decide) (fun c_8 => ?_) (fun c_8 => ?_)
              · refine r_bipush C (by decide) dX2_nameNow_132 ?_
                rw [← hQQ]
                exact r_iret C hS (Nat.le_of_ble_eq_true rfl) (Nat.le_of_ble_eq_true rfl) dX2_nameNow_134 ⟨(by have := nmv_r (M 44) (F 45) (F 47) (F 46); omega), (by unfold nmv; first | (rw [sel_t (by assumption)]; done) | (rw [sel_f (by assumption), sel_t (by assumption)]; done) | (rw [sel_f (by assumption), sel_f (by assumption), sel_t (by assumption)]; done) | (rw [sel_f (by assumption), sel_f (by assumption), sel_f (by assumption), sel_t (by assumption)]; done) | (rw [sel_f (by assumption), sel_f (by assumption), sel_f (by assumption), sel_f (by assumption), sel_t ⟨by assumption, by assumption⟩]; done) | (rw [sel_f (by assumption), sel_f (by assumption), sel_f (by assumption), sel_f (by assumption), sel_f (fun q => by first | exact absurd q.1 (by assumption) | exact absurd q.2 (by assumption))]; first | (rw [sel_t (by assumption)]; done) | (rw [sel_f (by assumption)]; done))), hX⟩
              · refine r_const C dX2_nameNow_128 ?_
                refine lv_goto (tgt := 134) C.x C.b dX2_nameNow_129 (by decide) ?_
                rw [← hQQ]
                exact r_iret C hS (Nat.le_of_ble_eq_true rfl) (Nat.le_of_ble_eq_true rfl) dX2_nameNow_134 ⟨(by have := nmv_r (M 44) (F 45) (F 47) (F 46); omega), (by unfold nmv; first | (rw [sel_t (by assumption)]; done) | (rw [sel_f (by assumption), sel_t (by assumption)]; done) | (rw [sel_f (by assumption), sel_f (by assumption), sel_t (by assumption)]; done) | (rw [sel_f (by assumption), sel_f (by assumption), sel_f (by assumption), sel_t (by assumption)]; done) | (rw [sel_f (by assumption), sel_f (by assumption), sel_f (by assumption), sel_f (by assumption), sel_t ⟨by assumption, by assumption⟩]; done) | (rw [sel_f (by assumption), sel_f (by assumption), sel_f (by assumption), sel_f (by assumption), sel_f (fun q => by first | exact absurd q.1 (by assumption) | exact absurd q.2 (by assumption))]; first | (rw [sel_t (by assumption)]; done) | (rw [sel_f (by assumption)]; done))), hX⟩
            · refine r_const C dX2_nameNow_111 ?_
              rw [← hQQ]
              exact r_iret C hS (Nat.le_of_ble_eq_true rfl) (Nat.le_of_ble_eq_true rfl) dX2_nameNow_112 ⟨(by have := nmv_r (M 44) (F 45) (F 47) (F 46); omega), (by unfold nmv; first | (rw [sel_t (by assumption)]; done) | (rw [sel_f (by assumption), sel_t (by assumption)]; done) | (rw [sel_f (by assumption), sel_f (by assumption), sel_t (by assumption)]; done) | (rw [sel_f (by assumption), sel_f (by assumption), sel_f (by assumption), sel_t (by assumption)]; done) | (rw [sel_f (by assumption), sel_f (by assumption), sel_f (by assumption), sel_f (by assumption), sel_t ⟨by assumption, by assumption⟩]; done) | (rw [sel_f (by assumption), sel_f (by assumption), sel_f (by assumption), sel_f (by assumption), sel_f (fun q => by first | exact absurd q.1 (by assumption) | exact absurd q.2 (by assumption))]; first | (rw [sel_t (by assumption)]; done) | (rw [sel_f (by assumption)]; done))), hX⟩
        · refine r_const C dX2_nameNow_75 ?_
          rw [← hQQ]
          exact r_iret C hS (Nat.le_of_ble_eq_true rfl) (Nat.le_of_ble_eq_true rfl) dX2_nameNow_76 ⟨(by have := nmv_r (M 44) (F 45) (F 47) (F 46); omega), (by unfold nmv; first | (rw [sel_t (by assumption)]; done) | (rw [sel_f (by assumption), sel_t (by assumption)]; done) | (rw [sel_f (by assumption), sel_f (by assumption), sel_t (by assumption)]; done) | (rw [sel_f (by assumption), sel_f (by assumption), sel_f (by assumption), sel_t (by assumption)]; done) | (rw [sel_f (by assumption), sel_f (by assumption), sel_f (by assumption), sel_f (by assumption), sel_t ⟨by assumption, by assumption⟩]; done) | (rw [sel_f (by assumption), sel_f (by assumption), sel_f (by assumption), sel_f (by assumption), sel_f (fun q => by first | exact absurd q.1 (by assumption) | exact absurd q.2 (by assumption))]; first | (rw [sel_t (by assumption)]; done) | (rw [sel_f (by assumption)]; done))), hX⟩
      · refine r_const C dX2_nameNow_56 ?_
        rw [← hQQ]
        exact r_iret C hS (Nat.le_of_ble_eq_true rfl) (Nat.le_of_ble_eq_true rfl) dX2_nameNow_57 ⟨(by have := nmv_r (M 44) (F 45) (F 47) (F 46); omega), (by unfold nmv; first | (rw [sel_t (by assumption)]; done) | (rw [sel_f (by assumption), sel_t (by assumption)]; done) | (rw [sel_f (by assumption), sel_f (by assumption), sel_t (by assumption)]; done) | (rw [sel_f (by assumption), sel_f (by assumption), sel_f (by assumption), sel_t (by assumption)]; done) | (rw [sel_f (by assumption), sel_f (by assumption), sel_f (by assumption), sel_f (by assumption), sel_t ⟨by assumption, by assumption⟩]; done) | (rw [sel_f (by assumption), sel_f (by assumption), sel_f (by assumption), sel_f (by assumption), sel_f (fun q => by first | exact absurd q.1 (by assumption) | exact absurd q.2 (by assumption))]; first | (rw [sel_t (by assumption)]; done) | (rw [sel_f (by assumption)]; done))), hX⟩
    · refine r_const C dX2_nameNow_37 ?_
      rw [← hQQ]
      exact r_iret C hS (Nat.le_of_ble_eq_true rfl) (Nat.le_of_ble_eq_true rfl) dX2_nameNow_38 ⟨(by have := nmv_r (M 44) (F 45) (F 47) (F 46); omega), (by unfold nmv; first | (rw [sel_t (by assumption)]; done) | (rw [sel_f (by assumption), sel_t (by assumption)]; done) | (rw [sel_f (by assumption), sel_f (by assumption), sel_t (by assumption)]; done) | (rw [sel_f (by assumption), sel_f (by assumption), sel_f (by assumption), sel_t (by assumption)]; done) | (rw [sel_f (by assumption), sel_f (by assumption), sel_f (by assumption), sel_f (by assumption), sel_t ⟨by assumption, by assumption⟩]; done) | (rw [sel_f (by assumption), sel_f (by assumption), sel_f (by assumption), sel_f (by assumption), sel_f (fun q => by first | exact absurd q.1 (by assumption) | exact absurd q.2 (by assumption))]; first | (rw [sel_t (by assumption)]; done) | (rw [sel_f (by assumption)]; done))), hX⟩
  · refine r_const C dX2_nameNow_17 ?_
    rw [← hQQ]
    exact r_iret C hS (Nat.le_of_ble_eq_true rfl) (Nat.le_of_ble_eq_true rfl) dX2_nameNow_18 ⟨(by have := nmv_r (M 44) (F 45) (F 47) (F 46); omega), (by unfold nmv; first | (rw [sel_t (by assumption)]; done) | (rw [sel_f (by assumption), sel_t (by assumption)]; done) | (rw [sel_f (by assumption), sel_f (by assumption), sel_t (by assumption)]; done) | (rw [sel_f (by assumption), sel_f (by assumption), sel_f (by assumption), sel_t (by assumption)]; done) | (rw [sel_f (by assumption), sel_f (by assumption), sel_f (by assumption), sel_f (by assumption), sel_t ⟨by assumption, by assumption⟩]; done) | (rw [sel_f (by assumption), sel_f (by assumption), sel_f (by assumption), sel_f (by assumption), sel_f (fun q => by first | exact absurd q.1 (by assumption) | exact absurd q.2 (by assumption))]; first | (rw [sel_t (by assumption)]; done) | (rw [sel_f (by assumption)]; done))), hX⟩

theorem hd_X2_wants : yX2_wants.cls = RX2 ∧ yX2_wants.cls ≠ "java/lang/invoke/MethodHandle" ∧ yX2_wants.cls ≠ "java/lang/invoke/VarHandle" ∧ (parseMethodDescriptor yX2_wants.desc).map (fun d => d.parameters.length) = some 2 := by decide +kernel
abbrev rm_X2_wants : Room := { frames := 0, cells := 0, slots := 0, locals := 0 }
set_option maxHeartbeats 8000000 in
theorem met_X2_wants (l : Launch) (E : us_E) (A : Nat → Prop) (ad : Nat → Nat) (F : Nat → Int) (M : Nat → Int → Int) (g : Prop) (k : Int) (hk : 0 ≤ k ∧ k ≤ 5) : cMet l yX2_wants cX2_wants 3 none rm_X2_wants A E [.ref (ad 63), .int (zi (bI g)), .int (zi k)] (fun H => MH E A ad F M H) (qv A (fun H => ∃ f50 : Int, ∃ f51 : Int, (f50 = sel (¬ g ∧ F 50 = 0) k (F 50)) ∧ (f51 = sel (¬ g ∧ F 50 = 0) (F 47) (F 51)) ∧ MH E A ad (va_up (va_up F 50 f50) 51 f51) M H)) := by
  refine cMet.of (by decide) (Nat.le_of_ble_eq_true rfl) (fun p e s m args below meth c C hnm hX hS ls hl => ?_)
  have C : Cx p s m args meth c A RX2 cX2_wants 3 none E := C
  have hX : MH E A ad F M s.heap := hX
  have hl : lv_has ls 3 [(0, .ref (ad 63)), (1, .int (zi (bI g))), (2, .int (zi k))] := hl
  generalize hH : s.heap = H at hX
  have hS : va_S A s.heap H [] := by rw [← hH]; exact hS
  generalize hlocs : ([] : List Loc) = locs at hS ⊢
  obtain ⟨QQ, hQQ⟩ : ∃ z, MQ below (qv A (fun H => ∃ f50 : Int, ∃ f51 : Int, (f50 = sel (¬ g ∧ F 50 = 0) k (F 50)) ∧ (f51 = sel (¬ g ∧ F 50 = 0) (F 47) (F 51)) ∧ MH E A ad (va_up (va_up F 50 f50) 51 f51) M H)) args s (rm_X2_wants).cells (rm_X2_wants).slots A = z := ⟨_, rfl⟩
  rw [hQQ]
  have rF47 : 0 ≤ F 47 ∧ F 47 ≤ 160 := hX.2.1 47 (0, 160) rfl
  have rF50 : 0 ≤ F 50 ∧ F 50 ≤ 5 := hX.2.1 50 (0, 5) rfl
  have rF51 : 0 ≤ F 51 ∧ F 51 ≤ 160 := hX.2.1 51 (0, 160) rfl
  refine lv_iload_n C.x C.b dX2_wants_0 rfl (lv_at hl 1 rfl) ?_
  refine r_if_ne_b (tgt := 24) C dX2_wants_1 (by decide) (fun c_1 => ?_) (fun c_1 => ?_)
  · rw [← hQQ]
    exact r_vret C hS (Nat.le_of_ble_eq_true rfl) (Nat.le_of_ble_eq_true rfl) dX2_wants_24 ⟨(F 50), (F 51), (by first | exact (sel_t ⟨by assumption, by assumption⟩).symm | exact (sel_f (fun q => by first | exact absurd q.1 (by first | assumption | exact fun y => y (by assumption)) | exact absurd q.2 (by assumption))).symm), (by first | exact (sel_t ⟨by assumption, by assumption⟩).symm | exact (sel_f (fun q => by first | exact absurd q.1 (by first | assumption | exact fun y => y (by assumption)) | exact absurd q.2 (by assumption))).symm), (hX.to (((up_id F (k := 50) (a := (F 50)) rfl).symm.trans rfl).trans ((up_id (va_up F 50 (F 50)) (k := 51) (a := (F 51)) rfl).symm.trans rfl)) rfl)⟩
  · refine lv_aload_n C.x C.b dX2_wants_4 rfl (lv_at hl 0 rfl) ?_
    refine mg_50 C hX (F 50) rfl dX2_wants_5 (fun _ => ?_)
    refine r_if_ne (tgt := 24) C (by omega) dX2_wants_8 (by decide) (fun c_2 => ?_) (fun c_2 => ?_)
    · rw [← hQQ]
      exact r_vret C hS (Nat.le_of_ble_eq_true rfl) (Nat.le_of_ble_eq_true rfl) dX2_wants_24 ⟨(F 50), (F 51), (by first | exact (sel_t ⟨by assumption, by assumption⟩).symm | exact (sel_f (fun q => by first | exact absurd q.1 (by first | assumption | exact fun y => y (by assumption)) | exact absurd q.2 (by assumption))).symm), (by first | exact (sel_t ⟨by assumption, by assumption⟩).symm | exact (sel_f (fun q => by first | exact absurd q.1 (by first | assumption | exact fun y => y (by assumption)) | exact absurd q.2 (by assumption))).symm), (hX.to (((up_id F (k := 50) (a := (F 50)) rfl).symm.trans rfl).trans ((up_id (va_up F 50 (F 50)) (k := 51) (a := (F 51)) rfl).symm.trans rfl)) rfl)⟩
    · refine lv_aload_n C.x C.b dX2_wants_11 rfl (lv_at hl 0 rfl) ?_
      refine lv_iload_n C.x C.b dX2_wants_12 rfl (lv_at hl 2 rfl) ?_
      refine mp_50 C hX hS (by omega) (F' := (va_up F 50 k)) rfl dX2_wants_13 (fun H locs hX hS => ?_)
      refine lv_aload_n C.x C.b dX2_wants_16 rfl (lv_at hl 0 rfl) ?_
      refine lv_aload_n C.x C.b dX2_wants_17 rfl (lv_at hl 0 rfl) ?_
      refine mg_47 C hX (F 47) rfl dX2_wants_18 (fun _ => ?_)
      refine mp_51 C hX hS (by omega) (F' := (va_up (va_up F 50 k) 51 (F 47))) rfl dX2_wants_21 (fun H locs hX hS => ?_)
      rw [← hQQ]
      exact r_vret C hS (Nat.le_of_ble_eq_true rfl) (Nat.le_of_ble_eq_true rfl) dX2_wants_24 ⟨k, (F 47), (by first | exact (sel_t ⟨by assumption, by assumption⟩).symm | exact (sel_f (fun q => by first | exact absurd q.1 (by first | assumption | exact fun y => y (by assumption)) | exact absurd q.2 (by assumption))).symm), (by first | exact (sel_t ⟨by assumption, by assumption⟩).symm | exact (sel_f (fun q => by first | exact absurd q.1 (by first | assumption | exact fun y => y (by assumption)) | exact absurd q.2 (by assumption))).symm), hX⟩

theorem hd_X2_next : yX2_next.cls = RX2 ∧ yX2_next.cls ≠ "java/lang/invoke/MethodHandle" ∧ yX2_next.cls ≠ "java/lang/invoke/VarHandle" ∧ (parseMethodDescriptor yX2_next.desc).map (fun d => d.parameters.length) = some 0 := by decide +kernel
abbrev rm_X2_next : Room := { frames := 3, cells := 0, slots := 0, locals := 67 }
set_option maxHeartbeats 8000000 in
theorem met_X2_next (l : Launch) (E : us_E) (A : Nat → Prop) (ad : Nat → Nat) (F : Nat → Int) (M : Nat → Int → Int) (hp : 0 ≤ F 46 ∧ F 46 ≤ F 45) : cMet l yX2_next cX2_next 2 none rm_X2_next A E [.ref (ad 63)] (fun H => MH E A ad F M H) (qv A (fun H => ∃ f46 : Int, ∃ f47 : Int, ∃ f48 : Int, ∃ f49 : Int, ∃ f50 : Int, ∃ f51 : Int, (0 < F 50 → f46 = F 46 ∧ f47 = F 47 ∧ f48 = F 48 ∧ f49 = F 49 ∧ f50 = F 50 ∧ f51 = F 51) ∧ (F 50 = 0 → Nxt (M 44) (F 45) (F 46) f46 f47 f48 f49 f50 f51) ∧ (F 46 ≤ f46 ∧ f46 ≤ F 45) ∧ MH E A ad (va_up (va_up (va_up (va_up (va_up (va_up F 46 f46) 47 f47) 48 f48) 49 f49) 50 f50) 51 f51) M H)) := by
  refine cMet.of (by decide) (Nat.le_of_ble_eq_true rfl) (fun p e s m args below meth c C hnm hX hS ls hl => ?_)
  have C : Cx p s m args meth c A RX2 cX2_next 2 none E := C
  have hX : MH E A ad F M s.heap := hX
  have hl : lv_has ls 2 [(0, .ref (ad 63))] := hl
  generalize hH : s.heap = H at hX
  have hS : va_S A s.heap H [] := by rw [← hH]; exact hS
  generalize hlocs : ([] : List Loc) = locs at hS ⊢
  obtain ⟨QQ, hQQ⟩ : ∃ z, MQ below (qv A (fun H => ∃ f46 : Int, ∃ f47 : Int, ∃ f48 : Int, ∃ f49 : Int, ∃ f50 : Int, ∃ f51 : Int, (0 < F 50 → f46 = F 46 ∧ f47 = F 47 ∧ f48 = F 48 ∧ f49 = F 49 ∧ f50 = F 50 ∧ f51 = F 51) ∧ (F 50 = 0 → Nxt (M 44) (F 45) (F 46) f46 f47 f48 f49 f50 f51) ∧ (F 46 ≤ f46 ∧ f46 ≤ F 45) ∧ MH E A ad (va_up (va_up (va_up (va_up (va_up (va_up F 46 f46) 47 f47) 48 f48) 49 f49) 50 f50) 51 f51) M H)) args s (rm_X2_next).cells (rm_X2_next).slots A = z := ⟨_, rfl⟩
  rw [hQQ]
  have rF45 : 0 ≤ F 45 ∧ F 45 ≤ 160 := hX.2.1 45 (0, 160) rfl
  have rF46 : 0 ≤ F 46 ∧ F 46 ≤ 160 := hX.2.1 46 (0, 160) rfl
  have rF47 : 0 ≤ F 47 ∧ F 47 ≤ 160 := hX.2.1 47 (0, 160) rfl
  have rF48 : 0 ≤ F 48 ∧ F 48 ≤ 4 := hX.2.1 48 (0, 4) rfl
  have rF49 : -4 ≤ F 49 ∧ F 49 ≤ 99 := hX.2.1 49 (-4, 99) rfl
  have rF50 : 0 ≤ F 50 ∧ F 50 ≤ 5 := hX.2.1 50 (0, 5) rfl
  have rF51 : 0 ≤ F 51 ∧ F 51 ≤ 160 := hX.2.1 51 (0, 160) rfl
  have ht44 : ∀ j, 0 ≤ M 44 j ∧ M 44 j ≤ 255 := fun j => hX.2.2 44 (0, 255) rfl j
  refine lv_aload_n C.x C.b dX2_next_0 rfl (lv_at hl 0 rfl) ?_
  refine mg_50 C hX (F 50) rfl dX2_next_1 (fun _ => ?_)
  refine r_if_le (tgt := 8) C (by omega) dX2_next_4 (by decide) (fun c_1 => ?_) (fun c_1 => ?_)
  · have L8 : ∀ (fu : Nat) (f46 : Int) (h46 : F 46 ≤ f46 ∧ f46 ≤ F 45) (hsp : ∀ j : Int, F 46 ≤ j → j < f46 → isSp (lk (M 44) (F 45) j)) (hm : Int.toNat (F 45 - f46) < fu) (H : Heap) (locs : List Loc) (ls : Array Slot) (hX : MH E A ad (va_up F 46 f46) M H) (hS : va_S A s.heap H locs) (hl : lv_has ls 2 [(0, .ref (ad 63))]), W p l e rm_X2_next s m args below meth c H locs 0 0 QQ (F0 m 8 ls []) := by
      intro fu
      induction fu with
      | zero => intro f46 h46 hsp hm; exact absurd hm (Nat.not_lt_zero _)
      | succ fu ih8 =>
        intro f46 h46 hsp hm H locs ls hX hS hl
        refine lv_aload_n C.x C.b dX2_next_8 rfl (lv_at hl 0 rfl) ?_
        refine lv_aload_n C.x C.b dX2_next_9 rfl (lv_at hl 0 rfl) ?_
        refine mg_46 C hX f46 rfl dX2_next_10 (fun r10 => ?_)
        refine r_callVi (As := [.int (zi f46)]) (rest := []) (cells' := 0) (slots' := 0) C (met_X2_look l E A ad (va_up F 46 f46) M f46 (show 0 ≤ f46 ∧ f46 < 2147483648 from (by omega))) (lw_V q1474 q1476 qs76 q88 q1477) hd_X2_look rfl (by decide) (m_recv C hX) hX hS hl.1 rfl (Nat.le_of_ble_eq_true rfl) dX2_next_13 rfl rfl ⟨Nat.le_of_ble_eq_true rfl, Nat.le_of_ble_eq_true rfl⟩ (fun rr H locs hp hS => ?_)
        obtain ⟨hlk, hrr, hX⟩ := hp
        have hrr : rr = lk ((M 44)) ((F 45)) f46 := hrr
        subst hrr
        replace hlk : (-1 ≤ lk ((M 44)) ((F 45)) f46 ∧ lk ((M 44)) ((F 45)) f46 ≤ 255) ∧ (lk ((M 44)) ((F 45)) f46 < 0 ∨ f46 < (F 45)) := hlk
        refine r_bipush C (by decide) dX2_next_16 ?_
        refine r_icmp_ne (tgt := 34) C (by omega) (by decide) dX2_next_18 (by decide) (fun c_2 => ?_) (fun c_2 => ?_)
        · have etf : f46 = (tf (M 44) (F 45) (F 46)) := IsRn.eq ⟨h46.1, hsp, by assumption⟩
          refine lv_aload_n C.x C.b dX2_next_34 rfl (lv_at hl 0 rfl) ?_
          refine lv_aload_n C.x C.b dX2_next_35 rfl (lv_at hl 0 rfl) ?_
          refine mg_46 C hX f46 rfl dX2_next_36 (fun _ => ?_)
          refine mp_47 C hX hS (by omega) (F' := (va_up (va_up F 46 f46) 47 f46)) rfl dX2_next_39 (fun H locs hX hS => ?_)
          refine lv_aload_n C.x C.b dX2_next_42 rfl (lv_at hl 0 rfl) ?_
          refine lv_aload_n C.x C.b dX2_next_43 rfl (lv_at hl 0 rfl) ?_
          refine mg_46 C hX f46 rfl dX2_next_44 (fun _ => ?_)
          refine r_callVi (As := [.int (zi f46)]) (rest := []) (cells' := 0) (slots' := 0) C (met_X2_look l E A ad (va_up (va_up F 46 f46) 47 f46) M f46 (show 0 ≤ f46 ∧ f46 < 2147483648 from (by omega))) (lw_V q1474 q1476 qs76 q88 q1477) hd_X2_look rfl (by decide) (m_recv C hX) hX hS hl.1 rfl (Nat.le_of_ble_eq_true rfl) dX2_next_47 rfl rfl ⟨Nat.le_of_ble_eq_true rfl, Nat.le_of_ble_eq_true rfl⟩ (fun rr H locs hp hS => ?_)
          obtain ⟨hlk, hrr, hX⟩ := hp
          have hrr : rr = lk ((M 44)) ((F 45)) f46 := hrr
          subst hrr
          replace hlk : (-1 ≤ lk ((M 44)) ((F 45)) f46 ∧ lk ((M 44)) ((F 45)) f46 ≤ 255) ∧ (lk ((M 44)) ((F 45)) f46 < 0 ∨ f46 < (F 45)) := hlk
          refine lv_istore_n (lv' := [(1, .int (zi (lk ((M 44)) ((F 45)) f46))), (0, .ref (ad 63))]) C.x C.b dX2_next_50 rfl hl (by decide) rfl (fun ls hl => ?_)
          have hc1 : lk (M 44) (F 45) f46 = tc1 (M 44) (F 45) (F 46) := by rw [etf]; rfl
          refine lv_iload_n C.x C.b dX2_next_51 rfl (lv_at hl 0 rfl) ?_
          refine r_if_ge (tgt := 63) C (by omega) dX2_next_52 (by decide) (fun c_3 => ?_) (fun c_3 => ?_)
          · refine lv_iload_n C.x C.b dX2_next_63 rfl (lv_at hl 0 rfl) ?_
            refine r_i2l C (by omega) dX2_next_64 ?_
            refine r_ldc2 C 97 (by decide) q1478 dX2_next_65 ?_
            refine r_ldc2 C 122 (by decide) q1479 dX2_next_68 ?_
            refine r_callSi (As := [.long (zl (lk ((M 44)) ((F 45)) f46)), .long (zl 97), .long (zl 122)]) (rest := []) (cells' := 0) (slots' := 0) C (met_X2_in l E A ad H (lk ((M 44)) ((F 45)) f46) 97 122 (show -9223372036854775808 ≤ (lk ((M 44)) ((F 45)) f46) ∧ (lk ((M 44)) ((F 45)) f46) < 9223372036854775808 from (by omega)) (show -9223372036854775808 ≤ 97 ∧ 97 < 9223372036854775808 from (by omega)) (show -9223372036854775808 ≤ 122 ∧ 122 < 9223372036854775808 from (by omega))) (lw_S q1209 q1210 q88 q1211) hd_X2_in rfl (by decide) rfl hS hl.1 rfl (Nat.le_of_ble_eq_true rfl) dX2_next_71 rfl rfl ⟨Nat.le_of_ble_eq_true rfl, Nat.le_of_ble_eq_true rfl⟩ (fun rr H locs hp hS => ?_)
            obtain ⟨hrr, hH⟩ := hp
            have hrr : rr = bI (97 ≤ (lk ((M 44)) ((F 45)) f46) ∧ (lk ((M 44)) ((F 45)) f46) ≤ 122) := hrr
            subst hrr
            have hX : MH E A ad (va_up (va_up F 46 f46) 47 f46) M H := by rw [hH]; exact hX
            refine r_if_eq_b (tgt := 146) C dX2_next_74 (by decide) (fun c_4 => ?_) (fun c_4 => ?_)
            · refine lv_iload_n C.x C.b dX2_next_146 rfl (lv_at hl 0 rfl) ?_
              refine r_i2l C (by omega) dX2_next_147 ?_
              refine r_ldc2 C 48 (by decide) q1492 dX2_next_148 ?_
              refine r_ldc2 C 57 (by decide) q1493 dX2_next_151 ?_
              refine r_callSi (As := [.long (zl (lk ((M 44)) ((F 45)) f46)), .long (zl 48), .long (zl 57)]) (rest := []) (cells' := 0) (slots' := 0) C (met_X2_in l E A ad H (lk ((M 44)) ((F 45)) f46) 48 57 (show -9223372036854775808 ≤ (lk ((M 44)) ((F 45)) f46) ∧ (lk ((M 44)) ((F 45)) f46) < 9223372036854775808 from (by omega)) (show -9223372036854775808 ≤ 48 ∧ 48 < 9223372036854775808 from (by omega)) (show -9223372036854775808 ≤ 57 ∧ 57 < 9223372036854775808 from (by omega))) (lw_S q1209 q1210 q88 q1211) hd_X2_in rfl (by decide) rfl hS hl.1 rfl (Nat.le_of_ble_eq_true rfl) dX2_next_154 rfl rfl ⟨Nat.le_of_ble_eq_true rfl, Nat.le_of_ble_eq_true rfl⟩ (fun rr H locs hp hS => ?_)
              obtain ⟨hrr, hH⟩ := hp
              have hrr : rr = bI (48 ≤ (lk ((M 44)) ((F 45)) f46) ∧ (lk ((M 44)) ((F 45)) f46) ≤ 57) := hrr
              subst hrr
              have hX : MH E A ad (va_up (va_up F 46 f46) 47 f46) M H := by rw [hH]; exact hX
              refine r_if_eq_b (tgt := 273) C dX2_next_157 (by decide) (fun c_5 => ?_) (fun c_5 => ?_)
              · refine lv_aload_n C.x C.b dX2_next_273 rfl (lv_at hl 1 rfl) ?_
                refine lv_iload_n C.x C.b dX2_next_274 rfl (lv_at hl 0 rfl) ?_
                refine r_bipush C (by decide) dX2_next_275 ?_
                have J285_6 : ∀ (t1 : Int) (ht1 : t1 = sel ((lk ((M 44)) ((F 45)) f46) = 59) 3 4) (H : Heap) (locs : List Loc) (ls : Array Slot) (hX : MH E A ad (va_up (va_up F 46 f46) 47 f46) M H) (hS : va_S A s.heap H locs) (hl : lv_has ls 2 [(1, .int (zi (lk ((M 44)) ((F 45)) f46))), (0, .ref (ad 63))]), W p l e rm_X2_next s m args below meth c H locs 0 0 QQ (F0 m 285 ls [.int (zi t1), .ref (ad 63)]) := by
                  intro t1 ht1 H locs ls hX hS hl
                  subst ht1
                  have hs34 : 3 ≤ sel (lk (M 44) (F 45) f46 = 59) (3 : Int) 4 ∧ sel (lk (M 44) (F 45) f46 = 59) (3 : Int) 4 ≤ 4 := sel_rg (fun _ => by omega) (fun _ => by omega)
                  refine mp_48 C hX hS (by omega) (F' := (va_up (va_up (va_up F 46 f46) 47 f46) 48 (sel ((lk ((M 44)) ((F 45)) f46) = 59) 3 4))) rfl dX2_next_285 (fun H locs hX hS => ?_)
                  refine lv_aload_n C.x C.b dX2_next_288 rfl (lv_at hl 1 rfl) ?_
                  refine lv_iload_n C.x C.b dX2_next_289 rfl (lv_at hl 0 rfl) ?_
                  refine r_bipush C (by decide) dX2_next_290 ?_
                  have J306_7 : ∀ (t1 : Int) (ht1 : t1 = bI (((lk ((M 44)) ((F 45)) f46) = 59) ∨ ((lk ((M 44)) ((F 45)) f46) = 44))) (H : Heap) (locs : List Loc) (ls : Array Slot) (hX : MH E A ad (va_up (va_up (va_up F 46 f46) 47 f46) 48 (sel ((lk ((M 44)) ((F 45)) f46) = 59) 3 4)) M H) (hS : va_S A s.heap H locs) (hl : lv_has ls 2 [(1, .int (zi (lk ((M 44)) ((F 45)) f46))), (0, .ref (ad 63))]), W p l e rm_X2_next s m args below meth c H locs 0 0 QQ (F0 m 306 ls [.int (zi t1), .ref (ad 63)]) := by
                    intro t1 ht1 H locs ls hX hS hl
                    subst ht1
                    refine r_const C dX2_next_306 ?_
                    refine r_callVv (As := [.int (zi (bI (((lk ((M 44)) ((F 45)) f46) = 59) ∨ ((lk ((M 44)) ((F 45)) f46) = 44)))), .int (zi 1)]) (rest := []) (cells' := 0) (slots' := 0) C (met_X2_wants l E A ad (va_up (va_up (va_up F 46 f46) 47 f46) 48 (sel ((lk ((M 44)) ((F 45)) f46) = 59) 3 4)) M (((lk ((M 44)) ((F 45)) f46) = 59) ∨ ((lk ((M 44)) ((F 45)) f46) = 44)) 1 (show 0 ≤ 1 ∧ 1 ≤ 5 from (by omega))) (lw_V q1488 q1490 qs79 q88 q1491) hd_X2_wants rfl (by decide) (m_recv C hX) hX hS hl.1 rfl (Nat.le_of_ble_eq_true rfl) dX2_next_307 rfl rfl ⟨Nat.le_of_ble_eq_true rfl, Nat.le_of_ble_eq_true rfl⟩ (fun H locs hp hS => ?_)
                    obtain ⟨f50_8, f51_9, hw50, hw51, hX⟩ := hp
                    replace hw50 : f50_8 = sel (¬ (((lk ((M 44)) ((F 45)) f46) = 59) ∨ ((lk ((M 44)) ((F 45)) f46) = 44)) ∧ (F 50) = 0) 1 ((F 50)) := hw50
                    replace hw51 : f51_9 = sel (¬ (((lk ((M 44)) ((F 45)) f46) = 59) ∨ ((lk ((M 44)) ((F 45)) f46) = 44)) ∧ (F 50) = 0) (f46) ((F 51)) := hw51
                    have hX : MH E A ad (va_up (va_up (va_up (va_up (va_up F 46 f46) 47 f46) 48 (sel ((lk ((M 44)) ((F 45)) f46) = 59) 3 4)) 50 f50_8) 51 f51_9) M H := hX.to ((congrArg (fun z => va_up z 51 f51_9) rfl).trans rfl) rfl
                    refine lv_aload_n C.x C.b dX2_next_310 rfl (lv_at hl 1 rfl) ?_
                    refine lv_dup C.x C.b dX2_next_311 rfl ?_
                    refine mg_46 C hX f46 rfl dX2_next_312 (fun _ => ?_)
                    refine r_const C dX2_next_315 ?_
                    refine r_iadd C dX2_next_316 ?_
                    refine mp_46 C hX hS (by omega) (F' := (va_up (va_up (va_up (va_up (va_up F 46 (f46 + 1)) 47 f46) 48 (sel ((lk ((M 44)) ((F 45)) f46) = 59) 3 4)) 50 f50_8) 51 f51_9)) (up_in (by decide) (up_in (by decide) (up_in (by decide) (up_in (by decide) (up_up _ _ _ _))))) dX2_next_317 (fun H locs hX hS => ?_)
                    rw [← hQQ]
                    exact r_vret C hS (Nat.le_of_ble_eq_true rfl) (Nat.le_of_ble_eq_true rfl) dX2_next_320 ⟨(f46 + 1), f46, (sel ((lk ((M 44)) ((F 45)) f46) = 59) 3 4), (F 49), f50_8, f51_9, (fun q => absurd q (by omega)), (fun q => by
                        first
                        | (rw [etf]; exact nxt_end (by omega) q)
                        | (rw [hw50, hw51, etf]; exact nxt_lt (by omega) (by rw [← hc1]; assumption) erl (by first | rfl | rw [etf]) Iff.rfl q)
                        | (rw [hw50, hw51, etf]; exact nxt_dg (by omega) (by rw [← hc1]; assumption) (by rw [← hc1]; assumption) erd hv (by first | exact Int.not_lt | (rw [etf]; exact Int.not_lt)) q)
                        | (rw [hw50, hw51, etf]; exact nxt_ot (by omega) (by rw [← hc1]; assumption) (by rw [← hc1]; assumption) rfl rfl Iff.rfl q)), (by first | rfl | assumption | exact (sel_t (by omega)).symm | exact (sel_f (by omega)).symm | omega), (hX.to ((up_id (va_up (va_up (va_up (va_up (va_up F 46 (f46 + 1)) 47 f46) 48 (sel ((lk ((M 44)) ((F 45)) f46) = 59) 3 4)) 50 f50_8) 51 f51_9) (k := 49) (a := (F 49)) rfl).symm.trans (up_in (by decide) (up_in (by decide) rfl))) rfl)⟩
                  refine r_icmp_eq (tgt := 301) C (by omega) (by decide) dX2_next_292 (by decide) (fun c_10 => ?_) (fun c_10 => ?_)
                  · refine r_const C dX2_next_301 ?_
                    refine lv_goto (tgt := 306) C.x C.b dX2_next_302 (by decide) ?_
                    exact J306_7 1 ((bI_t (Or.inl c_10)).symm) H locs ls hX hS hl
                  · refine lv_iload_n C.x C.b dX2_next_295 rfl (lv_at hl 0 rfl) ?_
                    refine r_bipush C (by decide) dX2_next_296 ?_
                    refine r_icmp_ne (tgt := 305) C (by omega) (by decide) dX2_next_298 (by decide) (fun c_11 => ?_) (fun c_11 => ?_)
                    · refine r_const C dX2_next_305 ?_
                      exact J306_7 0 ((bI_f (fun q => q.elim c_10 c_11)).symm) H locs ls hX hS hl
                    · refine r_const C dX2_next_301 ?_
                      refine lv_goto (tgt := 306) C.x C.b dX2_next_302 (by decide) ?_
                      exact J306_7 1 ((bI_t (Or.inr c_11)).symm) H locs ls hX hS hl
                refine r_icmp_ne (tgt := 284) C (by omega) (by decide) dX2_next_277 (by decide) (fun c_12 => ?_) (fun c_12 => ?_)
                · refine r_const C dX2_next_284 ?_
                  exact J285_6 4 ((sel_f c_12).symm) H locs ls hX hS hl
                · refine r_const C dX2_next_280 ?_
                  refine lv_goto (tgt := 285) C.x C.b dX2_next_281 (by decide) ?_
                  exact J285_6 3 ((sel_t c_12).symm) H locs ls hX hS hl
              · refine lv_aload_n C.x C.b dX2_next_160 rfl (lv_at hl 1 rfl) ?_
                refine r_const C dX2_next_161 ?_
                refine mp_48 C hX hS (by omega) (F' := (va_up (va_up (va_up F 46 f46) 47 f46) 48 2)) rfl dX2_next_162 (fun H locs hX hS => ?_)
                refine lv_aload_n C.x C.b dX2_next_165 rfl (lv_at hl 1 rfl) ?_
                refine r_const C dX2_next_166 ?_
                refine mp_49 C hX hS (by omega) (F' := (va_up (va_up (va_up (va_up F 46 f46) 47 f46) 48 2) 49 0)) rfl dX2_next_167 (fun H locs hX hS => ?_)
                have L170 : ∀ (fu : Nat) (f46_170 : Int) (f49 : Int) (h46b : (tf (M 44) (F 45) (F 46)) ≤ f46_170 ∧ f46_170 ≤ F 45) (hsp2 : ∀ j : Int, (tf (M 44) (F 45) (F 46)) ≤ j → j < f46_170 → isDg (lk (M 44) (F 45) j)) (hv : f49 = nuv (M 44) (F 45) (tf (M 44) (F 45) (F 46)) (f46_170 - (tf (M 44) (F 45) (F 46)))) (hm : Int.toNat (F 45 - f46_170) < fu) (H : Heap) (locs : List Loc) (ls : Array Slot) (hX : MH E A ad (va_up (va_up (va_up (va_up F 46 f46_170) 47 f46) 48 2) 49 f49) M H) (hS : va_S A s.heap H locs) (hl : lv_has ls 2 [(0, .ref (ad 63)), (1, .int (zi (lk ((M 44)) ((F 45)) f46)))]), W p l e rm_X2_next s m args below meth c H locs 0 0 QQ (F0 m 170 ls []) := by
                  intro fu
                  induction fu with
                  | zero => intro f46_170 f49 h46b hsp2 hv hm; exact absurd hm (Nat.not_lt_zero _)
                  | succ fu ih170 =>
                    intro f46_170 f49 h46b hsp2 hv hm H locs ls hX hS hl
                    refine lv_aload_n C.x C.b dX2_next_170 rfl (lv_at hl 0 rfl) ?_
                    refine lv_aload_n C.x C.b dX2_next_171 rfl (lv_at hl 0 rfl) ?_
                    refine mg_46 C hX f46_170 rfl dX2_next_172 (fun r172 => ?_)
                    refine r_callVi (As := [.int (zi f46_170)]) (rest := []) (cells' := 0) (slots' := 0) C (met_X2_look l E A ad (va_up (va_up (va_up (va_up F 46 f46_170) 47 f46) 48 2) 49 f49) M f46_170 (show 0 ≤ f46_170 ∧ f46_170 < 2147483648 from (by omega))) (lw_V q1474 q1476 qs76 q88 q1477) hd_X2_look rfl (by decide) (m_recv C hX) hX hS hl.1 rfl (Nat.le_of_ble_eq_true rfl) dX2_next_175 rfl rfl ⟨Nat.le_of_ble_eq_true rfl, Nat.le_of_ble_eq_true rfl⟩ (fun rr H locs hp hS => ?_)
                    obtain ⟨hlk, hrr, hX⟩ := hp
                    have hrr : rr = lk ((M 44)) ((F 45)) f46_170 := hrr
                    subst hrr
                    replace hlk : (-1 ≤ lk ((M 44)) ((F 45)) f46_170 ∧ lk ((M 44)) ((F 45)) f46_170 ≤ 255) ∧ (lk ((M 44)) ((F 45)) f46_170 < 0 ∨ f46_170 < (F 45)) := hlk
                    refine r_i2l C (by omega) dX2_next_178 ?_
                    refine r_ldc2 C 48 (by decide) q1492 dX2_next_179 ?_
                    refine r_ldc2 C 57 (by decide) q1493 dX2_next_182 ?_
                    refine r_callSi (As := [.long (zl (lk ((M 44)) ((F 45)) f46_170)), .long (zl 48), .long (zl 57)]) (rest := []) (cells' := 0) (slots' := 0) C (met_X2_in l E A ad H (lk ((M 44)) ((F 45)) f46_170) 48 57 (show -9223372036854775808 ≤ (lk ((M 44)) ((F 45)) f46_170) ∧ (lk ((M 44)) ((F 45)) f46_170) < 9223372036854775808 from (by omega)) (show -9223372036854775808 ≤ 48 ∧ 48 < 9223372036854775808 from (by omega)) (show -9223372036854775808 ≤ 57 ∧ 57 < 9223372036854775808 from (by omega))) (lw_S q1209 q1210 q88 q1211) hd_X2_in rfl (by decide) rfl hS hl.1 rfl (Nat.le_of_ble_eq_true rfl) dX2_next_185 rfl rfl ⟨Nat.le_of_ble_eq_true rfl, Nat.le_of_ble_eq_true rfl⟩ (fun rr H locs hp hS => ?_)
                    obtain ⟨hrr, hH⟩ := hp
                    have hrr : rr = bI (48 ≤ (lk ((M 44)) ((F 45)) f46_170) ∧ (lk ((M 44)) ((F 45)) f46_170) ≤ 57) := hrr
                    subst hrr
                    have hX : MH E A ad (va_up (va_up (va_up (va_up F 46 f46_170) 47 f46) 48 2) 49 f49) M H := by rw [hH]; exact hX
                    refine r_if_eq_b (tgt := 247) C dX2_next_188 (by decide) (fun c_13 => ?_) (fun c_13 => ?_)
                    · have erd : f46_170 = rn isDg (M 44) (F 45) (tf (M 44) (F 45) (F 46)) := IsRn.eq ⟨h46b.1, hsp2, by assumption⟩
                      refine lv_aload_n C.x C.b dX2_next_247 rfl (lv_at hl 0 rfl) ?_
                      refine lv_aload_n C.x C.b dX2_next_248 rfl (lv_at hl 0 rfl) ?_
                      refine mg_46 C hX f46_170 rfl dX2_next_249 (fun _ => ?_)
                      refine lv_aload_n C.x C.b dX2_next_252 rfl (lv_at hl 0 rfl) ?_
                      refine mg_47 C hX f46 rfl dX2_next_253 (fun _ => ?_)
                      refine r_isub C dX2_next_256 ?_
                      refine r_const C dX2_next_257 ?_
                      have J266_14 : ∀ (t1 : Int) (ht1 : t1 = bI (¬ (2 < (f46_170 - f46)))) (H : Heap) (locs : List Loc) (ls : Array Slot) (hX : MH E A ad (va_up (va_up (va_up (va_up F 46 f46_170) 47 f46) 48 2) 49 f49) M H) (hS : va_S A s.heap H locs) (hl : lv_has ls 2 [(0, .ref (ad 63)), (1, .int (zi (lk ((M 44)) ((F 45)) f46)))]), W p l e rm_X2_next s m args below meth c H locs 0 0 QQ (F0 m 266 ls [.int (zi t1), .ref (ad 63)]) := by
                        intro t1 ht1 H locs ls hX hS hl
                        subst ht1
                        refine r_const C dX2_next_266 ?_
                        refine r_callVv (As := [.int (zi (bI (¬ (2 < (f46_170 - f46))))), .int (zi 1)]) (rest := []) (cells' := 0) (slots' := 0) C (met_X2_wants l E A ad (va_up (va_up (va_up (va_up F 46 f46_170) 47 f46) 48 2) 49 f49) M (¬ (2 < (f46_170 - f46))) 1 (show 0 ≤ 1 ∧ 1 ≤ 5 from (by omega))) (lw_V q1488 q1490 qs79 q88 q1491) hd_X2_wants rfl (by decide) (m_recv C hX) hX hS hl.1 rfl (Nat.le_of_ble_eq_true rfl) dX2_next_267 rfl rfl ⟨Nat.le_of_ble_eq_true rfl, Nat.le_of_ble_eq_true rfl⟩ (fun H locs hp hS => ?_)
                        obtain ⟨f50_15, f51_16, hw50, hw51, hX⟩ := hp
                        replace hw50 : f50_15 = sel (¬ (¬ (2 < (f46_170 - f46))) ∧ (F 50) = 0) 1 ((F 50)) := hw50
                        replace hw51 : f51_16 = sel (¬ (¬ (2 < (f46_170 - f46))) ∧ (F 50) = 0) (f46) ((F 51)) := hw51
                        have hX : MH E A ad (va_up (va_up (va_up (va_up (va_up (va_up F 46 f46_170) 47 f46) 48 2) 49 f49) 50 f50_15) 51 f51_16) M H := hX.to ((congrArg (fun z => va_up z 51 f51_16) rfl).trans rfl) rfl
                        refine lv_goto (tgt := 320) C.x C.b dX2_next_270 (by decide) ?_
                        rw [← hQQ]
                        exact r_vret C hS (Nat.le_of_ble_eq_true rfl) (Nat.le_of_ble_eq_true rfl) dX2_next_320 ⟨f46_170, f46, 2, f49, f50_15, f51_16, (fun q => absurd q (by omega)), (fun q => by
                            first
                            | (rw [etf]; exact nxt_end (by omega) q)
                            | (rw [hw50, hw51, etf]; exact nxt_lt (by omega) (by rw [← hc1]; assumption) erl (by first | rfl | rw [etf]) Iff.rfl q)
                            | (rw [hw50, hw51, etf]; exact nxt_dg (by omega) (by rw [← hc1]; assumption) (by rw [← hc1]; assumption) erd hv (by first | exact Int.not_lt | (rw [etf]; exact Int.not_lt)) q)
                            | (rw [hw50, hw51, etf]; exact nxt_ot (by omega) (by rw [← hc1]; assumption) (by rw [← hc1]; assumption) rfl rfl Iff.rfl q)), (by first | rfl | assumption | exact (sel_t (by omega)).symm | exact (sel_f (by omega)).symm | omega), hX⟩
                      refine r_icmp_gt (tgt := 265) C (by omega) (by decide) dX2_next_258 (by decide) (fun c_17 => ?_) (fun c_17 => ?_)
                      · refine r_const C dX2_next_265 ?_
                        exact J266_14 0 ((bI_f (fun q => q c_17)).symm) H locs ls hX hS hl
                      · refine r_const C dX2_next_261 ?_
                        refine lv_goto (tgt := 266) C.x C.b dX2_next_262 (by decide) ?_
                        exact J266_14 1 ((bI_t c_17).symm) H locs ls hX hS hl
                    · have hdr := nuv_r (t := M 44) (n := F 45) (f := (tf (M 44) (F 45) (F 46))) (m := f46_170 - (tf (M 44) (F 45) (F 46))) (by omega) (fun j a b => hsp2 _ (by omega) (by omega))
                      rw [← hv] at hdr
                      refine lv_aload_n C.x C.b dX2_next_191 rfl (lv_at hl 0 rfl) ?_
                      refine lv_aload_n C.x C.b dX2_next_192 rfl (lv_at hl 0 rfl) ?_
                      refine mg_46 C hX f46_170 rfl dX2_next_193 (fun _ => ?_)
                      refine lv_aload_n C.x C.b dX2_next_196 rfl (lv_at hl 0 rfl) ?_
                      refine mg_47 C hX f46 rfl dX2_next_197 (fun _ => ?_)
                      refine r_isub C dX2_next_200 ?_
                      refine r_const C dX2_next_201 ?_
                      have J231_18 : ∀ (t1 : Int) (ht1 : t1 = sel ((f46_170 - f46) < 2) (((10 * f49) + (lk ((M 44)) ((F 45)) f46_170)) - 48) f49) (H : Heap) (locs : List Loc) (ls : Array Slot) (hX : MH E A ad (va_up (va_up (va_up (va_up F 46 f46_170) 47 f46) 48 2) 49 f49) M H) (hS : va_S A s.heap H locs) (hl : lv_has ls 2 [(0, .ref (ad 63)), (1, .int (zi (lk ((M 44)) ((F 45)) f46)))]), W p l e rm_X2_next s m args below meth c H locs 0 0 QQ (F0 m 231 ls [.int (zi t1), .ref (ad 63)]) := by
                        intro t1 ht1 H locs ls hX hS hl
                        subst ht1
                        have hsl2 : 0 ≤ sel (f46_170 - f46 < 2) ((10 * f49) + (lk (M 44) (F 45) f46_170) - 48) f49 ∧ sel (f46_170 - f46 < 2) ((10 * f49) + (lk (M 44) (F 45) f46_170) - 48) f49 ≤ 99 := sel_rg (fun _ => by omega) (fun _ => by omega)
                        refine mp_49 C hX hS (by omega) (F' := (va_up (va_up (va_up (va_up F 46 f46_170) 47 f46) 48 2) 49 (sel ((f46_170 - f46) < 2) (((10 * f49) + (lk ((M 44)) ((F 45)) f46_170)) - 48) f49))) (up_up _ _ _ _) dX2_next_231 (fun H locs hX hS => ?_)
                        have hst : sel (f46_170 - f46 < 2) ((10 * f49) + (lk (M 44) (F 45) f46_170) - 48) f49 = nuv (M 44) (F 45) (tf (M 44) (F 45) (F 46)) (f46_170 + 1 - (tf (M 44) (F 45) (F 46))) := by
                          rw [show f46_170 + 1 - (tf (M 44) (F 45) (F 46)) = (f46_170 - (tf (M 44) (F 45) (F 46))) + 1 by omega, nuv_s (by omega), ← hv, show (tf (M 44) (F 45) (F 46)) + (f46_170 - (tf (M 44) (F 45) (F 46))) = f46_170 by omega, etf]
                        refine lv_aload_n C.x C.b dX2_next_234 rfl (lv_at hl 0 rfl) ?_
                        refine lv_dup C.x C.b dX2_next_235 rfl ?_
                        refine mg_46 C hX f46_170 rfl dX2_next_236 (fun _ => ?_)
                        refine r_const C dX2_next_239 ?_
                        refine r_iadd C dX2_next_240 ?_
                        refine mp_46 C hX hS (by omega) (F' := (va_up (va_up (va_up (va_up F 46 (f46_170 + 1)) 47 f46) 48 2) 49 (sel ((f46_170 - f46) < 2) (((10 * f49) + (lk ((M 44)) ((F 45)) f46_170)) - 48) f49))) (up_in (by decide) (up_in (by decide) (up_in (by decide) (up_up _ _ _ _)))) dX2_next_241 (fun H locs hX hS => ?_)
                        refine lv_goto (tgt := 170) C.x C.b dX2_next_244 (by decide) ?_
                        exact ih170 (f46_170 + 1) (sel ((f46_170 - f46) < 2) (((10 * f49) + (lk ((M 44)) ((F 45)) f46_170)) - 48) f49) (by omega) (IsRn.st hsp2 (by assumption)) hst (by omega) H locs ls hX hS hl
                      refine r_icmp_ge (tgt := 227) C (by omega) (by decide) dX2_next_202 (by decide) (fun c_19 => ?_) (fun c_19 => ?_)
                      · refine lv_aload_n C.x C.b dX2_next_227 rfl (lv_at hl 0 rfl) ?_
                        refine mg_49 C hX f49 rfl dX2_next_228 (fun r228 => ?_)
                        exact J231_18 f49 ((sel_f c_19).symm) H locs ls hX hS hl
                      · refine r_bipush C (by decide) dX2_next_205 ?_
                        refine lv_aload_n C.x C.b dX2_next_207 rfl (lv_at hl 0 rfl) ?_
                        refine mg_49 C hX f49 rfl dX2_next_208 (fun r208 => ?_)
                        refine r_imul C dX2_next_211 ?_
                        refine lv_aload_n C.x C.b dX2_next_212 rfl (lv_at hl 0 rfl) ?_
                        refine lv_aload_n C.x C.b dX2_next_213 rfl (lv_at hl 0 rfl) ?_
                        refine mg_46 C hX f46_170 rfl dX2_next_214 (fun _ => ?_)
                        refine r_callVi (As := [.int (zi f46_170)]) (rest := [.int (zi (10 * f49)), .ref (ad 63)]) (cells' := 0) (slots' := 0) C (met_X2_look l E A ad (va_up (va_up (va_up (va_up F 46 f46_170) 47 f46) 48 2) 49 f49) M f46_170 (show 0 ≤ f46_170 ∧ f46_170 < 2147483648 from (by omega))) (lw_V q1474 q1476 qs76 q88 q1477) hd_X2_look rfl (by decide) (m_recv C hX) hX hS hl.1 rfl (Nat.le_of_ble_eq_true rfl) dX2_next_217 rfl rfl ⟨Nat.le_of_ble_eq_true rfl, Nat.le_of_ble_eq_true rfl⟩ (fun rr H locs hp hS => ?_)
                        obtain ⟨hlk, hrr, hX⟩ := hp
                        have hrr : rr = lk ((M 44)) ((F 45)) f46_170 := hrr
                        subst hrr
                        replace hlk : (-1 ≤ lk ((M 44)) ((F 45)) f46_170 ∧ lk ((M 44)) ((F 45)) f46_170 ≤ 255) ∧ (lk ((M 44)) ((F 45)) f46_170 < 0 ∨ f46_170 < (F 45)) := hlk
                        refine r_iadd C dX2_next_220 ?_
                        refine r_bipush C (by decide) dX2_next_221 ?_
                        refine r_isub C dX2_next_223 ?_
                        refine lv_goto (tgt := 231) C.x C.b dX2_next_224 (by decide) ?_
                        exact J231_18 (((10 * f49) + (lk ((M 44)) ((F 45)) f46_170)) - 48) ((sel_t c_19).symm) H locs ls hX hS hl
                exact L170 _ f46 0 (by omega) (fun j a b => absurd a (by omega)) (by rw [← etf, Int.sub_self]; rfl) (Nat.lt_succ_self _) H locs ls hX hS (lv_sub hl [1, 0] rfl)
            · refine lv_aload_n C.x C.b dX2_next_77 rfl (lv_at hl 1 rfl) ?_
              refine r_const C dX2_next_78 ?_
              refine mp_48 C hX hS (by omega) (F' := (va_up (va_up (va_up F 46 f46) 47 f46) 48 1)) rfl dX2_next_79 (fun H locs hX hS => ?_)
              have L82 : ∀ (fu : Nat) (f46_82 : Int) (h46b : (tf (M 44) (F 45) (F 46)) ≤ f46_82 ∧ f46_82 ≤ F 45) (hsp2 : ∀ j : Int, (tf (M 44) (F 45) (F 46)) ≤ j → j < f46_82 → isLt (lk (M 44) (F 45) j)) (hm : Int.toNat (F 45 - f46_82) < fu) (H : Heap) (locs : List Loc) (ls : Array Slot) (hX : MH E A ad (va_up (va_up (va_up F 46 f46_82) 47 f46) 48 1) M H) (hS : va_S A s.heap H locs) (hl : lv_has ls 2 [(0, .ref (ad 63)), (1, .int (zi (lk ((M 44)) ((F 45)) f46)))]), W p l e rm_X2_next s m args below meth c H locs 0 0 QQ (F0 m 82 ls []) := by
                intro fu
                induction fu with
                | zero => intro f46_82 h46b hsp2 hm; exact absurd hm (Nat.not_lt_zero _)
                | succ fu ih82 =>
                  intro f46_82 h46b hsp2 hm H locs ls hX hS hl
                  refine lv_aload_n C.x C.b dX2_next_82 rfl (lv_at hl 0 rfl) ?_
                  refine lv_aload_n C.x C.b dX2_next_83 rfl (lv_at hl 0 rfl) ?_
                  refine mg_46 C hX f46_82 rfl dX2_next_84 (fun r84 => ?_)
                  refine r_callVi (As := [.int (zi f46_82)]) (rest := []) (cells' := 0) (slots' := 0) C (met_X2_look l E A ad (va_up (va_up (va_up F 46 f46_82) 47 f46) 48 1) M f46_82 (show 0 ≤ f46_82 ∧ f46_82 < 2147483648 from (by omega))) (lw_V q1474 q1476 qs76 q88 q1477) hd_X2_look rfl (by decide) (m_recv C hX) hX hS hl.1 rfl (Nat.le_of_ble_eq_true rfl) dX2_next_87 rfl rfl ⟨Nat.le_of_ble_eq_true rfl, Nat.le_of_ble_eq_true rfl⟩ (fun rr H locs hp hS => ?_)
                  obtain ⟨hlk, hrr, hX⟩ := hp
                  have hrr : rr = lk ((M 44)) ((F 45)) f46_82 := hrr
                  subst hrr
                  replace hlk : (-1 ≤ lk ((M 44)) ((F 45)) f46_82 ∧ lk ((M 44)) ((F 45)) f46_82 ≤ 255) ∧ (lk ((M 44)) ((F 45)) f46_82 < 0 ∨ f46_82 < (F 45)) := hlk
                  refine r_i2l C (by omega) dX2_next_90 ?_
                  refine r_ldc2 C 97 (by decide) q1478 dX2_next_91 ?_
                  refine r_ldc2 C 122 (by decide) q1479 dX2_next_94 ?_
                  refine r_callSi (As := [.long (zl (lk ((M 44)) ((F 45)) f46_82)), .long (zl 97), .long (zl 122)]) (rest := []) (cells' := 0) (slots' := 0) C (met_X2_in l E A ad H (lk ((M 44)) ((F 45)) f46_82) 97 122 (show -9223372036854775808 ≤ (lk ((M 44)) ((F 45)) f46_82) ∧ (lk ((M 44)) ((F 45)) f46_82) < 9223372036854775808 from (by omega)) (show -9223372036854775808 ≤ 97 ∧ 97 < 9223372036854775808 from (by omega)) (show -9223372036854775808 ≤ 122 ∧ 122 < 9223372036854775808 from (by omega))) (lw_S q1209 q1210 q88 q1211) hd_X2_in rfl (by decide) rfl hS hl.1 rfl (Nat.le_of_ble_eq_true rfl) dX2_next_97 rfl rfl ⟨Nat.le_of_ble_eq_true rfl, Nat.le_of_ble_eq_true rfl⟩ (fun rr H locs hp hS => ?_)
                  obtain ⟨hrr, hH⟩ := hp
                  have hrr : rr = bI (97 ≤ (lk ((M 44)) ((F 45)) f46_82) ∧ (lk ((M 44)) ((F 45)) f46_82) ≤ 122) := hrr
                  subst hrr
                  have hX : MH E A ad (va_up (va_up (va_up F 46 f46_82) 47 f46) 48 1) M H := by rw [hH]; exact hX
                  refine r_if_eq_b (tgt := 116) C dX2_next_100 (by decide) (fun c_20 => ?_) (fun c_20 => ?_)
                  · have erl : f46_82 = rn isLt (M 44) (F 45) (tf (M 44) (F 45) (F 46)) := IsRn.eq ⟨h46b.1, hsp2, by assumption⟩
                    refine lv_aload_n C.x C.b dX2_next_116 rfl (lv_at hl 0 rfl) ?_
                    refine lv_aload_n C.x C.b dX2_next_117 rfl (lv_at hl 0 rfl) ?_
                    refine r_callVi (As := []) (rest := [.ref (ad 63)]) (cells' := 0) (slots' := 0) C (met_X2_nameNow l E A ad (va_up (va_up (va_up F 46 f46_82) 47 f46) 48 1) M) (lw_V q1480 q1482 qs77 q88 q1483) hd_X2_nameNow rfl (by decide) (m_recv C hX) hX hS hl.1 rfl (Nat.le_of_ble_eq_true rfl) dX2_next_118 rfl rfl ⟨Nat.le_of_ble_eq_true rfl, Nat.le_of_ble_eq_true rfl⟩ (fun rr H locs hp hS => ?_)
                    obtain ⟨hnm, hrr, hX⟩ := hp
                    have hrr : rr = nmv ((M 44)) ((F 45)) (f46) (f46_82) := hrr
                    subst hrr
                    replace hnm : -4 ≤ nmv ((M 44)) ((F 45)) (f46) (f46_82) ∧ nmv ((M 44)) ((F 45)) (f46) (f46_82) ≤ 5 := hnm
                    refine mp_49 C hX hS (by omega) (F' := (va_up (va_up (va_up (va_up F 46 f46_82) 47 f46) 48 1) 49 (nmv ((M 44)) ((F 45)) (f46) (f46_82)))) rfl dX2_next_121 (fun H locs hX hS => ?_)
                    refine lv_aload_n C.x C.b dX2_next_124 rfl (lv_at hl 0 rfl) ?_
                    refine lv_aload_n C.x C.b dX2_next_125 rfl (lv_at hl 0 rfl) ?_
                    refine mg_49 C hX (nmv ((M 44)) ((F 45)) (f46) (f46_82)) rfl dX2_next_126 (fun r126 => ?_)
                    refine r_bipush C (by decide) dX2_next_129 ?_
                    have J139_21 : ∀ (t1 : Int) (ht1 : t1 = bI (¬ ((nmv ((M 44)) ((F 45)) (f46) (f46_82)) = (-4)))) (H : Heap) (locs : List Loc) (ls : Array Slot) (hX : MH E A ad (va_up (va_up (va_up (va_up F 46 f46_82) 47 f46) 48 1) 49 (nmv ((M 44)) ((F 45)) (f46) (f46_82))) M H) (hS : va_S A s.heap H locs) (hl : lv_has ls 2 [(0, .ref (ad 63)), (1, .int (zi (lk ((M 44)) ((F 45)) f46)))]), W p l e rm_X2_next s m args below meth c H locs 0 0 QQ (F0 m 139 ls [.int (zi t1), .ref (ad 63)]) := by
                      intro t1 ht1 H locs ls hX hS hl
                      subst ht1
                      refine r_const C dX2_next_139 ?_
                      refine r_callVv (As := [.int (zi (bI (¬ ((nmv ((M 44)) ((F 45)) (f46) (f46_82)) = (-4))))), .int (zi 1)]) (rest := []) (cells' := 0) (slots' := 0) C (met_X2_wants l E A ad (va_up (va_up (va_up (va_up F 46 f46_82) 47 f46) 48 1) 49 (nmv ((M 44)) ((F 45)) (f46) (f46_82))) M (¬ ((nmv ((M 44)) ((F 45)) (f46) (f46_82)) = (-4))) 1 (show 0 ≤ 1 ∧ 1 ≤ 5 from (by omega))) (lw_V q1488 q1490 qs79 q88 q1491) hd_X2_wants rfl (by decide) (m_recv C hX) hX hS hl.1 rfl (Nat.le_of_ble_eq_true rfl) dX2_next_140 rfl rfl ⟨Nat.le_of_ble_eq_true rfl, Nat.le_of_ble_eq_true rfl⟩ (fun H locs hp hS => ?_)
                      obtain ⟨f50_22, f51_23, hw50, hw51, hX⟩ := hp
                      replace hw50 : f50_22 = sel (¬ (¬ ((nmv ((M 44)) ((F 45)) (f46) (f46_82)) = (-4))) ∧ (F 50) = 0) 1 ((F 50)) := hw50
                      replace hw51 : f51_23 = sel (¬ (¬ ((nmv ((M 44)) ((F 45)) (f46) (f46_82)) = (-4))) ∧ (F 50) = 0) (f46) ((F 51)) := hw51
                      have hX : MH E A ad (va_up (va_up (va_up (va_up (va_up (va_up F 46 f46_82) 47 f46) 48 1) 49 (nmv ((M 44)) ((F 45)) (f46) (f46_82))) 50 f50_22) 51 f51_23) M H := hX.to ((congrArg (fun z => va_up z 51 f51_23) rfl).trans rfl) rfl
                      refine lv_goto (tgt := 320) C.x C.b dX2_next_143 (by decide) ?_
                      rw [← hQQ]
                      exact r_vret C hS (Nat.le_of_ble_eq_true rfl) (Nat.le_of_ble_eq_true rfl) dX2_next_320 ⟨f46_82, f46, 1, (nmv ((M 44)) ((F 45)) (f46) (f46_82)), f50_22, f51_23, (fun q => absurd q (by omega)), (fun q => by
                          first
                          | (rw [etf]; exact nxt_end (by omega) q)
                          | (rw [hw50, hw51, etf]; exact nxt_lt (by omega) (by rw [← hc1]; assumption) erl (by first | rfl | rw [etf]) Iff.rfl q)
                          | (rw [hw50, hw51, etf]; exact nxt_dg (by omega) (by rw [← hc1]; assumption) (by rw [← hc1]; assumption) erd hv (by first | exact Int.not_lt | (rw [etf]; exact Int.not_lt)) q)
                          | (rw [hw50, hw51, etf]; exact nxt_ot (by omega) (by rw [← hc1]; assumption) (by rw [← hc1]; assumption) rfl rfl Iff.rfl q)), (by first | rfl | assumption | exact (sel_t (by omega)).symm | exact (sel_f (by omega)).symm | omega), hX⟩
                    refine r_icmp_eq (tgt := 138) C (by omega) (by decide) dX2_next_131 (by decide) (fun c_24 => ?_) (fun c_24 => ?_)
                    · refine r_const C dX2_next_138 ?_
                      exact J139_21 0 ((bI_f (fun q => q c_24)).symm) H locs ls hX hS hl
                    · refine r_const C dX2_next_134 ?_
                      refine lv_goto (tgt := 139) C.x C.b dX2_next_135 (by decide) ?_
                      exact J139_21 1 ((bI_t c_24).symm) H locs ls hX hS hl
                  · refine lv_aload_n C.x C.b dX2_next_103 rfl (lv_at hl 0 rfl) ?_
                    refine lv_dup C.x C.b dX2_next_104 rfl ?_
                    refine mg_46 C hX f46_82 rfl dX2_next_105 (fun _ => ?_)
                    refine r_const C dX2_next_108 ?_
                    refine r_iadd C dX2_next_109 ?_
                    refine mp_46 C hX hS (by omega) (F' := (va_up (va_up (va_up F 46 (f46_82 + 1)) 47 f46) 48 1)) (up_in (by decide) (up_in (by decide) (up_up _ _ _ _))) dX2_next_110 (fun H locs hX hS => ?_)
                    refine lv_goto (tgt := 82) C.x C.b dX2_next_113 (by decide) ?_
                    exact ih82 (f46_82 + 1) (by omega) (IsRn.st hsp2 (by assumption)) (by omega) H locs ls hX hS hl
              exact L82 _ f46 (by omega) (fun j a b => absurd a (by omega)) (Nat.lt_succ_self _) H locs ls hX hS (lv_sub hl [1, 0] rfl)
          · refine lv_aload_n C.x C.b dX2_next_55 rfl (lv_at hl 1 rfl) ?_
            refine r_const C dX2_next_56 ?_
            refine mp_48 C hX hS (by omega) (F' := (va_up (va_up (va_up F 46 f46) 47 f46) 48 0)) rfl dX2_next_57 (fun H locs hX hS => ?_)
            refine lv_goto (tgt := 320) C.x C.b dX2_next_60 (by decide) ?_
            rw [← hQQ]
            exact r_vret C hS (Nat.le_of_ble_eq_true rfl) (Nat.le_of_ble_eq_true rfl) dX2_next_320 ⟨f46, f46, 0, (F 49), (F 50), (F 51), (fun q => absurd q (by omega)), (fun q => by
                first
                | (rw [etf]; exact nxt_end (by omega) q)
                | (rw [hw50, hw51, etf]; exact nxt_lt (by omega) (by rw [← hc1]; assumption) erl (by first | rfl | rw [etf]) Iff.rfl q)
                | (rw [hw50, hw51, etf]; exact nxt_dg (by omega) (by rw [← hc1]; assumption) (by rw [← hc1]; assumption) erd hv (by first | exact Int.not_lt | (rw [etf]; exact Int.not_lt)) q)
                | (rw [hw50, hw51, etf]; exact nxt_ot (by omega) (by rw [← hc1]; assumption) (by rw [← hc1]; assumption) rfl rfl Iff.rfl q)), (by first | rfl | assumption | exact (sel_t (by omega)).symm | exact (sel_f (by omega)).symm | omega), (hX.to ((((up_id (va_up (va_up (va_up F 46 f46) 47 f46) 48 0) (k := 49) (a := (F 49)) rfl).symm.trans rfl).trans ((up_id (va_up (va_up (va_up (va_up F 46 f46) 47 f46) 48 0) 49 (F 49)) (k := 50) (a := (F 50)) rfl).symm.trans rfl)).trans ((up_id (va_up (va_up (va_up (va_up (va_up F 46 f46) 47 f46) 48 0) 49 (F 49)) 50 (F 50)) (k := 51) (a := (F 51)) rfl).symm.trans rfl)) rfl)⟩
        · refine lv_aload_n C.x C.b dX2_next_21 rfl (lv_at hl 0 rfl) ?_
          refine lv_dup C.x C.b dX2_next_22 rfl ?_
          refine mg_46 C hX f46 rfl dX2_next_23 (fun _ => ?_)
          refine r_const C dX2_next_26 ?_
          refine r_iadd C dX2_next_27 ?_
          refine mp_46 C hX hS (by omega) (F' := (va_up F 46 (f46 + 1))) (up_up _ _ _ _) dX2_next_28 (fun H locs hX hS => ?_)
          refine lv_goto (tgt := 8) C.x C.b dX2_next_31 (by decide) ?_
          exact ih8 (f46 + 1) (by omega) (IsRn.st hsp (show lk (M 44) (F 45) f46 = 32 by assumption)) (by omega) H locs ls hX hS hl
    exact L8 _ (F 46) (by omega) (fun j a b => absurd a (by omega)) (Nat.lt_succ_self _) H locs ls (hX.to ((up_id F (k := 46) (a := (F 46)) rfl).symm.trans rfl) rfl) hS hl
  · rw [← hQQ]
    exact r_vret C hS (Nat.le_of_ble_eq_true rfl) (Nat.le_of_ble_eq_true rfl) dX2_next_7 ⟨(F 46), (F 47), (F 48), (F 49), (F 50), (F 51), (fun _ => ⟨rfl, rfl, rfl, rfl, rfl, rfl⟩), (fun q => absurd q (by omega)), (by first | rfl | assumption | exact (sel_t (by omega)).symm | exact (sel_f (by omega)).symm | omega), (hX.to (((((((up_id F (k := 46) (a := (F 46)) rfl).symm.trans rfl).trans ((up_id (va_up F 46 (F 46)) (k := 47) (a := (F 47)) rfl).symm.trans rfl)).trans ((up_id (va_up (va_up F 46 (F 46)) 47 (F 47)) (k := 48) (a := (F 48)) rfl).symm.trans rfl)).trans ((up_id (va_up (va_up (va_up F 46 (F 46)) 47 (F 47)) 48 (F 48)) (k := 49) (a := (F 49)) rfl).symm.trans rfl)).trans ((up_id (va_up (va_up (va_up (va_up F 46 (F 46)) 47 (F 47)) 48 (F 48)) 49 (F 49)) (k := 50) (a := (F 50)) rfl).symm.trans rfl)).trans ((up_id (va_up (va_up (va_up (va_up (va_up F 46 (F 46)) 47 (F 47)) 48 (F 48)) 49 (F 49)) 50 (F 50)) (k := 51) (a := (F 51)) rfl).symm.trans rfl)) rfl)⟩
