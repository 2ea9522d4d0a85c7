set_option maxRecDepth 100000

theorem hd_X2_isMarks : yX2_isMarks.cls ≠ "java/lang/invoke/MethodHandle" ∧ yX2_isMarks.cls ≠ "java/lang/invoke/VarHandle" ∧ (parseMethodDescriptor yX2_isMarks.desc).map (fun d => d.parameters.length) = some 1 := by decide +kernel
abbrev rm_X2_isMarks : Room := { frames := 1, cells := 0, slots := 0, locals := 25 }
set_option maxHeartbeats 8000000 in
theorem met_X2_isMarks (l : Launch) (E : us_E) (A : Nat → Prop) (ad : Nat → Nat) (H0 : Heap) (v : Int) (hv : -2147483648 ≤ v ∧ v < 2147483648) : cMet l yX2_isMarks cX2_isMarks 3 (some .boolean) rm_X2_isMarks A E [.int (zi v)] (fun H => H = H0) (qi A (fun r H => (r = bI (okM v)) ∧ (H = H0))) := by
  refine cMet.of (by decide) (Nat.le_of_ble_eq_true rfl) (fun p e s m args below meth c C hnm hX hS ls hl => ?_)
  have C : Cx p s m args meth c A RX2 cX2_isMarks 3 (some .boolean) E := C
  have hX : s.heap = H0 := hX
  have hl : lv_has ls 3 [(0, .int (zi v))] := hl
  generalize hH : s.heap = H at hX
  have hS : va_S A s.heap H [] := by rw [← hH]; exact hS
  generalize hlocs : ([] : List Loc) = locs at hS ⊢
  refine lv_iload_n C.x C.b dX2_isMarks_0 rfl (lv_at hl 0 rfl) ?_
  refine r_i2l C (by omega) dX2_isMarks_1 ?_
  refine r_lconst C 0 rfl dX2_isMarks_2 ?_
  refine r_ldc2 C 1048575 (by decide) q1354 dX2_isMarks_3 ?_
  refine r_callSi (As := [.long (zl v), .long (zl 0), .long (zl 1048575)]) (rest := []) (cells' := 0) (slots' := 0) C (met_X2_in l E A ad H v 0 1048575 (show -9223372036854775808 ≤ v ∧ v < 9223372036854775808 from (by omega)) (show -9223372036854775808 ≤ 0 ∧ 0 < 9223372036854775808 from (by omega)) (show -9223372036854775808 ≤ 1048575 ∧ 1048575 < 9223372036854775808 from (by omega))) (lw_S q1209 q1210 q88 q1211) hd_X2_in rfl (by decide) rfl hS hl.1 rfl (Nat.le_of_ble_eq_true rfl) dX2_isMarks_6 rfl rfl ⟨Nat.le_of_ble_eq_true rfl, Nat.le_of_ble_eq_true rfl⟩ (fun rr H locs hp hS => ?_)
  obtain ⟨hrr, hH⟩ := hp
  have hrr : rr = bI (0 ≤ v ∧ v ≤ 1048575) := hrr
  subst hrr
  have hX : H = H0 := by rw [hH]; exact hX
  refine lv_istore_n (lv' := [(1, .int (zi (bI (0 ≤ v ∧ v ≤ 1048575)))), (0, .int (zi v))]) C.x C.b dX2_isMarks_9 rfl hl (by decide) rfl (fun ls hl => ?_)
  refine r_const C dX2_isMarks_10 ?_
  refine lv_istore_n (lv' := [(2, .int (zi 0)), (1, .int (zi (bI (0 ≤ v ∧ v ≤ 1048575)))), (0, .int (zi v))]) C.x C.b dX2_isMarks_11 rfl hl (by decide) rfl (fun ls hl => ?_)
  have L12 : ∀ (fu : Nat) (v1 : Prop) (xv1 : Int) (hv1 : xv1 = bI v1) (v2 : Int) (hi : 0 ≤ v2 ∧ v2 ≤ 4) (hb : v1 ↔ ((0 ≤ v ∧ v ≤ 1048575) ∧ ∀ k : Int, 0 ≤ k → k < v2 → ¬ 20 < mk5 v k)) (hm : Int.toNat (4 - v2) < fu) (H : Heap) (locs : List Loc) (ls : Array Slot) (hX : H = H0) (hS : va_S A s.heap H locs) (hl : lv_has ls 3 [(0, .int (zi v)), (1, .int (zi xv1)), (2, .int (zi v2))]), W p l e rm_X2_isMarks s m args below meth c H locs 0 0 (MQ below (qi A (fun r H => (r = bI (okM v)) ∧ (H = H0))) args s (rm_X2_isMarks).cells (rm_X2_isMarks).slots A) (F0 m 12 ls []) := by
    intro fu
    induction fu with
    | zero => intro v1 xv1 hv1 v2 hi hb hm; exact absurd hm (Nat.not_lt_zero _)
    | succ fu ih12 =>
      intro v1 xv1 hv1 v2 hi hb hm H locs ls hX hS hl
      subst hv1
      refine lv_iload_n C.x C.b dX2_isMarks_12 rfl (lv_at hl 2 rfl) ?_
      refine r_const C dX2_isMarks_13 ?_
      refine r_icmp_ge (tgt := 46) C (by omega) (by decide) dX2_isMarks_14 (by decide) (fun c_1 => ?_) (fun c_1 => ?_)
      · refine lv_iload_n C.x C.b dX2_isMarks_46 rfl (lv_at hl 1 rfl) ?_
        exact r_zret C (bI_e _) hS (Nat.le_of_ble_eq_true rfl) (Nat.le_of_ble_eq_true rfl) dX2_isMarks_47 ⟨(bI_c (by rw [hb, show v2 = 4 by omega]; exact Iff.rfl)), hX⟩
      · refine lv_iload_n C.x C.b dX2_isMarks_17 rfl (lv_at hl 1 rfl) ?_
        have J39_2 : ∀ (t0 : Int) (ht0 : t0 = bI (v1 ∧ (¬ (20 < ((v / 2 ^ (5 * v2).toNat) % 32))))) (H : Heap) (locs : List Loc) (ls : Array Slot) (hX : H = H0) (hS : va_S A s.heap H locs) (hl : lv_has ls 3 [(0, .int (zi v)), (1, .int (zi (bI v1))), (2, .int (zi v2))]), W p l e rm_X2_isMarks s m args below meth c H locs 0 0 (MQ below (qi A (fun r H => (r = bI (okM v)) ∧ (H = H0))) args s (rm_X2_isMarks).cells (rm_X2_isMarks).slots A) (F0 m 39 ls [.int (zi t0)]) := by
          intro t0 ht0 H locs ls hX hS hl
          subst ht0
          refine lv_istore_n (lv' := [(1, .int (zi (bI (v1 ∧ (¬ (20 < ((v / 2 ^ (5 * v2).toNat) % 32))))))), (0, .int (zi v)), (2, .int (zi v2))]) C.x C.b dX2_isMarks_39 rfl hl (by decide) rfl (fun ls hl => ?_)
          refine r_iinc (lv' := [(2, .int (zi (v2 + 1))), (1, .int (zi (bI (v1 ∧ (¬ (20 < ((v / 2 ^ (5 * v2).toNat) % 32))))))), (0, .int (zi v))]) C dX2_isMarks_40 hl (k := 2) rfl (by decide) rfl (fun ls hl => ?_)
          refine lv_goto (tgt := 12) C.x C.b dX2_isMarks_43 (by decide) ?_
          exact ih12 (v1 ∧ (¬ (20 < ((v / 2 ^ (5 * v2).toNat) % 32)))) (bI (v1 ∧ (¬ (20 < ((v / 2 ^ (5 * v2).toNat) % 32))))) rfl (v2 + 1) (by omega) (ba_st (P := fun k => ¬ 20 < mk5 v k) (by omega) hb) (by omega) H locs ls hX hS (lv_sub hl [2, 1, 0] rfl)
        refine r_if_eq_b (tgt := 38) C dX2_isMarks_18 (by decide) (fun c_3 => ?_) (fun c_3 => ?_)
        · refine r_const C dX2_isMarks_38 ?_
          exact J39_2 0 ((bI_f (fun q => c_3 q.1)).symm) H locs ls hX hS hl
        · refine lv_iload_n C.x C.b dX2_isMarks_21 rfl (lv_at hl 0 rfl) ?_
          refine r_const C dX2_isMarks_22 ?_
          refine lv_iload_n C.x C.b dX2_isMarks_23 rfl (lv_at hl 2 rfl) ?_
          refine r_imul C dX2_isMarks_24 ?_
          refine r_ishr C (by omega) (by omega) rfl dX2_isMarks_25 ?_
          refine r_bipush C (by decide) dX2_isMarks_26 ?_
          refine r_iand C (zi_and31 _) dX2_isMarks_28 ?_
          refine r_bipush C (by decide) dX2_isMarks_29 ?_
          refine r_icmp_gt (tgt := 38) C (by omega) (by decide) dX2_isMarks_31 (by decide) (fun c_4 => ?_) (fun c_4 => ?_)
          · refine r_const C dX2_isMarks_38 ?_
            exact J39_2 0 ((bI_f (fun q => (fun q => q c_4) q.2)).symm) H locs ls hX hS hl
          · refine r_const C dX2_isMarks_34 ?_
            refine lv_goto (tgt := 39) C.x C.b dX2_isMarks_35 (by decide) ?_
            exact J39_2 1 ((bI_t ⟨c_3, c_4⟩).symm) H locs ls hX hS hl
  exact L12 _ (0 ≤ v ∧ v ≤ 1048575) (bI (0 ≤ v ∧ v ≤ 1048575)) rfl 0 (by omega) ba_0 (Nat.lt_succ_self _) H locs ls hX hS (lv_sub hl [2, 1, 0] rfl)

theorem hd_X2_account : yX2_account.cls = RX2 ∧ yX2_account.cls ≠ "java/lang/invoke/MethodHandle" ∧ yX2_account.cls ≠ "java/lang/invoke/VarHandle" ∧ (parseMethodDescriptor yX2_account.desc).map (fun d => d.parameters.length) = some 2 := by decide +kernel
abbrev rm_X2_account : Room := { frames := 2, cells := 0, slots := 0, locals := 47 }
set_option maxHeartbeats 8000000 in
theorem met_X2_account (l : Launch) (E : us_E) (A : Nat → Prop) (ad : Nat → Nat) (F : Nat → Int) (M : Nat → Int → Int) (a : Int) (b : Int) (ha : -2147483648 ≤ a ∧ a < 2147483648) (hb : -2147483648 ≤ b ∧ b < 2147483648) : cMet l yX2_account cX2_account 3 (some .int) rm_X2_account A E [.ref (ad 63), .int (zi a), .int (zi b)] (fun H => MH E A ad F M H) (qi A (fun r H => ∃ f20 : Int, ∃ m21 : Int → Int, ∃ m22 : Int → Int, (f20 = sel ((okM a ∧ okM b) ∧ ¬ F 20 = 8) (F 20 + 1) (F 20)) ∧ (m21 = sel ((okM a ∧ okM b) ∧ ¬ F 20 = 8) (fup (M 21) (F 20) a) (M 21)) ∧ (m22 = sel ((okM a ∧ okM b) ∧ ¬ F 20 = 8) (fup (M 22) (F 20) b) (M 22)) ∧ (r = sel (okM a ∧ okM b) (sel (F 20 = 8) (-3) (F 20)) (-1)) ∧ MH E A ad (va_up F 20 f20) (va_up (va_up M 21 m21) 22 m22) H)) := by
  refine cMet.of (by decide) (Nat.le_of_ble_eq_true rfl) (fun p e s m args below meth c C hnm hX hS ls hl => ?_)
  have C : Cx p s m args meth c A RX2 cX2_account 3 (some .int) E := C
  have hX : MH E A ad F M s.heap := hX
  have hl : lv_has ls 3 [(0, .ref (ad 63)), (1, .int (zi a)), (2, .int (zi b))] := hl
  generalize hH : s.heap = H at hX
  have hS : va_S A s.heap H [] := by rw [← hH]; exact hS
  generalize hlocs : ([] : List Loc) = locs at hS ⊢
  have rF20 : 0 ≤ F 20 ∧ F 20 ≤ 8 := hX.2.1 20 (0, 8) rfl
  refine lv_iload_n C.x C.b dX2_account_0 rfl (lv_at hl 1 rfl) ?_
  refine r_callSi (As := [.int (zi a)]) (rest := []) (cells' := 0) (slots' := 0) C (met_X2_isMarks l E A ad H a (show -2147483648 ≤ a ∧ a < 2147483648 from (by omega))) (lw_S q1351 q1352 q88 q1353) hd_X2_isMarks rfl (by decide) rfl hS hl.1 rfl (Nat.le_of_ble_eq_true rfl) dX2_account_1 rfl rfl ⟨Nat.le_of_ble_eq_true rfl, Nat.le_of_ble_eq_true rfl⟩ (fun rr H locs hp hS => ?_)
  obtain ⟨hrr, hH⟩ := hp
  have hrr : rr = bI (okM a) := hrr
  subst hrr
  have hX : MH E A ad F M H := by rw [hH]; exact hX
  refine r_if_eq_b (tgt := 14) C dX2_account_4 (by decide) (fun c_1 => ?_) (fun c_1 => ?_)
  · refine r_const C dX2_account_14 ?_
    exact r_iret C hS (Nat.le_of_ble_eq_true rfl) (Nat.le_of_ble_eq_true rfl) dX2_account_15 ⟨(F 20), (M 21), (M 22), (by first | exact Eq.symm (sel_f (fun q => absurd q.1.1 (by assumption))) | exact Eq.symm (sel_f (fun q => absurd q.1.2 (by assumption)))), (by first | exact Eq.symm (sel_f (fun q => absurd q.1.1 (by assumption))) | exact Eq.symm (sel_f (fun q => absurd q.1.2 (by assumption)))), (by first | exact Eq.symm (sel_f (fun q => absurd q.1.1 (by assumption))) | exact Eq.symm (sel_f (fun q => absurd q.1.2 (by assumption)))), (by first | exact Eq.symm (sel_f (fun q => absurd q.1 (by assumption))) | exact Eq.symm (sel_f (fun q => absurd q.2 (by assumption)))), (hX.to ((up_id F (k := 20) (a := (F 20)) rfl).symm.trans rfl) (((up_id M (k := 21) (a := (M 21)) rfl).symm.trans rfl).trans ((up_id (va_up M 21 (M 21)) (k := 22) (a := (M 22)) rfl).symm.trans rfl)))⟩
  · refine lv_iload_n C.x C.b dX2_account_7 rfl (lv_at hl 2 rfl) ?_
    refine r_callSi (As := [.int (zi b)]) (rest := []) (cells' := 0) (slots' := 0) C (met_X2_isMarks l E A ad H b (show -2147483648 ≤ b ∧ b < 2147483648 from (by omega))) (lw_S q1351 q1352 q88 q1353) hd_X2_isMarks rfl (by decide) rfl hS hl.1 rfl (Nat.le_of_ble_eq_true rfl) dX2_account_8 rfl rfl ⟨Nat.le_of_ble_eq_true rfl, Nat.le_of_ble_eq_true rfl⟩ (fun rr H locs hp hS => ?_)
    obtain ⟨hrr, hH⟩ := hp
    have hrr : rr = bI (okM b) := hrr
    subst hrr
    have hX : MH E A ad F M H := by rw [hH]; exact hX
    refine r_if_ne_b (tgt := 16) C dX2_account_11 (by decide) (fun c_2 => ?_) (fun c_2 => ?_)
    · refine lv_aload_n C.x C.b dX2_account_16 rfl (lv_at hl 0 rfl) ?_
      refine mg_20 C hX (F 20) rfl dX2_account_17 (fun _ => ?_)
      refine r_bipush C (by decide) dX2_account_20 ?_
      refine r_icmp_ne (tgt := 28) C (by omega) (by decide) dX2_account_22 (by decide) (fun c_3 => ?_) (fun c_3 => ?_)
      · refine lv_aload_n C.x C.b dX2_account_28 rfl (lv_at hl 0 rfl) ?_
        refine mg_21 C hX dX2_account_29 ?_
        refine lv_aload_n C.x C.b dX2_account_32 rfl (lv_at hl 0 rfl) ?_
        refine mg_20 C hX (F 20) rfl dX2_account_33 (fun _ => ?_)
        refine lv_iload_n C.x C.b dX2_account_36 rfl (lv_at hl 1 rfl) ?_
        have hoa := (show okM a by assumption).1
        have hob := (show okM b by assumption).1
        refine ms_21 C hX hS (by omega) (by omega) (M 21) rfl (M' := (va_up M 21 (fup (M 21) (F 20) a))) rfl dX2_account_37 (fun H locs hX hS => ?_)
        refine lv_aload_n C.x C.b dX2_account_38 rfl (lv_at hl 0 rfl) ?_
        refine mg_22 C hX dX2_account_39 ?_
        refine lv_aload_n C.x C.b dX2_account_42 rfl (lv_at hl 0 rfl) ?_
        refine mg_20 C hX (F 20) rfl dX2_account_43 (fun _ => ?_)
        refine lv_iload_n C.x C.b dX2_account_46 rfl (lv_at hl 2 rfl) ?_
        refine ms_22 C hX hS (by omega) (by omega) (M 22) rfl (M' := (va_up (va_up M 21 (fup (M 21) (F 20) a)) 22 (fup (M 22) (F 20) b))) rfl dX2_account_47 (fun H locs hX hS => ?_)
        refine lv_aload_n C.x C.b dX2_account_48 rfl (lv_at hl 0 rfl) ?_
        refine lv_dup C.x C.b dX2_account_49 rfl ?_
        refine mg_20 C hX (F 20) rfl dX2_account_50 (fun _ => ?_)
        refine r_const C dX2_account_53 ?_
        refine r_iadd C dX2_account_54 ?_
        refine mp_20 C hX hS (by omega) (F' := (va_up F 20 ((F 20) + 1))) rfl dX2_account_55 (fun H locs hX hS => ?_)
        refine lv_aload_n C.x C.b dX2_account_58 rfl (lv_at hl 0 rfl) ?_
        refine mg_20 C hX ((F 20) + 1) rfl dX2_account_59 (fun r59 => ?_)
        refine r_const C dX2_account_62 ?_
        refine r_isub C dX2_account_63 ?_
        exact r_iret C hS (Nat.le_of_ble_eq_true rfl) (Nat.le_of_ble_eq_true rfl) dX2_account_64 ⟨((F 20) + 1), (fup (M 21) (F 20) a), (fup (M 22) (F 20) b), (Eq.symm (sel_t ⟨⟨by assumption, by assumption⟩, by assumption⟩)), (Eq.symm (sel_t ⟨⟨by assumption, by assumption⟩, by assumption⟩)), (Eq.symm (sel_t ⟨⟨by assumption, by assumption⟩, by assumption⟩)), (by rw [sel_t ⟨by assumption, by assumption⟩, sel_f (by assumption)]; omega), hX⟩
      · refine r_bipush C (by decide) dX2_account_25 ?_
        exact r_iret C hS (Nat.le_of_ble_eq_true rfl) (Nat.le_of_ble_eq_true rfl) dX2_account_27 ⟨(F 20), (M 21), (M 22), (Eq.symm (sel_f (fun q => absurd (show F 20 = 8 by assumption) q.2))), (Eq.symm (sel_f (fun q => absurd (show F 20 = 8 by assumption) q.2))), (Eq.symm (sel_f (fun q => absurd (show F 20 = 8 by assumption) q.2))), (by rw [sel_t ⟨by assumption, by assumption⟩, sel_t (by assumption)]), (hX.to ((up_id F (k := 20) (a := (F 20)) rfl).symm.trans rfl) (((up_id M (k := 21) (a := (M 21)) rfl).symm.trans rfl).trans ((up_id (va_up M 21 (M 21)) (k := 22) (a := (M 22)) rfl).symm.trans rfl)))⟩
    · refine r_const C dX2_account_14 ?_
      exact r_iret C hS (Nat.le_of_ble_eq_true rfl) (Nat.le_of_ble_eq_true rfl) dX2_account_15 ⟨(F 20), (M 21), (M 22), (by first | exact Eq.symm (sel_f (fun q => absurd q.1.1 (by assumption))) | exact Eq.symm (sel_f (fun q => absurd q.1.2 (by assumption)))), (by first | exact Eq.symm (sel_f (fun q => absurd q.1.1 (by assumption))) | exact Eq.symm (sel_f (fun q => absurd q.1.2 (by assumption)))), (by first | exact Eq.symm (sel_f (fun q => absurd q.1.1 (by assumption))) | exact Eq.symm (sel_f (fun q => absurd q.1.2 (by assumption)))), (by first | exact Eq.symm (sel_f (fun q => absurd q.1 (by assumption))) | exact Eq.symm (sel_f (fun q => absurd q.2 (by assumption)))), (hX.to ((up_id F (k := 20) (a := (F 20)) rfl).symm.trans rfl) (((up_id M (k := 21) (a := (M 21)) rfl).symm.trans rfl).trans ((up_id (va_up M 21 (M 21)) (k := 22) (a := (M 22)) rfl).symm.trans rfl)))⟩

theorem hd_X2_listed : yX2_listed.cls ≠ "java/lang/invoke/MethodHandle" ∧ yX2_listed.cls ≠ "java/lang/invoke/VarHandle" ∧ (parseMethodDescriptor yX2_listed.desc).map (fun d => d.parameters.length) = some 1 := by decide +kernel
abbrev rm_X2_listed : Room := { frames := 0, cells := 0, slots := 0, locals := 0 }
set_option maxHeartbeats 8000000 in
theorem met_X2_listed (l : Launch) (E : us_E) (A : Nat → Prop) (ad : Nat → Nat) (H0 : Heap) (k : Int) (hk : -2147483648 ≤ k ∧ k < 2147483648) : cMet l yX2_listed cX2_listed 1 (some .int) rm_X2_listed A E [.int (zi k)] (fun H => H = H0) (qi A (fun r H => (1 ≤ lst k ∧ lst k ≤ 60) ∧ (r = lst k) ∧ (H = H0))) := by
  refine cMet.of (by decide) (Nat.le_of_ble_eq_true rfl) (fun p e s m args below meth c C hnm hX hS ls hl => ?_)
  have C : Cx p s m args meth c A RX2 cX2_listed 1 (some .int) E := C
  have hX : s.heap = H0 := hX
  have hl : lv_has ls 1 [(0, .int (zi k))] := hl
  generalize hH : s.heap = H at hX
  have hS : va_S A s.heap H [] := by rw [← hH]; exact hS
  generalize hlocs : ([] : List Loc) = locs at hS ⊢
  refine lv_iload_n C.x C.b dX2_listed_0 rfl (lv_at hl 0 rfl) ?_
  have J68_1 : ∀ (t0 : Int) (ht0 : t0 = sel (k = 0) 1 (sel (k = 1) 2 (sel (k = 2) 4 (sel (k = 3) 5 (sel (k = 4) 6 (sel (k = 5) 10 (sel (k = 6) 12 60))))))) (H : Heap) (locs : List Loc) (ls : Array Slot) (hX : H = H0) (hS : va_S A s.heap H locs) (hl : lv_has ls 1 [(0, .int (zi k))]), W p l e rm_X2_listed s m args below meth c H locs 0 0 (MQ below (qi A (fun r H => (1 ≤ lst k ∧ lst k ≤ 60) ∧ (r = lst k) ∧ (H = H0))) args s (rm_X2_listed).cells (rm_X2_listed).slots A) (F0 m 68 ls [.int (zi t0)]) := by
    intro t0 ht0 H locs ls hX hS hl
    subst ht0
    exact r_iret C hS (Nat.le_of_ble_eq_true rfl) (Nat.le_of_ble_eq_true rfl) dX2_listed_68 ⟨(lst_r k), (by first | rfl | assumption), hX⟩
  refine r_if_ne (tgt := 8) C (by omega) dX2_listed_1 (by decide) (fun c_2 => ?_) (fun c_2 => ?_)
  · refine lv_iload_n C.x C.b dX2_listed_8 rfl (lv_at hl 0 rfl) ?_
    refine r_const C dX2_listed_9 ?_
    refine r_icmp_ne (tgt := 17) C (by omega) (by decide) dX2_listed_10 (by decide) (fun c_3 => ?_) (fun c_3 => ?_)
    · refine lv_iload_n C.x C.b dX2_listed_17 rfl (lv_at hl 0 rfl) ?_
      refine r_const C dX2_listed_18 ?_
      refine r_icmp_ne (tgt := 26) C (by omega) (by decide) dX2_listed_19 (by decide) (fun c_4 => ?_) (fun c_4 => ?_)
      · refine lv_iload_n C.x C.b dX2_listed_26 rfl (lv_at hl 0 rfl) ?_
        refine r_const C dX2_listed_27 ?_
        refine r_icmp_ne (tgt := 35) C (by omega) (by decide) dX2_listed_28 (by decide) (fun c_5 => ?_) (fun c_5 => ?_)
        · refine lv_iload_n C.x C.b dX2_listed_35 rfl (lv_at hl 0 rfl) ?_
          refine r_const C dX2_listed_36 ?_
          refine r_icmp_ne (tgt := 45) C (by omega) (by decide) dX2_listed_37 (by decide) (fun c_6 => ?_) (fun c_6 => ?_)
          · refine lv_iload_n C.x C.b dX2_listed_45 rfl (lv_at hl 0 rfl) ?_
            refine r_const C dX2_listed_46 ?_
            refine r_icmp_ne (tgt := 55) C (by omega) (by decide) dX2_listed_47 (by decide) (fun c_7 => ?_) (fun c_7 => ?_)
            · refine lv_iload_n C.x C.b dX2_listed_55 rfl (lv_at hl 0 rfl) ?_
              refine r_bipush C (by decide) dX2_listed_56 ?_
              refine r_icmp_ne (tgt := 66) C (by omega) (by decide) dX2_listed_58 (by decide) (fun c_8 => ?_) (fun c_8 => ?_)
              · refine r_bipush C (by decide) dX2_listed_66 ?_
                exact J68_1 60 (((sel_f c_2).trans ((sel_f c_3).trans ((sel_f c_4).trans ((sel_f c_5).trans ((sel_f c_6).trans ((sel_f c_7).trans (sel_f c_8))))))).symm) H locs ls hX hS hl
              · refine r_bipush C (by decide) dX2_listed_61 ?_
                refine lv_goto (tgt := 68) C.x C.b dX2_listed_63 (by decide) ?_
                exact J68_1 12 (((sel_f c_2).trans ((sel_f c_3).trans ((sel_f c_4).trans ((sel_f c_5).trans ((sel_f c_6).trans ((sel_f c_7).trans (sel_t c_8))))))).symm) H locs ls hX hS hl
            · refine r_bipush C (by decide) dX2_listed_50 ?_
              refine lv_goto (tgt := 68) C.x C.b dX2_listed_52 (by decide) ?_
              exact J68_1 10 (((sel_f c_2).trans ((sel_f c_3).trans ((sel_f c_4).trans ((sel_f c_5).trans ((sel_f c_6).trans (sel_t c_7)))))).symm) H locs ls hX hS hl
          · refine r_bipush C (by decide) dX2_listed_40 ?_
            refine lv_goto (tgt := 68) C.x C.b dX2_listed_42 (by decide) ?_
            exact J68_1 6 (((sel_f c_2).trans ((sel_f c_3).trans ((sel_f c_4).trans ((sel_f c_5).trans (sel_t c_6))))).symm) H locs ls hX hS hl
        · refine r_const C dX2_listed_31 ?_
          refine lv_goto (tgt := 68) C.x C.b dX2_listed_32 (by decide) ?_
          exact J68_1 5 (((sel_f c_2).trans ((sel_f c_3).trans ((sel_f c_4).trans (sel_t c_5)))).symm) H locs ls hX hS hl
      · refine r_const C dX2_listed_22 ?_
        refine lv_goto (tgt := 68) C.x C.b dX2_listed_23 (by decide) ?_
        exact J68_1 4 (((sel_f c_2).trans ((sel_f c_3).trans (sel_t c_4))).symm) H locs ls hX hS hl
    · refine r_const C dX2_listed_13 ?_
      refine lv_goto (tgt := 68) C.x C.b dX2_listed_14 (by decide) ?_
      exact J68_1 2 (((sel_f c_2).trans (sel_t c_3)).symm) H locs ls hX hS hl
  · refine r_const C dX2_listed_4 ?_
    refine lv_goto (tgt := 68) C.x C.b dX2_listed_5 (by decide) ?_
    exact J68_1 1 ((sel_t c_2).symm) H locs ls hX hS hl

theorem hd_X2_doAddUp : yX2_doAddUp.cls = RX2 ∧ yX2_doAddUp.cls ≠ "java/lang/invoke/MethodHandle" ∧ yX2_doAddUp.cls ≠ "java/lang/invoke/VarHandle" ∧ (parseMethodDescriptor yX2_doAddUp.desc).map (fun d => d.parameters.length) = some 0 := by decide +kernel
abbrev rm_X2_doAddUp : Room := { frames := 1, cells := 0, slots := 0, locals := 20 }
set_option maxHeartbeats 8000000 in
theorem met_X2_doAddUp (l : Launch) (E : us_E) (A : Nat → Prop) (ad : Nat → Nat) (F : Nat → Int) (M : Nat → Int → Int) : cMet l yX2_doAddUp cX2_doAddUp 5 (some .boolean) rm_X2_doAddUp A E [.ref (ad 63)] (fun H => MH E A ad F M H) (qi A (fun r H => (r = bI (Adds (M 23) (M 21) (M 22) (F 20))) ∧ MH E A ad F M H)) := by
  refine cMet.of (by decide) (Nat.le_of_ble_eq_true rfl) (fun p e s m args below meth c C hnm hX hS ls hl => ?_)
  have C : Cx p s m args meth c A RX2 cX2_doAddUp 5 (some .boolean) E := C
  have hX : MH E A ad F M s.heap := hX
  have hl : lv_has ls 5 [(0, .ref (ad 63))] := hl
  generalize hH : s.heap = H at hX
  have hS : va_S A s.heap H [] := by rw [← hH]; exact hS
  generalize hlocs : ([] : List Loc) = locs at hS ⊢
  have rF20 : 0 ≤ F 20 ∧ F 20 ≤ 8 := hX.2.1 20 (0, 8) rfl
  refine r_const C dX2_doAddUp_0 ?_
  refine lv_istore_n (lv' := [(1, .int (zi 1)), (0, .ref (ad 63))]) C.x C.b dX2_doAddUp_1 rfl hl (by decide) rfl (fun ls hl => ?_)
  refine r_const C dX2_doAddUp_2 ?_
  refine lv_istore_n (lv' := [(2, .int (zi 0)), (1, .int (zi 1)), (0, .ref (ad 63))]) C.x C.b dX2_doAddUp_3 rfl hl (by decide) rfl (fun ls hl => ?_)
  have L4 : ∀ (fu : Nat) (v1 : Prop) (xv1 : Int) (hv1 : xv1 = bI v1) (v2 : Int) (hk : 0 ≤ v2 ∧ v2 ≤ F 20) (hb : v1 ↔ ∀ k : Int, 0 ≤ k → k < v2 → asum (M 23) (M 21 k) (M 22 k) = 0) (hm : Int.toNat (F 20 - v2) < fu) (H : Heap) (locs : List Loc) (ls : Array Slot) (hX : MH E A ad F M H) (hS : va_S A s.heap H locs) (hl : lv_has ls 5 [(0, .ref (ad 63)), (1, .int (zi xv1)), (2, .int (zi v2))]), W p l e rm_X2_doAddUp s m args below meth c H locs 0 0 (MQ below (qi A (fun r H => (r = bI (Adds (M 23) (M 21) (M 22) (F 20))) ∧ MH E A ad F M H)) args s (rm_X2_doAddUp).cells (rm_X2_doAddUp).slots A) (F0 m 4 ls []) := by
    intro fu
    induction fu with
    | zero => intro v1 xv1 hv1 v2 hk hb hm; exact absurd hm (Nat.not_lt_zero _)
    | succ fu ih4 =>
      intro v1 xv1 hv1 v2 hk hb hm H locs ls hX hS hl
      subst hv1
      refine lv_iload_n C.x C.b dX2_doAddUp_4 rfl (lv_at hl 2 rfl) ?_
      refine lv_aload_n C.x C.b dX2_doAddUp_5 rfl (lv_at hl 0 rfl) ?_
      refine mg_20 C hX (F 20) rfl dX2_doAddUp_6 (fun _ => ?_)
      refine r_icmp_ge (tgt := 92) C (by omega) (by omega) dX2_doAddUp_9 (by decide) (fun c_1 => ?_) (fun c_1 => ?_)
      · refine lv_iload_n C.x C.b dX2_doAddUp_92 rfl (lv_at hl 1 rfl) ?_
        exact r_zret C (bI_e _) hS (Nat.le_of_ble_eq_true rfl) (Nat.le_of_ble_eq_true rfl) dX2_doAddUp_93 ⟨(bI_c (by first | (rw [hb, show v2 = F 20 by omega]; exact Iff.rfl) | exact ⟨fun q => absurd q (by assumption), fun q => absurd (hb.2 (fun k a b => q k a (by omega))) (by assumption)⟩)), hX⟩
      · refine lv_iload_n C.x C.b dX2_doAddUp_12 rfl (lv_at hl 1 rfl) ?_
        refine r_if_eq_b (tgt := 92) C dX2_doAddUp_13 (by decide) (fun c_2 => ?_) (fun c_2 => ?_)
        · refine lv_iload_n C.x C.b dX2_doAddUp_92 rfl (lv_at hl 1 rfl) ?_
          exact r_zret C (bI_e _) hS (Nat.le_of_ble_eq_true rfl) (Nat.le_of_ble_eq_true rfl) dX2_doAddUp_93 ⟨(bI_c (by first | (rw [hb, show v2 = F 20 by omega]; exact Iff.rfl) | exact ⟨fun q => absurd q (by assumption), fun q => absurd (hb.2 (fun k a b => q k a (by omega))) (by assumption)⟩)), hX⟩
        · refine r_const C dX2_doAddUp_16 ?_
          refine lv_istore_n (lv' := [(3, .int (zi 0)), (0, .ref (ad 63)), (1, .int (zi (bI v1))), (2, .int (zi v2))]) C.x C.b dX2_doAddUp_17 rfl hl (by decide) rfl (fun ls hl => ?_)
          refine r_const C dX2_doAddUp_18 ?_
          refine lv_istore (lv' := [(4, .int (zi 0)), (3, .int (zi 0)), (0, .ref (ad 63)), (1, .int (zi (bI v1))), (2, .int (zi v2))]) C.x C.b dX2_doAddUp_19 hl (by decide) rfl (fun ls hl => ?_)
          have L21 : ∀ (fu : Nat) (v3 : Int) (v4 : Int) (hm4 : 0 ≤ v4 ∧ v4 ≤ 4) (hs : v3 = isum (fun k => lst (M 23 k) * (mk5 (M 21 v2) k - mk5 (M 22 v2) k)) v4) (hr : -(1860 * v4) ≤ v3 ∧ v3 ≤ 1860 * v4) (hm : Int.toNat (4 - v4) < fu) (H : Heap) (locs : List Loc) (ls : Array Slot) (hX : MH E A ad F M H) (hS : va_S A s.heap H locs) (hl : lv_has ls 5 [(0, .ref (ad 63)), (1, .int (zi (bI v1))), (2, .int (zi v2)), (3, .int (zi v3)), (4, .int (zi v4))]), W p l e rm_X2_doAddUp s m args below meth c H locs 0 0 (MQ below (qi A (fun r H => (r = bI (Adds (M 23) (M 21) (M 22) (F 20))) ∧ MH E A ad F M H)) args s (rm_X2_doAddUp).cells (rm_X2_doAddUp).slots A) (F0 m 21 ls []) := by
            intro fu
            induction fu with
            | zero => intro v3 v4 hm4 hs hr hm; exact absurd hm (Nat.not_lt_zero _)
            | succ fu ih21 =>
              intro v3 v4 hm4 hs hr hm H locs ls hX hS hl
              refine lv_iload C.x C.b dX2_doAddUp_21 (lv_at hl 4 rfl) ?_
              refine r_const C dX2_doAddUp_23 ?_
              refine r_icmp_ge (tgt := 76) C (by omega) (by decide) dX2_doAddUp_24 (by decide) (fun c_3 => ?_) (fun c_3 => ?_)
              · refine lv_iload_n C.x C.b dX2_doAddUp_76 rfl (lv_at hl 3 rfl) ?_
                have J85_4 : ∀ (t0 : Int) (ht0 : t0 = bI (v3 = 0)) (H : Heap) (locs : List Loc) (ls : Array Slot) (hX : MH E A ad F M H) (hS : va_S A s.heap H locs) (hl : lv_has ls 5 [(0, .ref (ad 63)), (1, .int (zi (bI v1))), (2, .int (zi v2)), (3, .int (zi v3)), (4, .int (zi v4))]), W p l e rm_X2_doAddUp s m args below meth c H locs 0 0 (MQ below (qi A (fun r H => (r = bI (Adds (M 23) (M 21) (M 22) (F 20))) ∧ MH E A ad F M H)) args s (rm_X2_doAddUp).cells (rm_X2_doAddUp).slots A) (F0 m 85 ls [.int (zi t0)]) := by
                  intro t0 ht0 H locs ls hX hS hl
                  subst ht0
                  refine lv_istore_n (lv' := [(1, .int (zi (bI (v3 = 0)))), (0, .ref (ad 63)), (2, .int (zi v2)), (3, .int (zi v3)), (4, .int (zi v4))]) C.x C.b dX2_doAddUp_85 rfl hl (by decide) rfl (fun ls hl => ?_)
                  have e := bl_st (P := fun k => asum (M 23) (M 21 k) (M 22 k) = 0) hk.1 hb
                  have e2 : asum (M 23) (M 21 v2) (M 22 v2) = v3 := by rw [hs, show v4 = 4 by omega]; rfl
                  have hst : v3 = 0 ↔ ∀ k : Int, 0 ≤ k → k < v2 + 1 → asum (M 23) (M 21 k) (M 22 k) = 0 := by
                    rw [← e, e2]
                    exact ⟨fun q => ⟨by assumption, q⟩, fun q => q.2⟩
                  refine r_iinc (lv' := [(2, .int (zi (v2 + 1))), (1, .int (zi (bI (v3 = 0)))), (0, .ref (ad 63)), (3, .int (zi v3)), (4, .int (zi v4))]) C dX2_doAddUp_86 hl (k := 2) rfl (by decide) rfl (fun ls hl => ?_)
                  refine lv_goto (tgt := 4) C.x C.b dX2_doAddUp_89 (by decide) ?_
                  exact ih4 (v3 = 0) (bI (v3 = 0)) rfl (v2 + 1) (by omega) hst (by omega) H locs ls hX hS (lv_sub hl [2, 1, 0] rfl)
                refine r_if_ne (tgt := 84) C (by omega) dX2_doAddUp_77 (by decide) (fun c_5 => ?_) (fun c_5 => ?_)
                · refine r_const C dX2_doAddUp_84 ?_
                  exact J85_4 0 ((bI_f c_5).symm) H locs ls hX hS hl
                · refine r_const C dX2_doAddUp_80 ?_
                  refine lv_goto (tgt := 85) C.x C.b dX2_doAddUp_81 (by decide) ?_
                  exact J85_4 1 ((bI_t c_5).symm) H locs ls hX hS hl
              · refine lv_iload_n C.x C.b dX2_doAddUp_27 rfl (lv_at hl 3 rfl) ?_
                refine lv_aload_n C.x C.b dX2_doAddUp_28 rfl (lv_at hl 0 rfl) ?_
                refine mg_23 C hX dX2_doAddUp_29 ?_
                refine lv_iload C.x C.b dX2_doAddUp_32 (lv_at hl 4 rfl) ?_
                refine ml_23 C hX (by omega) (M 23) rfl dX2_doAddUp_34 (fun r34 => ?_)
                have r35 : 0 ≤ M 23 v4 ∧ M 23 v4 ≤ 7 := hX.2.2 23 (0, 7) rfl _
                refine r_callSi (As := [.int (zi (M 23 v4))]) (rest := [.int (zi v3)]) (cells' := 0) (slots' := 0) C (met_X2_listed l E A ad H (M 23 v4) (show -2147483648 ≤ (M 23 v4) ∧ (M 23 v4) < 2147483648 from (by omega))) (lw_S q1368 q1369 q88 q1370) hd_X2_listed rfl (by decide) rfl hS hl.1 rfl (Nat.le_of_ble_eq_true rfl) dX2_doAddUp_35 rfl rfl ⟨Nat.le_of_ble_eq_true rfl, Nat.le_of_ble_eq_true rfl⟩ (fun rr H locs hp hS => ?_)
                obtain ⟨hls, hrr, hH⟩ := hp
                have hrr : rr = lst (M 23 v4) := hrr
                subst hrr
                have hX : MH E A ad F M H := by rw [hH]; exact hX
                have hls : 1 ≤ lst (M 23 v4) ∧ lst (M 23 v4) ≤ 60 := hls
                refine lv_aload_n C.x C.b dX2_doAddUp_38 rfl (lv_at hl 0 rfl) ?_
                refine mg_21 C hX dX2_doAddUp_39 ?_
                refine lv_iload_n C.x C.b dX2_doAddUp_42 rfl (lv_at hl 2 rfl) ?_
                refine ml_21 C hX (by omega) (M 21) rfl dX2_doAddUp_43 (fun r43 => ?_)
                refine r_const C dX2_doAddUp_44 ?_
                refine lv_iload C.x C.b dX2_doAddUp_45 (lv_at hl 4 rfl) ?_
                refine r_imul C dX2_doAddUp_47 ?_
                refine r_ishr C (by omega) (by omega) rfl dX2_doAddUp_48 ?_
                refine r_bipush C (by decide) dX2_doAddUp_49 ?_
                refine r_iand C (zi_and31 _) dX2_doAddUp_51 ?_
                refine lv_aload_n C.x C.b dX2_doAddUp_52 rfl (lv_at hl 0 rfl) ?_
                refine mg_22 C hX dX2_doAddUp_53 ?_
                refine lv_iload_n C.x C.b dX2_doAddUp_56 rfl (lv_at hl 2 rfl) ?_
                refine ml_22 C hX (by omega) (M 22) rfl dX2_doAddUp_57 (fun r57 => ?_)
                refine r_const C dX2_doAddUp_58 ?_
                refine lv_iload C.x C.b dX2_doAddUp_59 (lv_at hl 4 rfl) ?_
                refine r_imul C dX2_doAddUp_61 ?_
                refine r_ishr C (by omega) (by omega) rfl dX2_doAddUp_62 ?_
                refine r_bipush C (by decide) dX2_doAddUp_63 ?_
                refine r_iand C (zi_and31 _) dX2_doAddUp_65 ?_
                refine r_isub C dX2_doAddUp_66 ?_
                refine r_imul C dX2_doAddUp_67 ?_
                refine r_iadd C dX2_doAddUp_68 ?_
                refine lv_istore_n (lv' := [(3, .int (zi (v3 + ((lst (M 23 v4)) * ((((M 21 v2) / 2 ^ (5 * v4).toNat) % 32) - (((M 22 v2) / 2 ^ (5 * v4).toNat) % 32)))))), (0, .ref (ad 63)), (1, .int (zi (bI v1))), (2, .int (zi v2)), (4, .int (zi v4))]) C.x C.b dX2_doAddUp_69 rfl hl (by decide) rfl (fun ls hl => ?_)
                have hp := lst_mul (M 23 v4) (mk5 (M 21 v2) v4 - mk5 (M 22 v2) v4) (by have := mk5_r (M 21 v2) v4; have := mk5_r (M 22 v2) v4; omega)
                unfold mk5 at hp
                refine r_iinc (lv' := [(4, .int (zi (v4 + 1))), (3, .int (zi (v3 + ((lst (M 23 v4)) * ((((M 21 v2) / 2 ^ (5 * v4).toNat) % 32) - (((M 22 v2) / 2 ^ (5 * v4).toNat) % 32)))))), (0, .ref (ad 63)), (1, .int (zi (bI v1))), (2, .int (zi v2))]) C dX2_doAddUp_70 hl (k := 4) rfl (by decide) rfl (fun ls hl => ?_)
                refine lv_goto (tgt := 21) C.x C.b dX2_doAddUp_73 (by decide) ?_
                exact ih21 (v3 + ((lst (M 23 v4)) * ((((M 21 v2) / 2 ^ (5 * v4).toNat) % 32) - (((M 22 v2) / 2 ^ (5 * v4).toNat) % 32)))) (v4 + 1) (by omega) (isum_st (by omega) hs rfl) (by omega) (by omega) H locs ls hX hS (lv_sub hl [2, 3, 4, 1, 0] rfl)
          exact L21 _ 0 0 (by omega) rfl (by omega) (Nat.lt_succ_self _) H locs ls hX hS (lv_sub hl [2, 3, 4, 1, 0] rfl)
  exact L4 _ True 1 bI_T.symm 0 (by omega) bl_0 (Nat.lt_succ_self _) H locs ls hX hS (lv_sub hl [2, 1, 0] rfl)

theorem hd_X2_findValues : yX2_findValues.cls = RX2 ∧ yX2_findValues.cls ≠ "java/lang/invoke/MethodHandle" ∧ yX2_findValues.cls ≠ "java/lang/invoke/VarHandle" ∧ (parseMethodDescriptor yX2_findValues.desc).map (fun d => d.parameters.length) = some 0 := by decide +kernel
abbrev rm_X2_findValues : Room := { frames := 2, cells := 0, slots := 0, locals := 44 }
set_option maxHeartbeats 8000000 in
theorem met_X2_findValues (l : Launch) (E : us_E) (A : Nat → Prop) (ad : Nat → Nat) (F : Nat → Int) (M : Nat → Int → Int) : cMet l yX2_findValues cX2_findValues 5 none rm_X2_findValues A E [.ref (ad 63)] (fun H => MH E A ad F M H) (qv A (fun H => ∃ f24 : Int, ∃ m23 : Int → Int, ∃ m25 : Int → Int, ∃ m26 : Int → Int, (f24 = nfit (M 21) (M 22) (F 20)) ∧ (0 < f24 → ∀ k : Int, 0 ≤ k → k < 4 → m25 k = vc (fstc (fitc (M 21) (M 22) (F 20)) 4096) k) ∧ (∀ a b : Int, 0 ≤ a → a < 4 → 0 ≤ b → b < 8 → (m26 (8 * a + b) = 1 ↔ ∃ z, 0 ≤ z ∧ z < 4096 ∧ fitc (M 21) (M 22) (F 20) z ∧ vc z a = b)) ∧ MH E A ad (va_up F 24 f24) (va_up (va_up (va_up M 23 m23) 25 m25) 26 m26) H)) := by
  refine cMet.of (by decide) (Nat.le_of_ble_eq_true rfl) (fun p e s m args below meth c C hnm hX hS ls hl => ?_)
  have C : Cx p s m args meth c A RX2 cX2_findValues 5 none E := C
  have hX : MH E A ad F M s.heap := hX
  have hl : lv_has ls 5 [(0, .ref (ad 63))] := hl
  generalize hH : s.heap = H at hX
  have hS : va_S A s.heap H [] := by rw [← hH]; exact hS
  generalize hlocs : ([] : List Loc) = locs at hS ⊢
  have rF20 : 0 ≤ F 20 ∧ F 20 ≤ 8 := hX.2.1 20 (0, 8) rfl
  have rF24 : 0 ≤ F 24 ∧ F 24 ≤ 4096 := hX.2.1 24 (0, 4096) rfl
  refine lv_aload_n C.x C.b dX2_findValues_0 rfl (lv_at hl 0 rfl) ?_
  refine r_const C dX2_findValues_1 ?_
  refine mp_24 C hX hS (by omega) (F' := (va_up F 24 0)) rfl dX2_findValues_2 (fun H locs hX hS => ?_)
  refine r_const C dX2_findValues_5 ?_
  refine lv_istore_n (lv' := [(1, .int (zi 0)), (0, .ref (ad 63))]) C.x C.b dX2_findValues_6 rfl hl (by decide) rfl (fun ls hl => ?_)
  have L7 : ∀ (fu : Nat) (v1 : Int) (m26 : Int → Int) (h1 : 0 ≤ v1 ∧ v1 ≤ 32) (h0 : ∀ j : Int, 0 ≤ j → j < v1 → m26 j = 0) (hm : Int.toNat (32 - v1) < fu) (H : Heap) (locs : List Loc) (ls : Array Slot) (hX : MH E A ad (va_up F 24 0) (va_up M 26 m26) H) (hS : va_S A s.heap H locs) (hl : lv_has ls 5 [(0, .ref (ad 63)), (1, .int (zi v1))]), W p l e rm_X2_findValues s m args below meth c H locs 0 0 (MQ below (qv A (fun H => ∃ f24 : Int, ∃ m23 : Int → Int, ∃ m25 : Int → Int, ∃ m26 : Int → Int, (f24 = nfit (M 21) (M 22) (F 20)) ∧ (0 < f24 → ∀ k : Int, 0 ≤ k → k < 4 → m25 k = vc (fstc (fitc (M 21) (M 22) (F 20)) 4096) k) ∧ (∀ a b : Int, 0 ≤ a → a < 4 → 0 ≤ b → b < 8 → (m26 (8 * a + b) = 1 ↔ ∃ z, 0 ≤ z ∧ z < 4096 ∧ fitc (M 21) (M 22) (F 20) z ∧ vc z a = b)) ∧ MH E A ad (va_up F 24 f24) (va_up (va_up (va_up M 23 m23) 25 m25) 26 m26) H)) args s (rm_X2_findValues).cells (rm_X2_findValues).slots A) (F0 m 7 ls []) := by
    intro fu
    induction fu with
    | zero => intro v1 m26 h1 h0 hm; exact absurd hm (Nat.not_lt_zero _)
    | succ fu ih7 =>
      intro v1 m26 h1 h0 hm H locs ls hX hS hl
      refine lv_iload_n C.x C.b dX2_findValues_7 rfl (lv_at hl 1 rfl) ?_
      refine r_bipush C (by decide) dX2_findValues_8 ?_
      refine r_icmp_ge (tgt := 26) C (by omega) (by decide) dX2_findValues_10 (by decide) (fun c_1 => ?_) (fun c_1 => ?_)
      · refine r_const C dX2_findValues_26 ?_
        refine lv_istore_n (lv' := [(1, .int (zi 0)), (0, .ref (ad 63))]) C.x C.b dX2_findValues_27 rfl hl (by decide) rfl (fun ls hl => ?_)
        have L28 : ∀ (fu : Nat) (v1 : Int) (f24 : Int) (m23 : Int → Int) (m25 : Int → Int) (m26 : Int → Int) (h1 : 0 ≤ v1 ∧ v1 ≤ 4096) (hf : f24 = isum (fun z => bI (fitc (M 21) (M 22) (F 20) z)) v1) (hfi : 0 < f24 → ∀ k : Int, 0 ≤ k → k < 4 → m25 k = vc (fstc (fitc (M 21) (M 22) (F 20)) v1) k) (hha : ∀ a b : Int, 0 ≤ a → a < 4 → 0 ≤ b → b < 8 → (m26 (8 * a + b) = 1 ↔ ∃ z, 0 ≤ z ∧ z < v1 ∧ fitc (M 21) (M 22) (F 20) z ∧ vc z a = b)) (hm : Int.toNat (4096 - v1) < fu) (H : Heap) (locs : List Loc) (ls : Array Slot) (hX : MH E A ad (va_up F 24 f24) (va_up (va_up (va_up M 23 m23) 25 m25) 26 m26) H) (hS : va_S A s.heap H locs) (hl : lv_has ls 5 [(0, .ref (ad 63)), (1, .int (zi v1))]), W p l e rm_X2_findValues s m args below meth c H locs 0 0 (MQ below (qv A (fun H => ∃ f24 : Int, ∃ m23 : Int → Int, ∃ m25 : Int → Int, ∃ m26 : Int → Int, (f24 = nfit (M 21) (M 22) (F 20)) ∧ (0 < f24 → ∀ k : Int, 0 ≤ k → k < 4 → m25 k = vc (fstc (fitc (M 21) (M 22) (F 20)) 4096) k) ∧ (∀ a b : Int, 0 ≤ a → a < 4 → 0 ≤ b → b < 8 → (m26 (8 * a + b) = 1 ↔ ∃ z, 0 ≤ z ∧ z < 4096 ∧ fitc (M 21) (M 22) (F 20) z ∧ vc z a = b)) ∧ MH E A ad (va_up F 24 f24) (va_up (va_up (va_up M 23 m23) 25 m25) 26 m26) H)) args s (rm_X2_findValues).cells (rm_X2_findValues).slots A) (F0 m 28 ls []) := by
          intro fu
          induction fu with
          | zero => intro v1 f24 m23 m25 m26 h1 hf hfi hha hm; exact absurd hm (Nat.not_lt_zero _)
          | succ fu ih28 =>
            intro v1 f24 m23 m25 m26 h1 hf hfi hha hm H locs ls hX hS hl
            refine lv_iload_n C.x C.b dX2_findValues_28 rfl (lv_at hl 1 rfl) ?_
            refine r_sipush C (by decide) dX2_findValues_29 ?_
            refine r_icmp_ge (tgt := 205) C (by omega) (by decide) dX2_findValues_32 (by decide) (fun c_2 => ?_) (fun c_2 => ?_)
            · exact r_vret C hS (Nat.le_of_ble_eq_true rfl) (Nat.le_of_ble_eq_true rfl) dX2_findValues_205 ⟨f24, m23, m25, m26, (by rw [hf, show v1 = 4096 by omega]; rfl), (by rw [← show v1 = 4096 by omega]; exact hfi), (by rw [← show v1 = 4096 by omega]; exact hha), hX⟩
            · refine r_const C dX2_findValues_35 ?_
              refine lv_istore_n (lv' := [(2, .int (zi 0)), (0, .ref (ad 63)), (1, .int (zi v1))]) C.x C.b dX2_findValues_36 rfl hl (by decide) rfl (fun ls hl => ?_)
              have L37 : ∀ (fu : Nat) (v2 : Int) (m23 : Int → Int) (h2 : 0 ≤ v2 ∧ v2 ≤ 4) (hv : ∀ k : Int, 0 ≤ k → k < v2 → m23 k = vc v1 k) (hm : Int.toNat (4 - v2) < fu) (H : Heap) (locs : List Loc) (ls : Array Slot) (hX : MH E A ad (va_up F 24 f24) (va_up (va_up (va_up M 23 m23) 25 m25) 26 m26) H) (hS : va_S A s.heap H locs) (hl : lv_has ls 5 [(0, .ref (ad 63)), (1, .int (zi v1)), (2, .int (zi v2))]), W p l e rm_X2_findValues s m args below meth c H locs 0 0 (MQ below (qv A (fun H => ∃ f24 : Int, ∃ m23 : Int → Int, ∃ m25 : Int → Int, ∃ m26 : Int → Int, (f24 = nfit (M 21) (M 22) (F 20)) ∧ (0 < f24 → ∀ k : Int, 0 ≤ k → k < 4 → m25 k = vc (fstc (fitc (M 21) (M 22) (F 20)) 4096) k) ∧ (∀ a b : Int, 0 ≤ a → a < 4 → 0 ≤ b → b < 8 → (m26 (8 * a + b) = 1 ↔ ∃ z, 0 ≤ z ∧ z < 4096 ∧ fitc (M 21) (M 22) (F 20) z ∧ vc z a = b)) ∧ MH E A ad (va_up F 24 f24) (va_up (va_up (va_up M 23 m23) 25 m25) 26 m26) H)) args s (rm_X2_findValues).cells (rm_X2_findValues).slots A) (F0 m 37 ls []) := by
                intro fu
                induction fu with
                | zero => intro v2 m23 h2 hv hm; exact absurd hm (Nat.not_lt_zero _)
                | succ fu ih37 =>
                  intro v2 m23 h2 hv hm H locs ls hX hS hl
                  refine lv_iload_n C.x C.b dX2_findValues_37 rfl (lv_at hl 2 rfl) ?_
                  refine r_const C dX2_findValues_38 ?_
                  refine r_icmp_ge (tgt := 64) C (by omega) (by decide) dX2_findValues_39 (by decide) (fun c_3 => ?_) (fun c_3 => ?_)
                  · have hfc := fitc_v (it := M 21) (to := M 22) (am := F 20) (fun k a b => hv k a (by omega))
                    refine r_const C dX2_findValues_64 ?_
                    refine lv_istore_n (lv' := [(2, .int (zi 1)), (0, .ref (ad 63)), (1, .int (zi v1))]) C.x C.b dX2_findValues_65 rfl hl (by decide) rfl (fun ls hl => ?_)
                    refine r_const C dX2_findValues_66 ?_
                    refine lv_istore_n (lv' := [(3, .int (zi 0)), (2, .int (zi 1)), (0, .ref (ad 63)), (1, .int (zi v1))]) C.x C.b dX2_findValues_67 rfl hl (by decide) rfl (fun ls hl => ?_)
                    have L68 : ∀ (fu : Nat) (v2 : Prop) (xv2 : Int) (hv2 : xv2 = bI v2) (v3 : Int) (h3 : 0 ≤ v3 ∧ v3 ≤ 4) (hu : v2 ↔ ∀ a : Int, 0 ≤ a → a < v3 → ∀ b : Int, 0 ≤ b → b < a → ¬ m23 a = m23 b) (hm : Int.toNat (4 - v3) < fu) (H : Heap) (locs : List Loc) (ls : Array Slot) (hX : MH E A ad (va_up F 24 f24) (va_up (va_up (va_up M 23 m23) 25 m25) 26 m26) H) (hS : va_S A s.heap H locs) (hl : lv_has ls 5 [(0, .ref (ad 63)), (1, .int (zi v1)), (2, .int (zi xv2)), (3, .int (zi v3))]), W p l e rm_X2_findValues s m args below meth c H locs 0 0 (MQ below (qv A (fun H => ∃ f24 : Int, ∃ m23 : Int → Int, ∃ m25 : Int → Int, ∃ m26 : Int → Int, (f24 = nfit (M 21) (M 22) (F 20)) ∧ (0 < f24 → ∀ k : Int, 0 ≤ k → k < 4 → m25 k = vc (fstc (fitc (M 21) (M 22) (F 20)) 4096) k) ∧ (∀ a b : Int, 0 ≤ a → a < 4 → 0 ≤ b → b < 8 → (m26 (8 * a + b) = 1 ↔ ∃ z, 0 ≤ z ∧ z < 4096 ∧ fitc (M 21) (M 22) (F 20) z ∧ vc z a = b)) ∧ MH E A ad (va_up F 24 f24) (va_up (va_up (va_up M 23 m23) 25 m25) 26 m26) H)) args s (rm_X2_findValues).cells (rm_X2_findValues).slots A) (F0 m 68 ls []) := by
                      intro fu
                      induction fu with
                      | zero => intro v2 xv2 hv2 v3 h3 hu hm; exact absurd hm (Nat.not_lt_zero _)
                      | succ fu ih68 =>
                        intro v2 xv2 hv2 v3 h3 hu hm H locs ls hX hS hl
                        subst hv2
                        refine lv_iload_n C.x C.b dX2_findValues_68 rfl (lv_at hl 3 rfl) ?_
                        refine r_const C dX2_findValues_69 ?_
                        refine r_icmp_ge (tgt := 120) C (by omega) (by decide) dX2_findValues_70 (by decide) (fun c_4 => ?_) (fun c_4 => ?_)
                        · refine lv_iload_n C.x C.b dX2_findValues_120 rfl (lv_at hl 2 rfl) ?_
                          have hul : v2 ↔ Unl m23 := by
                            rw [hu, show v3 = 4 by omega]; exact Iff.rfl
                          refine r_if_eq_b (tgt := 199) C dX2_findValues_121 (by decide) (fun c_5 => ?_) (fun c_5 => ?_)
                          · try have hnf : ¬ fitc (M 21) (M 22) (F 20) v1 := fun q => absurd (hfc.1 q).1 (mt hul.2 (by assumption))
                            try have hnf : ¬ fitc (M 21) (M 22) (F 20) v1 := fun q => absurd (hfc.1 q).2 (by assumption)
                            try have hyf : fitc (M 21) (M 22) (F 20) v1 := hfc.2 ⟨hul.1 (by assumption), by assumption⟩
                            refine r_iinc (lv' := [(1, .int (zi (v1 + 1))), (0, .ref (ad 63)), (2, .int (zi (bI v2))), (3, .int (zi v3))]) C dX2_findValues_199 hl (k := 1) rfl (by decide) rfl (fun ls hl => ?_)
                            refine lv_goto (tgt := 28) C.x C.b dX2_findValues_202 (by decide) ?_
                            exact ih28 (v1 + 1) f24 m23 m25 m26 (by omega) (by first | exact nf_no h1.1 hf hnf | exact nf_yes h1.1 hf hyf) (by first | exact (fun q k a b => by rw [fst_no h1.1 hnf]; exact hfi q k a b) | exact (fun _ => ffi_yes h1.1 hf hyf (fun k a b => (hg k a).1 (by omega)) hfi (fun k a b => hv k a (by omega)))) (by first | exact (fun a b q1 q2 q3 q4 => (hha a b q1 q2 q3 q4).trans (ex_no (Q := fun z => vc z a = b) hnf)) | exact had_yes h1.1 hyf (fun a b q1 q2 q3 q4 => by rw [hd a b q1 q2 q3 q4, show v3 = 4 by omega]) hha (fun k a b => hv k a (by omega))) (by omega) H locs ls hX hS (lv_sub hl [1, 0] rfl)
                          · refine lv_aload_n C.x C.b dX2_findValues_124 rfl (lv_at hl 0 rfl) ?_
                            refine r_callVi (As := []) (rest := []) (cells' := 0) (slots' := 0) C (met_X2_doAddUp l E A ad (va_up F 24 f24) (va_up (va_up (va_up M 23 m23) 25 m25) 26 m26)) (lw_V q1364 q1366 qs62 q88 q1367) hd_X2_doAddUp rfl (by decide) (m_recv C hX) hX hS hl.1 rfl (Nat.le_of_ble_eq_true rfl) dX2_findValues_125 rfl rfl ⟨Nat.le_of_ble_eq_true rfl, Nat.le_of_ble_eq_true rfl⟩ (fun rr H locs hp hS => ?_)
                            obtain ⟨hrr, hX⟩ := hp
                            have hrr : rr = bI (Adds (m23) ((M 21)) ((M 22)) ((F 20))) := hrr
                            subst hrr
                            refine r_if_eq_b (tgt := 199) C dX2_findValues_128 (by decide) (fun c_6 => ?_) (fun c_6 => ?_)
                            · try have hnf : ¬ fitc (M 21) (M 22) (F 20) v1 := fun q => absurd (hfc.1 q).1 (mt hul.2 (by assumption))
                              try have hnf : ¬ fitc (M 21) (M 22) (F 20) v1 := fun q => absurd (hfc.1 q).2 (by assumption)
                              try have hyf : fitc (M 21) (M 22) (F 20) v1 := hfc.2 ⟨hul.1 (by assumption), by assumption⟩
                              refine r_iinc (lv' := [(1, .int (zi (v1 + 1))), (0, .ref (ad 63)), (2, .int (zi (bI v2))), (3, .int (zi v3))]) C dX2_findValues_199 hl (k := 1) rfl (by decide) rfl (fun ls hl => ?_)
                              refine lv_goto (tgt := 28) C.x C.b dX2_findValues_202 (by decide) ?_
                              exact ih28 (v1 + 1) f24 m23 m25 m26 (by omega) (by first | exact nf_no h1.1 hf hnf | exact nf_yes h1.1 hf hyf) (by first | exact (fun q k a b => by rw [fst_no h1.1 hnf]; exact hfi q k a b) | exact (fun _ => ffi_yes h1.1 hf hyf (fun k a b => (hg k a).1 (by omega)) hfi (fun k a b => hv k a (by omega)))) (by first | exact (fun a b q1 q2 q3 q4 => (hha a b q1 q2 q3 q4).trans (ex_no (Q := fun z => vc z a = b) hnf)) | exact had_yes h1.1 hyf (fun a b q1 q2 q3 q4 => by rw [hd a b q1 q2 q3 q4, show v3 = 4 by omega]) hha (fun k a b => hv k a (by omega))) (by omega) H locs ls hX hS (lv_sub hl [1, 0] rfl)
                            · refine r_const C dX2_findValues_131 ?_
                              refine lv_istore_n (lv' := [(3, .int (zi 0)), (0, .ref (ad 63)), (1, .int (zi v1)), (2, .int (zi (bI v2)))]) C.x C.b dX2_findValues_132 rfl hl (by decide) rfl (fun ls hl => ?_)
                              have L133 : ∀ (fu : Nat) (v3 : Int) (m25_133 : Int → Int) (m26_133 : Int → Int) (h5 : 0 ≤ v3 ∧ v3 ≤ 4) (hg : ∀ k : Int, 0 ≤ k → (k < v3 → m25_133 k = sel (f24 = 0) (m23 k) (m25 k)) ∧ (v3 ≤ k → m25_133 k = m25 k)) (hd : ∀ a b : Int, 0 ≤ a → a < 4 → 0 ≤ b → b < 8 → (m26_133 (8 * a + b) = 1 ↔ (m26 (8 * a + b) = 1 ∨ (a < v3 ∧ m23 a = b)))) (hm : Int.toNat (4 - v3) < fu) (H : Heap) (locs : List Loc) (ls : Array Slot) (hX : MH E A ad (va_up F 24 f24) (va_up (va_up (va_up M 23 m23) 25 m25_133) 26 m26_133) H) (hS : va_S A s.heap H locs) (hl : lv_has ls 5 [(0, .ref (ad 63)), (1, .int (zi v1)), (2, .int (zi (bI v2))), (3, .int (zi v3))]), W p l e rm_X2_findValues s m args below meth c H locs 0 0 (MQ below (qv A (fun H => ∃ f24 : Int, ∃ m23 : Int → Int, ∃ m25 : Int → Int, ∃ m26 : Int → Int, (f24 = nfit (M 21) (M 22) (F 20)) ∧ (0 < f24 → ∀ k : Int, 0 ≤ k → k < 4 → m25 k = vc (fstc (fitc (M 21) (M 22) (F 20)) 4096) k) ∧ (∀ a b : Int, 0 ≤ a → a < 4 → 0 ≤ b → b < 8 → (m26 (8 * a + b) = 1 ↔ ∃ z, 0 ≤ z ∧ z < 4096 ∧ fitc (M 21) (M 22) (F 20) z ∧ vc z a = b)) ∧ MH E A ad (va_up F 24 f24) (va_up (va_up (va_up M 23 m23) 25 m25) 26 m26) H)) args s (rm_X2_findValues).cells (rm_X2_findValues).slots A) (F0 m 133 ls []) := by
                                intro fu
                                induction fu with
                                | zero => intro v3 m25_133 m26_133 h5 hg hd hm; exact absurd hm (Nat.not_lt_zero _)
                                | succ fu ih133 =>
                                  intro v3 m25_133 m26_133 h5 hg hd hm H locs ls hX hS hl
                                  refine lv_iload_n C.x C.b dX2_findValues_133 rfl (lv_at hl 3 rfl) ?_
                                  refine r_const C dX2_findValues_134 ?_
                                  refine r_icmp_ge (tgt := 189) C (by omega) (by decide) dX2_findValues_135 (by decide) (fun c_7 => ?_) (fun c_7 => ?_)
                                  · have hle := isum_bI (P := fun z => fitc (M 21) (M 22) (F 20) z) h1.1
                                    rw [← hf] at hle
                                    refine lv_aload_n C.x C.b dX2_findValues_189 rfl (lv_at hl 0 rfl) ?_
                                    refine lv_dup C.x C.b dX2_findValues_190 rfl ?_
                                    refine mg_24 C hX f24 rfl dX2_findValues_191 (fun r191 => ?_)
                                    refine r_const C dX2_findValues_194 ?_
                                    refine r_iadd C dX2_findValues_195 ?_
                                    refine mp_24 C hX hS (by omega) (F' := (va_up F 24 (f24 + 1))) (up_up _ _ _ _) dX2_findValues_196 (fun H locs hX hS => ?_)
                                    try have hnf : ¬ fitc (M 21) (M 22) (F 20) v1 := fun q => absurd (hfc.1 q).1 (mt hul.2 (by assumption))
                                    try have hnf : ¬ fitc (M 21) (M 22) (F 20) v1 := fun q => absurd (hfc.1 q).2 (by assumption)
                                    try have hyf : fitc (M 21) (M 22) (F 20) v1 := hfc.2 ⟨hul.1 (by assumption), by assumption⟩
                                    refine r_iinc (lv' := [(1, .int (zi (v1 + 1))), (0, .ref (ad 63)), (2, .int (zi (bI v2))), (3, .int (zi v3))]) C dX2_findValues_199 hl (k := 1) rfl (by decide) rfl (fun ls hl => ?_)
                                    refine lv_goto (tgt := 28) C.x C.b dX2_findValues_202 (by decide) ?_
                                    exact ih28 (v1 + 1) (f24 + 1) m23 m25_133 m26_133 (by omega) (by first | exact nf_no h1.1 hf hnf | exact nf_yes h1.1 hf hyf) (by first | exact (fun q k a b => by rw [fst_no h1.1 hnf]; exact hfi q k a b) | exact (fun _ => ffi_yes h1.1 hf hyf (fun k a b => (hg k a).1 (by omega)) hfi (fun k a b => hv k a (by omega)))) (by first | exact (fun a b q1 q2 q3 q4 => (hha a b q1 q2 q3 q4).trans (ex_no (Q := fun z => vc z a = b) hnf)) | exact had_yes h1.1 hyf (fun a b q1 q2 q3 q4 => by rw [hd a b q1 q2 q3 q4, show v3 = 4 by omega]) hha (fun k a b => hv k a (by omega))) (by omega) H locs ls hX hS (lv_sub hl [1, 0] rfl)
                                  · refine lv_aload_n C.x C.b dX2_findValues_138 rfl (lv_at hl 0 rfl) ?_
                                    have q23 : 0 ≤ m23 v3 ∧ m23 v3 ≤ 7 := hX.2.2 23 (0, 7) rfl v3
                                    have q25 : 0 ≤ m25_133 v3 ∧ m25_133 v3 ≤ 7 := hX.2.2 25 (0, 7) rfl v3
                                    refine mg_25 C hX dX2_findValues_139 ?_
                                    refine lv_iload_n C.x C.b dX2_findValues_142 rfl (lv_at hl 3 rfl) ?_
                                    refine lv_aload_n C.x C.b dX2_findValues_143 rfl (lv_at hl 0 rfl) ?_
                                    refine mg_24 C hX f24 rfl dX2_findValues_144 (fun r144 => ?_)
                                    have J165_8 : ∀ (t2 : Int) (ht2 : t2 = sel (f24 = 0) (m23 v3) (m25_133 v3)) (H : Heap) (locs : List Loc) (ls : Array Slot) (hX : MH E A ad (va_up F 24 f24) (va_up (va_up (va_up M 23 m23) 25 m25_133) 26 m26_133) H) (hS : va_S A s.heap H locs) (hl : lv_has ls 5 [(0, .ref (ad 63)), (1, .int (zi v1)), (2, .int (zi (bI v2))), (3, .int (zi v3))]), W p l e rm_X2_findValues s m args below meth c H locs 0 0 (MQ below (qv A (fun H => ∃ f24 : Int, ∃ m23 : Int → Int, ∃ m25 : Int → Int, ∃ m26 : Int → Int, (f24 = nfit (M 21) (M 22) (F 20)) ∧ (0 < f24 → ∀ k : Int, 0 ≤ k → k < 4 → m25 k = vc (fstc (fitc (M 21) (M 22) (F 20)) 4096) k) ∧ (∀ a b : Int, 0 ≤ a → a < 4 → 0 ≤ b → b < 8 → (m26 (8 * a + b) = 1 ↔ ∃ z, 0 ≤ z ∧ z < 4096 ∧ fitc (M 21) (M 22) (F 20) z ∧ vc z a = b)) ∧ MH E A ad (va_up F 24 f24) (va_up (va_up (va_up M 23 m23) 25 m25) 26 m26) H)) args s (rm_X2_findValues).cells (rm_X2_findValues).slots A) (F0 m 165 ls [.int (zi t2), .int (zi v3), .ref (ad 25)]) := by
                                      intro t2 ht2 H locs ls hX hS hl
                                      subst ht2
                                      have hrt2 : 0 ≤ (sel (f24 = 0) (m23 v3) (m25_133 v3)) ∧ (sel (f24 = 0) (m23 v3) (m25_133 v3)) ≤ 7 := by
                                        exact (sel_rg (fun qq => (by omega)) (fun qq => (by omega)))
                                      refine ms_25 C hX hS (by omega) (by omega) m25_133 rfl (M' := (va_up (va_up (va_up M 23 m23) 25 (fup m25_133 v3 (sel (f24 = 0) (m23 v3) (m25_133 v3)))) 26 m26_133)) (up_in (by decide) (up_up _ _ _ _)) dX2_findValues_165 (fun H locs hX hS => ?_)
                                      refine lv_aload_n C.x C.b dX2_findValues_166 rfl (lv_at hl 0 rfl) ?_
                                      refine mg_26 C hX dX2_findValues_167 ?_
                                      refine r_bipush C (by decide) dX2_findValues_170 ?_
                                      refine lv_iload_n C.x C.b dX2_findValues_172 rfl (lv_at hl 3 rfl) ?_
                                      refine r_imul C dX2_findValues_173 ?_
                                      refine lv_aload_n C.x C.b dX2_findValues_174 rfl (lv_at hl 0 rfl) ?_
                                      refine mg_23 C hX dX2_findValues_175 ?_
                                      refine lv_iload_n C.x C.b dX2_findValues_178 rfl (lv_at hl 3 rfl) ?_
                                      refine ml_23 C hX (by omega) m23 rfl dX2_findValues_179 (fun r179 => ?_)
                                      refine r_iadd C dX2_findValues_180 ?_
                                      refine r_const C dX2_findValues_181 ?_
                                      refine ms_26 C hX hS (by omega) (by omega) m26_133 rfl (M' := (va_up (va_up (va_up M 23 m23) 25 (fup m25_133 v3 (sel (f24 = 0) (m23 v3) (m25_133 v3)))) 26 (fup m26_133 ((8 * v3) + (m23 v3)) 1))) (up_up _ _ _ _) dX2_findValues_182 (fun H locs hX hS => ?_)
                                      have hst4 : ∀ k : Int, 0 ≤ k → (k < v3 + 1 → fup m25_133 v3 (sel (f24 = 0) (m23 v3) (m25_133 v3)) k = sel (f24 = 0) (m23 k) (m25 k)) ∧ (v3 + 1 ≤ k → fup m25_133 v3 (sel (f24 = 0) (m23 v3) (m25_133 v3)) k = m25 k) := by
                                        intro k a
                                        by_cases e : k = v3
                                        · rw [e] at a ⊢
                                          rw [fup_s, (hg v3 a).2 (by omega)]
                                          exact ⟨fun _ => rfl, fun z => absurd z (by omega)⟩
                                        · rw [fup_n _ _ e]
                                          exact ⟨fun z => (hg k a).1 (by omega), fun z => (hg k a).2 (by omega)⟩
                                      have hst5 : ∀ a b : Int, 0 ≤ a → a < 4 → 0 ≤ b → b < 8 → (fup m26_133 (8 * v3 + m23 v3) 1 (8 * a + b) = 1 ↔ (m26 (8 * a + b) = 1 ∨ (a < v3 + 1 ∧ m23 a = b))) := by
                                        intro a b h1 h2 h3 h4
                                        by_cases e : a = v3 ∧ m23 v3 = b
                                        · obtain ⟨e1, e2⟩ := e
                                          rw [e1, ← e2, fup_s]
                                          exact ⟨fun _ => Or.inr ⟨by omega, rfl⟩, fun _ => rfl⟩
                                        · rw [fup_n _ _ (fun z => e (by constructor <;> omega)), hd a b h1 h2 h3 h4]
                                          constructor
                                          · exact fun q => q.elim Or.inl (fun z => Or.inr ⟨by omega, z.2⟩)
                                          · exact fun q => q.elim Or.inl (fun z => Or.inr ⟨by rcases Int.lt_or_le a v3 with w | w; exact w; exact absurd ⟨show a = v3 by omega, show m23 v3 = b by rw [← z.2, show a = v3 by omega]⟩ e, z.2⟩)
                                      refine r_iinc (lv' := [(3, .int (zi (v3 + 1))), (0, .ref (ad 63)), (1, .int (zi v1)), (2, .int (zi (bI v2)))]) C dX2_findValues_183 hl (k := 3) rfl (by decide) rfl (fun ls hl => ?_)
                                      refine lv_goto (tgt := 133) C.x C.b dX2_findValues_186 (by decide) ?_
                                      exact ih133 (v3 + 1) (fup m25_133 v3 (sel (f24 = 0) (m23 v3) (m25_133 v3))) (fup m26_133 ((8 * v3) + (m23 v3)) 1) (by omega) hst4 hst5 (by omega) H locs ls hX hS (lv_sub hl [1, 2, 3, 0] rfl)
                                    refine r_if_ne (tgt := 159) C (by omega) dX2_findValues_147 (by decide) (fun c_9 => ?_) (fun c_9 => ?_)
                                    · refine lv_aload_n C.x C.b dX2_findValues_159 rfl (lv_at hl 0 rfl) ?_
                                      refine mg_25 C hX dX2_findValues_160 ?_
                                      refine lv_iload_n C.x C.b dX2_findValues_163 rfl (lv_at hl 3 rfl) ?_
                                      refine ml_25 C hX (by omega) m25_133 rfl dX2_findValues_164 (fun r164 => ?_)
                                      exact J165_8 (m25_133 v3) ((sel_f c_9).symm) H locs ls hX hS hl
                                    · refine lv_aload_n C.x C.b dX2_findValues_150 rfl (lv_at hl 0 rfl) ?_
                                      refine mg_23 C hX dX2_findValues_151 ?_
                                      refine lv_iload_n C.x C.b dX2_findValues_154 rfl (lv_at hl 3 rfl) ?_
                                      refine ml_23 C hX (by omega) m23 rfl dX2_findValues_155 (fun r155 => ?_)
                                      refine lv_goto (tgt := 165) C.x C.b dX2_findValues_156 (by decide) ?_
                                      exact J165_8 (m23 v3) ((sel_t c_9).symm) H locs ls hX hS hl
                              exact L133 _ 0 m25 m26 (by omega) (fun k a => ⟨fun b => absurd b (by omega), fun _ => rfl⟩) (fun a b h1 h2 h3 h4 => ⟨fun q => Or.inl q, fun q => q.elim id (fun z => absurd z.1 (by omega))⟩) (Nat.lt_succ_self _) H locs ls hX hS (lv_sub hl [1, 2, 3, 0] rfl)
                        · refine r_const C dX2_findValues_73 ?_
                          refine lv_istore (lv' := [(4, .int (zi 0)), (0, .ref (ad 63)), (1, .int (zi v1)), (2, .int (zi (bI v2))), (3, .int (zi v3))]) C.x C.b dX2_findValues_74 hl (by decide) rfl (fun ls hl => ?_)
                          have L76 : ∀ (fu : Nat) (v2 : Prop) (xv2 : Int) (hv2 : xv2 = bI v2) (v4 : Int) (h4 : 0 ≤ v4 ∧ v4 ≤ v3) (hw : v2 ↔ ((∀ a : Int, 0 ≤ a → a < v3 → ∀ b : Int, 0 ≤ b → b < a → ¬ m23 a = m23 b) ∧ ∀ b : Int, 0 ≤ b → b < v4 → ¬ m23 v3 = m23 b)) (hm : Int.toNat (v3 - v4) < fu) (H : Heap) (locs : List Loc) (ls : Array Slot) (hX : MH E A ad (va_up F 24 f24) (va_up (va_up (va_up M 23 m23) 25 m25) 26 m26) H) (hS : va_S A s.heap H locs) (hl : lv_has ls 5 [(0, .ref (ad 63)), (1, .int (zi v1)), (2, .int (zi xv2)), (3, .int (zi v3)), (4, .int (zi v4))]), W p l e rm_X2_findValues s m args below meth c H locs 0 0 (MQ below (qv A (fun H => ∃ f24 : Int, ∃ m23 : Int → Int, ∃ m25 : Int → Int, ∃ m26 : Int → Int, (f24 = nfit (M 21) (M 22) (F 20)) ∧ (0 < f24 → ∀ k : Int, 0 ≤ k → k < 4 → m25 k = vc (fstc (fitc (M 21) (M 22) (F 20)) 4096) k) ∧ (∀ a b : Int, 0 ≤ a → a < 4 → 0 ≤ b → b < 8 → (m26 (8 * a + b) = 1 ↔ ∃ z, 0 ≤ z ∧ z < 4096 ∧ fitc (M 21) (M 22) (F 20) z ∧ vc z a = b)) ∧ MH E A ad (va_up F 24 f24) (va_up (va_up (va_up M 23 m23) 25 m25) 26 m26) H)) args s (rm_X2_findValues).cells (rm_X2_findValues).slots A) (F0 m 76 ls []) := by
                            intro fu
                            induction fu with
                            | zero => intro v2 xv2 hv2 v4 h4 hw hm; exact absurd hm (Nat.not_lt_zero _)
                            | succ fu ih76 =>
                              intro v2 xv2 hv2 v4 h4 hw hm H locs ls hX hS hl
                              subst hv2
                              refine lv_iload C.x C.b dX2_findValues_76 (lv_at hl 4 rfl) ?_
                              refine lv_iload_n C.x C.b dX2_findValues_78 rfl (lv_at hl 3 rfl) ?_
                              refine r_icmp_ge (tgt := 114) C (by omega) (by omega) dX2_findValues_79 (by decide) (fun c_10 => ?_) (fun c_10 => ?_)
                              · refine r_iinc (lv' := [(3, .int (zi (v3 + 1))), (0, .ref (ad 63)), (1, .int (zi v1)), (2, .int (zi (bI v2))), (4, .int (zi v4))]) C dX2_findValues_114 hl (k := 3) rfl (by decide) rfl (fun ls hl => ?_)
                                refine lv_goto (tgt := 68) C.x C.b dX2_findValues_117 (by decide) ?_
                                exact ih68 v2 (bI v2) rfl (v3 + 1) (by omega) (bl_out (P := fun a => ∀ b : Int, 0 ≤ b → b < a → ¬ m23 a = m23 b) (by omega) hw (by rw [show v4 = v3 by omega])) (by omega) H locs ls hX hS (lv_sub hl [1, 2, 3, 0] rfl)
                              · refine lv_iload_n C.x C.b dX2_findValues_82 rfl (lv_at hl 2 rfl) ?_
                                have J107_11 : ∀ (t0 : Int) (ht0 : t0 = bI (v2 ∧ (¬ ((m23 v3) = (m23 v4))))) (H : Heap) (locs : List Loc) (ls : Array Slot) (hX : MH E A ad (va_up F 24 f24) (va_up (va_up (va_up M 23 m23) 25 m25) 26 m26) H) (hS : va_S A s.heap H locs) (hl : lv_has ls 5 [(0, .ref (ad 63)), (1, .int (zi v1)), (2, .int (zi (bI v2))), (3, .int (zi v3)), (4, .int (zi v4))]), W p l e rm_X2_findValues s m args below meth c H locs 0 0 (MQ below (qv A (fun H => ∃ f24 : Int, ∃ m23 : Int → Int, ∃ m25 : Int → Int, ∃ m26 : Int → Int, (f24 = nfit (M 21) (M 22) (F 20)) ∧ (0 < f24 → ∀ k : Int, 0 ≤ k → k < 4 → m25 k = vc (fstc (fitc (M 21) (M 22) (F 20)) 4096) k) ∧ (∀ a b : Int, 0 ≤ a → a < 4 → 0 ≤ b → b < 8 → (m26 (8 * a + b) = 1 ↔ ∃ z, 0 ≤ z ∧ z < 4096 ∧ fitc (M 21) (M 22) (F 20) z ∧ vc z a = b)) ∧ MH E A ad (va_up F 24 f24) (va_up (va_up (va_up M 23 m23) 25 m25) 26 m26) H)) args s (rm_X2_findValues).cells (rm_X2_findValues).slots A) (F0 m 107 ls [.int (zi t0)]) := by
                                  intro t0 ht0 H locs ls hX hS hl
                                  subst ht0
                                  refine lv_istore_n (lv' := [(2, .int (zi (bI (v2 ∧ (¬ ((m23 v3) = (m23 v4))))))), (0, .ref (ad 63)), (1, .int (zi v1)), (3, .int (zi v3)), (4, .int (zi v4))]) C.x C.b dX2_findValues_107 rfl hl (by decide) rfl (fun ls hl => ?_)
                                  refine r_iinc (lv' := [(4, .int (zi (v4 + 1))), (2, .int (zi (bI (v2 ∧ (¬ ((m23 v3) = (m23 v4))))))), (0, .ref (ad 63)), (1, .int (zi v1)), (3, .int (zi v3))]) C dX2_findValues_108 hl (k := 4) rfl (by decide) rfl (fun ls hl => ?_)
                                  refine lv_goto (tgt := 76) C.x C.b dX2_findValues_111 (by decide) ?_
                                  exact ih76 (v2 ∧ (¬ ((m23 v3) = (m23 v4)))) (bI (v2 ∧ (¬ ((m23 v3) = (m23 v4))))) rfl (v4 + 1) (by omega) (ba_st (P := fun b => ¬ m23 v3 = m23 b) (by omega) hw) (by omega) H locs ls hX hS (lv_sub hl [2, 3, 1, 4, 0] rfl)
                                refine r_if_eq_b (tgt := 106) C dX2_findValues_83 (by decide) (fun c_12 => ?_) (fun c_12 => ?_)
                                · refine r_const C dX2_findValues_106 ?_
                                  exact J107_11 0 ((bI_f (fun q => c_12 q.1)).symm) H locs ls hX hS hl
                                · refine lv_aload_n C.x C.b dX2_findValues_86 rfl (lv_at hl 0 rfl) ?_
                                  refine mg_23 C hX dX2_findValues_87 ?_
                                  refine lv_iload_n C.x C.b dX2_findValues_90 rfl (lv_at hl 3 rfl) ?_
                                  refine ml_23 C hX (by omega) m23 rfl dX2_findValues_91 (fun r91 => ?_)
                                  refine lv_aload_n C.x C.b dX2_findValues_92 rfl (lv_at hl 0 rfl) ?_
                                  refine mg_23 C hX dX2_findValues_93 ?_
                                  refine lv_iload C.x C.b dX2_findValues_96 (lv_at hl 4 rfl) ?_
                                  refine ml_23 C hX (by omega) m23 rfl dX2_findValues_98 (fun r98 => ?_)
                                  refine r_icmp_eq (tgt := 106) C (by omega) (by omega) dX2_findValues_99 (by decide) (fun c_13 => ?_) (fun c_13 => ?_)
                                  · refine r_const C dX2_findValues_106 ?_
                                    exact J107_11 0 ((bI_f (fun q => (fun q => q c_13) q.2)).symm) H locs ls hX hS hl
                                  · refine r_const C dX2_findValues_102 ?_
                                    refine lv_goto (tgt := 107) C.x C.b dX2_findValues_103 (by decide) ?_
                                    exact J107_11 1 ((bI_t ⟨c_12, c_13⟩).symm) H locs ls hX hS hl
                          exact L76 _ v2 (bI v2) rfl 0 (by omega) (hu.trans ba_0) (Nat.lt_succ_self _) H locs ls hX hS (lv_sub hl [1, 2, 3, 4, 0] rfl)
                    exact L68 _ True 1 bI_T.symm 0 (by omega) bl_0 (Nat.lt_succ_self _) H locs ls hX hS (lv_sub hl [2, 3, 1, 0] rfl)
                  · refine lv_aload_n C.x C.b dX2_findValues_42 rfl (lv_at hl 0 rfl) ?_
                    refine mg_23 C hX dX2_findValues_43 ?_
                    refine lv_iload_n C.x C.b dX2_findValues_46 rfl (lv_at hl 2 rfl) ?_
                    refine lv_iload_n C.x C.b dX2_findValues_47 rfl (lv_at hl 1 rfl) ?_
                    refine r_const C dX2_findValues_48 ?_
                    refine r_const C dX2_findValues_49 ?_
                    refine lv_iload_n C.x C.b dX2_findValues_50 rfl (lv_at hl 2 rfl) ?_
                    refine r_isub C dX2_findValues_51 ?_
                    refine r_imul C dX2_findValues_52 ?_
                    refine r_ishr C (by omega) (by omega) rfl dX2_findValues_53 ?_
                    refine r_bipush C (by decide) dX2_findValues_54 ?_
                    refine r_iand C (zi_and7 _) dX2_findValues_56 ?_
                    refine ms_23 C hX hS (by omega) (by omega) m23 rfl (M' := (va_up (va_up (va_up M 23 (fup m23 v2 ((v1 / 2 ^ (3 * (3 - v2)).toNat) % 8))) 25 m25) 26 m26)) (up_in (by decide) (up_in (by decide) (up_up _ _ _ _))) dX2_findValues_57 (fun H locs hX hS => ?_)
                    refine r_iinc (lv' := [(2, .int (zi (v2 + 1))), (0, .ref (ad 63)), (1, .int (zi v1))]) C dX2_findValues_58 hl (k := 2) rfl (by decide) rfl (fun ls hl => ?_)
                    refine lv_goto (tgt := 37) C.x C.b dX2_findValues_61 (by decide) ?_
                    exact ih37 (v2 + 1) (fup m23 v2 ((v1 / 2 ^ (3 * (3 - v2)).toNat) % 8)) (by omega) (fup_st (P := fun j x => x = vc v1 j) hv rfl) (by omega) H locs ls hX hS (lv_sub hl [1, 2, 0] rfl)
              exact L37 _ 0 m23 (by omega) (fun j a b => absurd a (by omega)) (Nat.lt_succ_self _) H locs ls hX hS (lv_sub hl [1, 2, 0] rfl)
        exact L28 _ 0 0 (M 23) (M 25) m26 (by omega) rfl (fun q => absurd q (by omega)) (fun a b h1 h2 h3 h4 => by rw [h0 _ (by omega) (by omega)]; exact ⟨fun q => absurd q (by omega), fun ⟨z, q1, q2, _⟩ => absurd q1 (by omega)⟩) (Nat.lt_succ_self _) H locs ls (hX.to rfl (((up_id (va_up M 26 m26) (k := 23) (a := (M 23)) rfl).symm.trans (up_in (by decide) rfl)).trans ((up_id (va_up (va_up M 23 (M 23)) 26 m26) (k := 25) (a := (M 25)) rfl).symm.trans (up_in (by decide) rfl)))) hS (lv_sub hl [1, 0] rfl)
      · refine lv_aload_n C.x C.b dX2_findValues_13 rfl (lv_at hl 0 rfl) ?_
        refine mg_26 C hX dX2_findValues_14 ?_
        refine lv_iload_n C.x C.b dX2_findValues_17 rfl (lv_at hl 1 rfl) ?_
        refine r_const C dX2_findValues_18 ?_
        refine ms_26 C hX hS (by omega) (by omega) m26 rfl (M' := (va_up M 26 (fup m26 v1 0))) (up_up _ _ _ _) dX2_findValues_19 (fun H locs hX hS => ?_)
        refine r_iinc (lv' := [(1, .int (zi (v1 + 1))), (0, .ref (ad 63))]) C dX2_findValues_20 hl (k := 1) rfl (by decide) rfl (fun ls hl => ?_)
        refine lv_goto (tgt := 7) C.x C.b dX2_findValues_23 (by decide) ?_
        exact ih7 (v1 + 1) (fup m26 v1 0) (by omega) (fup_st (P := fun j x => x = 0) h0 rfl) (by omega) H locs ls hX hS (lv_sub hl [1, 0] rfl)
  exact L7 _ 0 (M 26) (by omega) (fun j a b => absurd a (by omega)) (Nat.lt_succ_self _) H locs ls (hX.to rfl ((up_id M (k := 26) (a := (M 26)) rfl).symm.trans rfl)) hS (lv_sub hl [1, 0] rfl)

theorem hd_X2_values : yX2_values.cls = RX2 ∧ yX2_values.cls ≠ "java/lang/invoke/MethodHandle" ∧ yX2_values.cls ≠ "java/lang/invoke/VarHandle" ∧ (parseMethodDescriptor yX2_values.desc).map (fun d => d.parameters.length) = some 1 := by decide +kernel
abbrev rm_X2_values : Room := { frames := 3, cells := 0, slots := 0, locals := 68 }
set_option maxHeartbeats 8000000 in
theorem met_X2_values (l : Launch) (E : us_E) (A : Nat → Prop) (ad : Nat → Nat) (F : Nat → Int) (M : Nat → Int → Int) (w : Int) (hw : -2147483648 ≤ w ∧ w < 2147483648) : cMet l yX2_values cX2_values 2 (some .int) rm_X2_values A E [.ref (ad 63), .int (zi w)] (fun H => MH E A ad F M H) (qi A (fun r H => ∃ f24 : Int, ∃ m23 : Int → Int, ∃ m25 : Int → Int, ∃ m26 : Int → Int, (r = sel (0 ≤ w ∧ w ≤ 4) (valS (M 21) (M 22) (F 20) w) (-1)) ∧ MH E A ad (va_up F 24 f24) (va_up (va_up (va_up M 23 m23) 25 m25) 26 m26) H)) := by
  refine cMet.of (by decide) (Nat.le_of_ble_eq_true rfl) (fun p e s m args below meth c C hnm hX hS ls hl => ?_)
  have C : Cx p s m args meth c A RX2 cX2_values 2 (some .int) E := C
  have hX : MH E A ad F M s.heap := hX
  have hl : lv_has ls 2 [(0, .ref (ad 63)), (1, .int (zi w))] := hl
  generalize hH : s.heap = H at hX
  have hS : va_S A s.heap H [] := by rw [← hH]; exact hS
  generalize hlocs : ([] : List Loc) = locs at hS ⊢
  have rF20 : 0 ≤ F 20 ∧ F 20 ≤ 8 := hX.2.1 20 (0, 8) rfl
  have rF24 : 0 ≤ F 24 ∧ F 24 ≤ 4096 := hX.2.1 24 (0, 4096) rfl
  refine lv_iload_n C.x C.b dX2_values_0 rfl (lv_at hl 1 rfl) ?_
  refine r_i2l C (by omega) dX2_values_1 ?_
  refine r_lconst C 0 rfl dX2_values_2 ?_
  refine r_ldc2 C 4 (by decide) q1359 dX2_values_3 ?_
  refine r_callSi (As := [.long (zl w), .long (zl 0), .long (zl 4)]) (rest := []) (cells' := 0) (slots' := 0) C (met_X2_in l E A ad H w 0 4 (show -9223372036854775808 ≤ w ∧ w < 9223372036854775808 from (by omega)) (show -9223372036854775808 ≤ 0 ∧ 0 < 9223372036854775808 from (by omega)) (show -9223372036854775808 ≤ 4 ∧ 4 < 9223372036854775808 from (by omega))) (lw_S q1209 q1210 q88 q1211) hd_X2_in rfl (by decide) rfl hS hl.1 rfl (Nat.le_of_ble_eq_true rfl) dX2_values_6 rfl rfl ⟨Nat.le_of_ble_eq_true rfl, Nat.le_of_ble_eq_true rfl⟩ (fun rr H locs hp hS => ?_)
  obtain ⟨hrr, hH⟩ := hp
  have hrr : rr = bI (0 ≤ w ∧ w ≤ 4) := hrr
  subst hrr
  have hX : MH E A ad F M H := by rw [hH]; exact hX
  refine r_if_ne_b (tgt := 14) C dX2_values_9 (by decide) (fun c_1 => ?_) (fun c_1 => ?_)
  · refine lv_aload_n C.x C.b dX2_values_14 rfl (lv_at hl 0 rfl) ?_
    refine r_callVv (As := []) (rest := []) (cells' := 0) (slots' := 0) C (met_X2_findValues l E A ad F M) (lw_V q1360 q1362 qs61 q88 q1363) hd_X2_findValues rfl (by decide) (m_recv C hX) hX hS hl.1 rfl (Nat.le_of_ble_eq_true rfl) dX2_values_15 rfl rfl ⟨Nat.le_of_ble_eq_true rfl, Nat.le_of_ble_eq_true rfl⟩ (fun H locs hp hS => ?_)
    obtain ⟨ff, vv, mm, hh, hf, hfi, hha, hX⟩ := hp
    have hf : ff = nfit ((M 21)) ((M 22)) ((F 20)) := hf
    have hfi : 0 < ff → ∀ k : Int, 0 ≤ k → k < 4 → mm k = vc (fstc (fitc ((M 21)) ((M 22)) ((F 20))) 4096) k := hfi
    have hha : ∀ a b : Int, 0 ≤ a → a < 4 → 0 ≤ b → b < 8 → (hh (8 * a + b) = 1 ↔ ∃ z, 0 ≤ z ∧ z < 4096 ∧ fitc ((M 21)) ((M 22)) ((F 20)) z ∧ vc z a = b) := hha
    have hX : MH E A ad (va_up F 24 ff) (va_up (va_up (va_up M 23 vv) 25 mm) 26 hh) H := hX.to rfl ((congrArg (fun z => va_up z 26 hh) ((congrArg (fun z => va_up z 25 mm) rfl).trans rfl)).trans rfl)
    refine lv_iload_n C.x C.b dX2_values_18 rfl (lv_at hl 1 rfl) ?_
    refine r_if_ne (tgt := 29) C (by omega) dX2_values_19 (by decide) (fun c_2 => ?_) (fun c_2 => ?_)
    · refine lv_aload_n C.x C.b dX2_values_29 rfl (lv_at hl 0 rfl) ?_
      refine mg_24 C hX ff rfl dX2_values_30 (fun r30 => ?_)
      refine r_if_ne (tgt := 41) C (by omega) dX2_values_33 (by decide) (fun c_3 => ?_) (fun c_3 => ?_)
      · refine lv_aload_n C.x C.b dX2_values_41 rfl (lv_at hl 0 rfl) ?_
        have q25 : 0 ≤ mm (w - 1) ∧ mm (w - 1) ≤ 7 := hX.2.2 25 (0, 7) rfl _
        refine mg_25 C hX dX2_values_42 ?_
        refine lv_iload_n C.x C.b dX2_values_45 rfl (lv_at hl 1 rfl) ?_
        refine r_const C dX2_values_46 ?_
        refine r_isub C dX2_values_47 ?_
        refine ml_25 C hX (by omega) mm rfl dX2_values_48 (fun r48 => ?_)
        refine r_callSi (As := [.int (zi (mm (w - 1)))]) (rest := []) (cells' := 0) (slots' := 0) C (met_X2_listed l E A ad H (mm (w - 1)) (show -2147483648 ≤ (mm (w - 1)) ∧ (mm (w - 1)) < 2147483648 from (by omega))) (lw_S q1368 q1369 q88 q1370) hd_X2_listed rfl (by decide) rfl hS hl.1 rfl (Nat.le_of_ble_eq_true rfl) dX2_values_49 rfl rfl ⟨Nat.le_of_ble_eq_true rfl, Nat.le_of_ble_eq_true rfl⟩ (fun rr H locs hp hS => ?_)
        obtain ⟨hls, hrr, hH⟩ := hp
        have hrr : rr = lst (mm (w - 1)) := hrr
        subst hrr
        have hX : MH E A ad (va_up F 24 ff) (va_up (va_up (va_up M 23 vv) 25 mm) 26 hh) H := by rw [hH]; exact hX
        have hls : 1 ≤ lst (mm (w - 1)) ∧ lst (mm (w - 1)) ≤ 60 := hls
        have hz := fst_0 (P := fitc (M 21) (M 22) (F 20)) (n := 4096) (by omega)
        have hnn := isum_bI (P := fitc (M 21) (M 22) (F 20)) (n := 4096) (by omega)
        have hnf : isum (fun c => bI (fitc (M 21) (M 22) (F 20) c)) 4096 = nfit (M 21) (M 22) (F 20) := rfl
        rw [hnf] at hz hnn
        exact r_iret C hS (Nat.le_of_ble_eq_true rfl) (Nat.le_of_ble_eq_true rfl) dX2_values_52 ⟨ff, vv, mm, hh, (by rw [sel_t (by assumption)]; first | (rw [valS_0 (by assumption)]; exact hf) | rw [valS_n (by assumption) (by omega)] | rw [valS_s (by assumption) (by omega), ← hfi (by omega) _ (by omega) (by omega)]), hX⟩
      · refine r_bipush C (by decide) dX2_values_36 ?_
        refine lv_goto (tgt := 52) C.x C.b dX2_values_38 (by decide) ?_
        have hz := fst_0 (P := fitc (M 21) (M 22) (F 20)) (n := 4096) (by omega)
        have hnn := isum_bI (P := fitc (M 21) (M 22) (F 20)) (n := 4096) (by omega)
        have hnf : isum (fun c => bI (fitc (M 21) (M 22) (F 20) c)) 4096 = nfit (M 21) (M 22) (F 20) := rfl
        rw [hnf] at hz hnn
        exact r_iret C hS (Nat.le_of_ble_eq_true rfl) (Nat.le_of_ble_eq_true rfl) dX2_values_52 ⟨ff, vv, mm, hh, (by rw [sel_t (by assumption)]; first | (rw [valS_0 (by assumption)]; exact hf) | rw [valS_n (by assumption) (by omega)] | rw [valS_s (by assumption) (by omega), ← hfi (by omega) _ (by omega) (by omega)]), hX⟩
    · refine lv_aload_n C.x C.b dX2_values_22 rfl (lv_at hl 0 rfl) ?_
      refine mg_24 C hX ff rfl dX2_values_23 (fun r23 => ?_)
      refine lv_goto (tgt := 52) C.x C.b dX2_values_26 (by decide) ?_
      have hz := fst_0 (P := fitc (M 21) (M 22) (F 20)) (n := 4096) (by omega)
      have hnn := isum_bI (P := fitc (M 21) (M 22) (F 20)) (n := 4096) (by omega)
      have hnf : isum (fun c => bI (fitc (M 21) (M 22) (F 20) c)) 4096 = nfit (M 21) (M 22) (F 20) := rfl
      rw [hnf] at hz hnn
      exact r_iret C hS (Nat.le_of_ble_eq_true rfl) (Nat.le_of_ble_eq_true rfl) dX2_values_52 ⟨ff, vv, mm, hh, (by rw [sel_t (by assumption)]; first | (rw [valS_0 (by assumption)]; exact hf) | rw [valS_n (by assumption) (by omega)] | rw [valS_s (by assumption) (by omega), ← hfi (by omega) _ (by omega) (by omega)]), hX⟩
  · refine r_const C dX2_values_12 ?_
    exact r_iret C hS (Nat.le_of_ble_eq_true rfl) (Nat.le_of_ble_eq_true rfl) dX2_values_13 ⟨(F 24), (M 23), (M 25), (M 26), (Eq.symm (sel_f (by assumption))), (hX.to ((up_id F (k := 24) (a := (F 24)) rfl).symm.trans rfl) ((((up_id M (k := 23) (a := (M 23)) rfl).symm.trans rfl).trans ((up_id (va_up M 23 (M 23)) (k := 25) (a := (M 25)) rfl).symm.trans rfl)).trans ((up_id (va_up (va_up M 23 (M 23)) 25 (M 25)) (k := 26) (a := (M 26)) rfl).symm.trans rfl)))⟩

theorem hd_X2_sure : yX2_sure.cls = RX2 ∧ yX2_sure.cls ≠ "java/lang/invoke/MethodHandle" ∧ yX2_sure.cls ≠ "java/lang/invoke/VarHandle" ∧ (parseMethodDescriptor yX2_sure.desc).map (fun d => d.parameters.length) = some 1 := by decide +kernel
abbrev rm_X2_sure : Room := { frames := 3, cells := 0, slots := 0, locals := 68 }
set_option maxHeartbeats 8000000 in
theorem met_X2_sure (l : Launch) (E : us_E) (A : Nat → Prop) (ad : Nat → Nat) (F : Nat → Int) (M : Nat → Int → Int) (k : Int) (hk : -2147483648 ≤ k ∧ k < 2147483648) : cMet l yX2_sure cX2_sure 4 (some .int) rm_X2_sure A E [.ref (ad 63), .int (zi k)] (fun H => MH E A ad F M H) (qi A (fun r H => ∃ f24 : Int, ∃ m23 : Int → Int, ∃ m25 : Int → Int, ∃ m26 : Int → Int, (r = sel (0 ≤ k ∧ k ≤ 3) (sureS (M 21) (M 22) (F 20) k) (-1)) ∧ MH E A ad (va_up F 24 f24) (va_up (va_up (va_up M 23 m23) 25 m25) 26 m26) H)) := by
  refine cMet.of (by decide) (Nat.le_of_ble_eq_true rfl) (fun p e s m args below meth c C hnm hX hS ls hl => ?_)
  have C : Cx p s m args meth c A RX2 cX2_sure 4 (some .int) E := C
  have hX : MH E A ad F M s.heap := hX
  have hl : lv_has ls 4 [(0, .ref (ad 63)), (1, .int (zi k))] := hl
  generalize hH : s.heap = H at hX
  have hS : va_S A s.heap H [] := by rw [← hH]; exact hS
  generalize hlocs : ([] : List Loc) = locs at hS ⊢
  have rF20 : 0 ≤ F 20 ∧ F 20 ≤ 8 := hX.2.1 20 (0, 8) rfl
  have rF24 : 0 ≤ F 24 ∧ F 24 ≤ 4096 := hX.2.1 24 (0, 4096) rfl
  refine lv_iload_n C.x C.b dX2_sure_0 rfl (lv_at hl 1 rfl) ?_
  refine r_i2l C (by omega) dX2_sure_1 ?_
  refine r_lconst C 0 rfl dX2_sure_2 ?_
  refine r_ldc2 C 3 (by decide) q1236 dX2_sure_3 ?_
  refine r_callSi (As := [.long (zl k), .long (zl 0), .long (zl 3)]) (rest := []) (cells' := 0) (slots' := 0) C (met_X2_in l E A ad H k 0 3 (show -9223372036854775808 ≤ k ∧ k < 9223372036854775808 from (by omega)) (show -9223372036854775808 ≤ 0 ∧ 0 < 9223372036854775808 from (by omega)) (show -9223372036854775808 ≤ 3 ∧ 3 < 9223372036854775808 from (by omega))) (lw_S q1209 q1210 q88 q1211) hd_X2_in rfl (by decide) rfl hS hl.1 rfl (Nat.le_of_ble_eq_true rfl) dX2_sure_6 rfl rfl ⟨Nat.le_of_ble_eq_true rfl, Nat.le_of_ble_eq_true rfl⟩ (fun rr H locs hp hS => ?_)
  obtain ⟨hrr, hH⟩ := hp
  have hrr : rr = bI (0 ≤ k ∧ k ≤ 3) := hrr
  subst hrr
  have hX : MH E A ad F M H := by rw [hH]; exact hX
  refine r_if_ne_b (tgt := 14) C dX2_sure_9 (by decide) (fun c_1 => ?_) (fun c_1 => ?_)
  · refine lv_aload_n C.x C.b dX2_sure_14 rfl (lv_at hl 0 rfl) ?_
    refine r_callVv (As := []) (rest := []) (cells' := 0) (slots' := 0) C (met_X2_findValues l E A ad F M) (lw_V q1360 q1362 qs61 q88 q1363) hd_X2_findValues rfl (by decide) (m_recv C hX) hX hS hl.1 rfl (Nat.le_of_ble_eq_true rfl) dX2_sure_15 rfl rfl ⟨Nat.le_of_ble_eq_true rfl, Nat.le_of_ble_eq_true rfl⟩ (fun H locs hp hS => ?_)
    obtain ⟨ff, vv, mm, hh, hf, hfi, hha, hX⟩ := hp
    have hf : ff = nfit ((M 21)) ((M 22)) ((F 20)) := hf
    have hfi : 0 < ff → ∀ k : Int, 0 ≤ k → k < 4 → mm k = vc (fstc (fitc ((M 21)) ((M 22)) ((F 20))) 4096) k := hfi
    have hha : ∀ a b : Int, 0 ≤ a → a < 4 → 0 ≤ b → b < 8 → (hh (8 * a + b) = 1 ↔ ∃ z, 0 ≤ z ∧ z < 4096 ∧ fitc ((M 21)) ((M 22)) ((F 20)) z ∧ vc z a = b) := hha
    have hX : MH E A ad (va_up F 24 ff) (va_up (va_up (va_up M 23 vv) 25 mm) 26 hh) H := hX.to rfl ((congrArg (fun z => va_up z 26 hh) ((congrArg (fun z => va_up z 25 mm) rfl).trans rfl)).trans rfl)
    refine r_const C dX2_sure_18 ?_
    refine lv_istore_n (lv' := [(2, .int (zi 0)), (0, .ref (ad 63)), (1, .int (zi k))]) C.x C.b dX2_sure_19 rfl hl (by decide) rfl (fun ls hl => ?_)
    refine r_const C dX2_sure_20 ?_
    refine lv_istore_n (lv' := [(3, .int (zi 0)), (2, .int (zi 0)), (0, .ref (ad 63)), (1, .int (zi k))]) C.x C.b dX2_sure_21 rfl hl (by decide) rfl (fun ls hl => ?_)
    have L22 : ∀ (fu : Nat) (v2 : Int) (v3 : Int) (h3 : 0 ≤ v3 ∧ v3 ≤ 8) (ha : v2 = isum (fun b => bI (∃ z, 0 ≤ z ∧ z < 4096 ∧ fitc (M 21) (M 22) (F 20) z ∧ vc z k = b)) v3) (hm : Int.toNat (8 - v3) < fu) (H : Heap) (locs : List Loc) (ls : Array Slot) (hX : MH E A ad (va_up F 24 ff) (va_up (va_up (va_up M 23 vv) 25 mm) 26 hh) H) (hS : va_S A s.heap H locs) (hl : lv_has ls 4 [(0, .ref (ad 63)), (1, .int (zi k)), (2, .int (zi v2)), (3, .int (zi v3))]), W p l e rm_X2_sure s m args below meth c H locs 0 0 (MQ below (qi A (fun r H => ∃ f24 : Int, ∃ m23 : Int → Int, ∃ m25 : Int → Int, ∃ m26 : Int → Int, (r = sel (0 ≤ k ∧ k ≤ 3) (sureS (M 21) (M 22) (F 20) k) (-1)) ∧ MH E A ad (va_up F 24 f24) (va_up (va_up (va_up M 23 m23) 25 m25) 26 m26) H)) args s (rm_X2_sure).cells (rm_X2_sure).slots A) (F0 m 22 ls []) := by
      intro fu
      induction fu with
      | zero => intro v2 v3 h3 ha hm; exact absurd hm (Nat.not_lt_zero _)
      | succ fu ih22 =>
        intro v2 v3 h3 ha hm H locs ls hX hS hl
        refine lv_iload_n C.x C.b dX2_sure_22 rfl (lv_at hl 3 rfl) ?_
        refine r_bipush C (by decide) dX2_sure_23 ?_
        refine r_icmp_ge (tgt := 56) C (by omega) (by decide) dX2_sure_25 (by decide) (fun c_2 => ?_) (fun c_2 => ?_)
        · refine lv_iload_n C.x C.b dX2_sure_56 rfl (lv_at hl 2 rfl) ?_
          exact r_iret C hS (Nat.le_of_ble_eq_true rfl) (Nat.le_of_ble_eq_true rfl) dX2_sure_57 ⟨ff, vv, mm, hh, (by rw [sel_t (by assumption), ha, show v3 = 8 by omega]; rfl), hX⟩
        · refine lv_iload_n C.x C.b dX2_sure_28 rfl (lv_at hl 2 rfl) ?_
          refine lv_aload_n C.x C.b dX2_sure_29 rfl (lv_at hl 0 rfl) ?_
          refine mg_26 C hX dX2_sure_30 ?_
          refine r_bipush C (by decide) dX2_sure_33 ?_
          refine lv_iload_n C.x C.b dX2_sure_35 rfl (lv_at hl 1 rfl) ?_
          refine r_imul C dX2_sure_36 ?_
          refine lv_iload_n C.x C.b dX2_sure_37 rfl (lv_at hl 3 rfl) ?_
          refine r_iadd C dX2_sure_38 ?_
          refine ml_26 C hX (by omega) hh rfl dX2_sure_39 (fun r39 => ?_)
          have J48_3 : ∀ (t1 : Int) (ht1 : t1 = bI (¬ ((hh ((8 * k) + v3)) = 0))) (H : Heap) (locs : List Loc) (ls : Array Slot) (hX : MH E A ad (va_up F 24 ff) (va_up (va_up (va_up M 23 vv) 25 mm) 26 hh) H) (hS : va_S A s.heap H locs) (hl : lv_has ls 4 [(0, .ref (ad 63)), (1, .int (zi k)), (2, .int (zi v2)), (3, .int (zi v3))]), W p l e rm_X2_sure s m args below meth c H locs 0 0 (MQ below (qi A (fun r H => ∃ f24 : Int, ∃ m23 : Int → Int, ∃ m25 : Int → Int, ∃ m26 : Int → Int, (r = sel (0 ≤ k ∧ k ≤ 3) (sureS (M 21) (M 22) (F 20) k) (-1)) ∧ MH E A ad (va_up F 24 f24) (va_up (va_up (va_up M 23 m23) 25 m25) 26 m26) H)) args s (rm_X2_sure).cells (rm_X2_sure).slots A) (F0 m 48 ls [.int (zi t1), .int (zi v2)]) := by
            intro t1 ht1 H locs ls hX hS hl
            subst ht1
            refine r_iadd C dX2_sure_48 ?_
            refine lv_istore_n (lv' := [(2, .int (zi (v2 + (bI (¬ ((hh ((8 * k) + v3)) = 0)))))), (0, .ref (ad 63)), (1, .int (zi k)), (3, .int (zi v3))]) C.x C.b dX2_sure_49 rfl hl (by decide) rfl (fun ls hl => ?_)
            have q26 : 0 ≤ hh (8 * k + v3) ∧ hh (8 * k + v3) ≤ 1 := hX.2.2 26 (0, 1) rfl _
            refine r_iinc (lv' := [(3, .int (zi (v3 + 1))), (2, .int (zi (v2 + (bI (¬ ((hh ((8 * k) + v3)) = 0)))))), (0, .ref (ad 63)), (1, .int (zi k))]) C dX2_sure_50 hl (k := 3) rfl (by decide) rfl (fun ls hl => ?_)
            refine lv_goto (tgt := 22) C.x C.b dX2_sure_53 (by decide) ?_
            exact ih22 (v2 + (bI (¬ ((hh ((8 * k) + v3)) = 0)))) (v3 + 1) (by omega) (isum_st (by omega) ha (bI_c (Iff.trans ⟨fun _ => by omega, fun _ => by omega⟩ (hha k v3 (by omega) (by omega) (by omega) (by omega))))) (by omega) H locs ls hX hS (lv_sub hl [2, 3, 1, 0] rfl)
          refine r_if_eq (tgt := 47) C (by omega) dX2_sure_40 (by decide) (fun c_4 => ?_) (fun c_4 => ?_)
          · refine r_const C dX2_sure_47 ?_
            exact J48_3 0 ((bI_f (fun q => q c_4)).symm) H locs ls hX hS hl
          · refine r_const C dX2_sure_43 ?_
            refine lv_goto (tgt := 48) C.x C.b dX2_sure_44 (by decide) ?_
            exact J48_3 1 ((bI_t c_4).symm) H locs ls hX hS hl
    exact L22 _ 0 0 (by omega) rfl (Nat.lt_succ_self _) H locs ls hX hS (lv_sub hl [2, 3, 1, 0] rfl)
  · refine r_const C dX2_sure_12 ?_
    exact r_iret C hS (Nat.le_of_ble_eq_true rfl) (Nat.le_of_ble_eq_true rfl) dX2_sure_13 ⟨(F 24), (M 23), (M 25), (M 26), (Eq.symm (sel_f (by assumption))), (hX.to ((up_id F (k := 24) (a := (F 24)) rfl).symm.trans rfl) ((((up_id M (k := 23) (a := (M 23)) rfl).symm.trans rfl).trans ((up_id (va_up M 23 (M 23)) (k := 25) (a := (M 25)) rfl).symm.trans rfl)).trans ((up_id (va_up (va_up M 23 (M 23)) 25 (M 25)) (k := 26) (a := (M 26)) rfl).symm.trans rfl)))⟩

theorem hd_X2_name : yX2_name.cls = RX2 ∧ yX2_name.cls ≠ "java/lang/invoke/MethodHandle" ∧ yX2_name.cls ≠ "java/lang/invoke/VarHandle" ∧ (parseMethodDescriptor yX2_name.desc).map (fun d => d.parameters.length) = some 2 := by decide +kernel
abbrev rm_X2_name : Room := { frames := 1, cells := 0, slots := 0, locals := 25 }
set_option maxHeartbeats 8000000 in
theorem met_X2_name (l : Launch) (E : us_E) (A : Nat → Prop) (ad : Nat → Nat) (F : Nat → Int) (M : Nat → Int → Int) (n : Int) (v : Int) (hn : -2147483648 ≤ n ∧ n < 2147483648) (hv : -2147483648 ≤ v ∧ v < 2147483648) : cMet l yX2_name cX2_name 3 (some .int) rm_X2_name A E [.ref (ad 63), .int (zi n), .int (zi v)] (fun H => MH E A ad F M H) (qi A (fun r H => ∃ f27 : Int, ∃ m28 : Int → Int, ∃ m29 : Int → Int, (f27 = sel (areS n 8 v ∧ ¬ F 27 = 4) (F 27 + 1) (F 27)) ∧ (m28 = sel (areS n 8 v ∧ ¬ F 27 = 4) (fup (M 28) (F 27) n) (M 28)) ∧ (m29 = sel (areS n 8 v ∧ ¬ F 27 = 4) (fup (M 29) (F 27) v) (M 29)) ∧ (r = sel (areS n 8 v) (sel (F 27 = 4) (-3) (F 27)) (-1)) ∧ MH E A ad (va_up F 27 f27) (va_up (va_up M 28 m28) 29 m29) H)) := by
  refine cMet.of (by decide) (Nat.le_of_ble_eq_true rfl) (fun p e s m args below meth c C hnm hX hS ls hl => ?_)
  have C : Cx p s m args meth c A RX2 cX2_name 3 (some .int) E := C
  have hX : MH E A ad F M s.heap := hX
  have hl : lv_has ls 3 [(0, .ref (ad 63)), (1, .int (zi n)), (2, .int (zi v))] := hl
  generalize hH : s.heap = H at hX
  have hS : va_S A s.heap H [] := by rw [← hH]; exact hS
  generalize hlocs : ([] : List Loc) = locs at hS ⊢
  have rF27 : 0 ≤ F 27 ∧ F 27 ≤ 4 := hX.2.1 27 (0, 4) rfl
  refine lv_iload_n C.x C.b dX2_name_0 rfl (lv_at hl 1 rfl) ?_
  refine r_i2l C (by omega) dX2_name_1 ?_
  refine r_lconst C 1 rfl dX2_name_2 ?_
  refine r_ldc2 C 8 (by decide) q1379 dX2_name_3 ?_
  refine r_callSi (As := [.long (zl n), .long (zl 1), .long (zl 8)]) (rest := []) (cells' := 0) (slots' := 0) C (met_X2_in l E A ad H n 1 8 (show -9223372036854775808 ≤ n ∧ n < 9223372036854775808 from (by omega)) (show -9223372036854775808 ≤ 1 ∧ 1 < 9223372036854775808 from (by omega)) (show -9223372036854775808 ≤ 8 ∧ 8 < 9223372036854775808 from (by omega))) (lw_S q1209 q1210 q88 q1211) hd_X2_in rfl (by decide) rfl hS hl.1 rfl (Nat.le_of_ble_eq_true rfl) dX2_name_6 rfl rfl ⟨Nat.le_of_ble_eq_true rfl, Nat.le_of_ble_eq_true rfl⟩ (fun rr H locs hp hS => ?_)
  obtain ⟨hrr, hH⟩ := hp
  have hrr : rr = bI (1 ≤ n ∧ n ≤ 8) := hrr
  subst hrr
  have hX : MH E A ad F M H := by rw [hH]; exact hX
  refine r_if_eq_b (tgt := 29) C dX2_name_9 (by decide) (fun c_1 => ?_) (fun c_1 => ?_)
  · refine r_const C dX2_name_29 ?_
    exact r_iret C hS (Nat.le_of_ble_eq_true rfl) (Nat.le_of_ble_eq_true rfl) dX2_name_30 ⟨(F 27), (M 28), (M 29), (by first | exact Eq.symm (sel_f (fun q => absurd q.1.1 (by assumption))) | exact Eq.symm (sel_f (fun q => absurd q.1.2 (by assumption)))), (by first | exact Eq.symm (sel_f (fun q => absurd q.1.1 (by assumption))) | exact Eq.symm (sel_f (fun q => absurd q.1.2 (by assumption)))), (by first | exact Eq.symm (sel_f (fun q => absurd q.1.1 (by assumption))) | exact Eq.symm (sel_f (fun q => absurd q.1.2 (by assumption)))), (by first | exact Eq.symm (sel_f (fun q => absurd q.1 (by assumption))) | exact Eq.symm (sel_f (fun q => absurd q.2 (by assumption)))), (hX.to ((up_id F (k := 27) (a := (F 27)) rfl).symm.trans rfl) (((up_id M (k := 28) (a := (M 28)) rfl).symm.trans rfl).trans ((up_id (va_up M 28 (M 28)) (k := 29) (a := (M 29)) rfl).symm.trans rfl)))⟩
  · have hp2 := p2_r (k := 2 * n) (by omega)
    refine lv_iload_n C.x C.b dX2_name_12 rfl (lv_at hl 2 rfl) ?_
    refine r_i2l C (by omega) dX2_name_13 ?_
    refine r_lconst C 0 rfl dX2_name_14 ?_
    refine r_const C dX2_name_15 ?_
    refine r_const C dX2_name_16 ?_
    refine lv_iload_n C.x C.b dX2_name_17 rfl (lv_at hl 1 rfl) ?_
    refine r_imul C dX2_name_18 ?_
    refine r_ishl C (by omega) (by omega) rfl dX2_name_19 ?_
    refine r_const C dX2_name_20 ?_
    refine r_isub C dX2_name_21 ?_
    refine r_i2l C (by omega) dX2_name_22 ?_
    refine r_callSi (As := [.long (zl v), .long (zl 0), .long (zl ((1 * 2 ^ (2 * n).toNat) - 1))]) (rest := []) (cells' := 0) (slots' := 0) C (met_X2_in l E A ad H v 0 ((1 * 2 ^ (2 * n).toNat) - 1) (show -9223372036854775808 ≤ v ∧ v < 9223372036854775808 from (by omega)) (show -9223372036854775808 ≤ 0 ∧ 0 < 9223372036854775808 from (by omega)) (show -9223372036854775808 ≤ ((1 * 2 ^ (2 * n).toNat) - 1) ∧ ((1 * 2 ^ (2 * n).toNat) - 1) < 9223372036854775808 from (by omega))) (lw_S q1209 q1210 q88 q1211) hd_X2_in rfl (by decide) rfl hS hl.1 rfl (Nat.le_of_ble_eq_true rfl) dX2_name_23 rfl rfl ⟨Nat.le_of_ble_eq_true rfl, Nat.le_of_ble_eq_true rfl⟩ (fun rr H locs hp hS => ?_)
    obtain ⟨hrr, hH⟩ := hp
    have hrr : rr = bI (0 ≤ v ∧ v ≤ ((1 * 2 ^ (2 * n).toNat) - 1)) := hrr
    subst hrr
    have hX : MH E A ad F M H := by rw [hH]; exact hX
    refine r_if_ne_b (tgt := 31) C dX2_name_26 (by decide) (fun c_2 => ?_) (fun c_2 => ?_)
    · have har : areS n 8 v := ⟨by assumption, by assumption⟩
      refine lv_aload_n C.x C.b dX2_name_31 rfl (lv_at hl 0 rfl) ?_
      refine mg_27 C hX (F 27) rfl dX2_name_32 (fun _ => ?_)
      refine r_const C dX2_name_35 ?_
      refine r_icmp_ne (tgt := 42) C (by omega) (by decide) dX2_name_36 (by decide) (fun c_3 => ?_) (fun c_3 => ?_)
      · refine lv_aload_n C.x C.b dX2_name_42 rfl (lv_at hl 0 rfl) ?_
        refine mg_28 C hX dX2_name_43 ?_
        refine lv_aload_n C.x C.b dX2_name_46 rfl (lv_at hl 0 rfl) ?_
        refine mg_27 C hX (F 27) rfl dX2_name_47 (fun _ => ?_)
        refine lv_iload_n C.x C.b dX2_name_50 rfl (lv_at hl 1 rfl) ?_
        refine ms_28 C hX hS (by omega) (by omega) (M 28) rfl (M' := (va_up M 28 (fup (M 28) (F 27) n))) rfl dX2_name_51 (fun H locs hX hS => ?_)
        refine lv_aload_n C.x C.b dX2_name_52 rfl (lv_at hl 0 rfl) ?_
        refine mg_29 C hX dX2_name_53 ?_
        refine lv_aload_n C.x C.b dX2_name_56 rfl (lv_at hl 0 rfl) ?_
        refine mg_27 C hX (F 27) rfl dX2_name_57 (fun _ => ?_)
        refine lv_iload_n C.x C.b dX2_name_60 rfl (lv_at hl 2 rfl) ?_
        refine ms_29 C hX hS (by omega) (by omega) (M 29) rfl (M' := (va_up (va_up M 28 (fup (M 28) (F 27) n)) 29 (fup (M 29) (F 27) v))) rfl dX2_name_61 (fun H locs hX hS => ?_)
        refine lv_aload_n C.x C.b dX2_name_62 rfl (lv_at hl 0 rfl) ?_
        refine lv_dup C.x C.b dX2_name_63 rfl ?_
        refine mg_27 C hX (F 27) rfl dX2_name_64 (fun _ => ?_)
        refine r_const C dX2_name_67 ?_
        refine r_iadd C dX2_name_68 ?_
        refine mp_27 C hX hS (by omega) (F' := (va_up F 27 ((F 27) + 1))) rfl dX2_name_69 (fun H locs hX hS => ?_)
        refine lv_aload_n C.x C.b dX2_name_72 rfl (lv_at hl 0 rfl) ?_
        refine mg_27 C hX ((F 27) + 1) rfl dX2_name_73 (fun r73 => ?_)
        refine r_const C dX2_name_76 ?_
        refine r_isub C dX2_name_77 ?_
        exact r_iret C hS (Nat.le_of_ble_eq_true rfl) (Nat.le_of_ble_eq_true rfl) dX2_name_78 ⟨((F 27) + 1), (fup (M 28) (F 27) n), (fup (M 29) (F 27) v), (Eq.symm (sel_t ⟨har, by assumption⟩)), (Eq.symm (sel_t ⟨har, by assumption⟩)), (Eq.symm (sel_t ⟨har, by assumption⟩)), (by rw [sel_t har, sel_f (by assumption)]; omega), hX⟩
      · refine r_bipush C (by decide) dX2_name_39 ?_
        exact r_iret C hS (Nat.le_of_ble_eq_true rfl) (Nat.le_of_ble_eq_true rfl) dX2_name_41 ⟨(F 27), (M 28), (M 29), (Eq.symm (sel_f (fun q => absurd (show F 27 = 4 by assumption) q.2))), (Eq.symm (sel_f (fun q => absurd (show F 27 = 4 by assumption) q.2))), (Eq.symm (sel_f (fun q => absurd (show F 27 = 4 by assumption) q.2))), (by rw [sel_t har, sel_t (by assumption)]), (hX.to ((up_id F (k := 27) (a := (F 27)) rfl).symm.trans rfl) (((up_id M (k := 28) (a := (M 28)) rfl).symm.trans rfl).trans ((up_id (va_up M 28 (M 28)) (k := 29) (a := (M 29)) rfl).symm.trans rfl)))⟩
    · refine r_const C dX2_name_29 ?_
      exact r_iret C hS (Nat.le_of_ble_eq_true rfl) (Nat.le_of_ble_eq_true rfl) dX2_name_30 ⟨(F 27), (M 28), (M 29), (by first | exact Eq.symm (sel_f (fun q => absurd q.1.1 (by assumption))) | exact Eq.symm (sel_f (fun q => absurd q.1.2 (by assumption)))), (by first | exact Eq.symm (sel_f (fun q => absurd q.1.1 (by assumption))) | exact Eq.symm (sel_f (fun q => absurd q.1.2 (by assumption)))), (by first | exact Eq.symm (sel_f (fun q => absurd q.1.1 (by assumption))) | exact Eq.symm (sel_f (fun q => absurd q.1.2 (by assumption)))), (by first | exact Eq.symm (sel_f (fun q => absurd q.1 (by assumption))) | exact Eq.symm (sel_f (fun q => absurd q.2 (by assumption)))), (hX.to ((up_id F (k := 27) (a := (F 27)) rfl).symm.trans rfl) (((up_id M (k := 28) (a := (M 28)) rfl).symm.trans rfl).trans ((up_id (va_up M 28 (M 28)) (k := 29) (a := (M 29)) rfl).symm.trans rfl)))⟩

theorem hd_X2_isName : yX2_isName.cls = RX2 ∧ yX2_isName.cls ≠ "java/lang/invoke/MethodHandle" ∧ yX2_isName.cls ≠ "java/lang/invoke/VarHandle" ∧ (parseMethodDescriptor yX2_isName.desc).map (fun d => d.parameters.length) = some 1 := by decide +kernel
abbrev rm_X2_isName : Room := { frames := 1, cells := 0, slots := 0, locals := 25 }
set_option maxHeartbeats 8000000 in
theorem met_X2_isName (l : Launch) (E : us_E) (A : Nat → Prop) (ad : Nat → Nat) (F : Nat → Int) (M : Nat → Int → Int) (a : Int) (ha : -2147483648 ≤ a ∧ a < 2147483648) : cMet l yX2_isName cX2_isName 2 (some .boolean) rm_X2_isName A E [.ref (ad 63), .int (zi a)] (fun H => MH E A ad F M H) (qi A (fun r H => (r = bI (0 ≤ a ∧ a < F 27)) ∧ MH E A ad F M H)) := by
  refine cMet.of (by decide) (Nat.le_of_ble_eq_true rfl) (fun p e s m args below meth c C hnm hX hS ls hl => ?_)
  have C : Cx p s m args meth c A RX2 cX2_isName 2 (some .boolean) E := C
  have hX : MH E A ad F M s.heap := hX
  have hl : lv_has ls 2 [(0, .ref (ad 63)), (1, .int (zi a))] := hl
  generalize hH : s.heap = H at hX
  have hS : va_S A s.heap H [] := by rw [← hH]; exact hS
  generalize hlocs : ([] : List Loc) = locs at hS ⊢
  have rF27 : 0 ≤ F 27 ∧ F 27 ≤ 4 := hX.2.1 27 (0, 4) rfl
  refine lv_iload_n C.x C.b dX2_isName_0 rfl (lv_at hl 1 rfl) ?_
  refine r_i2l C (by omega) dX2_isName_1 ?_
  refine r_lconst C 0 rfl dX2_isName_2 ?_
  refine lv_aload_n C.x C.b dX2_isName_3 rfl (lv_at hl 0 rfl) ?_
  refine mg_27 C hX (F 27) rfl dX2_isName_4 (fun _ => ?_)
  refine r_const C dX2_isName_7 ?_
  refine r_isub C dX2_isName_8 ?_
  refine r_i2l C (by omega) dX2_isName_9 ?_
  refine r_callSi (As := [.long (zl a), .long (zl 0), .long (zl ((F 27) - 1))]) (rest := []) (cells' := 0) (slots' := 0) C (met_X2_in l E A ad H a 0 ((F 27) - 1) (show -9223372036854775808 ≤ a ∧ a < 9223372036854775808 from (by omega)) (show -9223372036854775808 ≤ 0 ∧ 0 < 9223372036854775808 from (by omega)) (show -9223372036854775808 ≤ ((F 27) - 1) ∧ ((F 27) - 1) < 9223372036854775808 from (by omega))) (lw_S q1209 q1210 q88 q1211) hd_X2_in rfl (by decide) rfl hS hl.1 rfl (Nat.le_of_ble_eq_true rfl) dX2_isName_10 rfl rfl ⟨Nat.le_of_ble_eq_true rfl, Nat.le_of_ble_eq_true rfl⟩ (fun rr H locs hp hS => ?_)
  obtain ⟨hrr, hH⟩ := hp
  have hrr : rr = bI (0 ≤ a ∧ a ≤ ((F 27) - 1)) := hrr
  subst hrr
  have hX : MH E A ad F M H := by rw [hH]; exact hX
  exact r_zret C (bI_e _) hS (Nat.le_of_ble_eq_true rfl) (Nat.le_of_ble_eq_true rfl) dX2_isName_13 ⟨(bI_c (by first | exact Iff.rfl | (constructor <;> intro _ <;> omega))), hX⟩

theorem hd_X2_soundAt : yX2_soundAt.cls = RX2 ∧ yX2_soundAt.cls ≠ "java/lang/invoke/MethodHandle" ∧ yX2_soundAt.cls ≠ "java/lang/invoke/VarHandle" ∧ (parseMethodDescriptor yX2_soundAt.desc).map (fun d => d.parameters.length) = some 2 := by decide +kernel
abbrev rm_X2_soundAt : Room := { frames := 0, cells := 0, slots := 0, locals := 0 }
set_option maxHeartbeats 8000000 in
theorem met_X2_soundAt (l : Launch) (E : us_E) (A : Nat → Prop) (ad : Nat → Nat) (F : Nat → Int) (M : Nat → Int → Int) (a : Int) (i : Int) (ha : 0 ≤ a ∧ a < 4) (hi : 0 ≤ i ∧ i < M 28 a) : cMet l yX2_soundAt cX2_soundAt 3 (some .int) rm_X2_soundAt A E [.ref (ad 63), .int (zi a), .int (zi i)] (fun H => MH E A ad F M H) (qi A (fun r H => (0 ≤ sn (M 29) (M 28) a i ∧ sn (M 29) (M 28) a i ≤ 3) ∧ (r = sn (M 29) (M 28) a i) ∧ MH E A ad F M H)) := by
  refine cMet.of (by decide) (Nat.le_of_ble_eq_true rfl) (fun p e s m args below meth c C hnm hX hS ls hl => ?_)
  have C : Cx p s m args meth c A RX2 cX2_soundAt 3 (some .int) E := C
  have hX : MH E A ad F M s.heap := hX
  have hl : lv_has ls 3 [(0, .ref (ad 63)), (1, .int (zi a)), (2, .int (zi i))] := hl
  generalize hH : s.heap = H at hX
  have hS : va_S A s.heap H [] := by rw [← hH]; exact hS
  generalize hlocs : ([] : List Loc) = locs at hS ⊢
  have q28 : 0 ≤ M 28 a ∧ M 28 a ≤ 8 := hX.2.2 28 (0, 8) rfl _
  refine lv_aload_n C.x C.b dX2_soundAt_0 rfl (lv_at hl 0 rfl) ?_
  refine mg_29 C hX dX2_soundAt_1 ?_
  refine lv_iload_n C.x C.b dX2_soundAt_4 rfl (lv_at hl 1 rfl) ?_
  refine ml_29 C hX (by omega) (M 29) rfl dX2_soundAt_5 (fun r5 => ?_)
  refine r_const C dX2_soundAt_6 ?_
  refine lv_aload_n C.x C.b dX2_soundAt_7 rfl (lv_at hl 0 rfl) ?_
  refine mg_28 C hX dX2_soundAt_8 ?_
  refine lv_iload_n C.x C.b dX2_soundAt_11 rfl (lv_at hl 1 rfl) ?_
  refine ml_28 C hX (by omega) (M 28) rfl dX2_soundAt_12 (fun r12 => ?_)
  refine r_const C dX2_soundAt_13 ?_
  refine r_isub C dX2_soundAt_14 ?_
  refine lv_iload_n C.x C.b dX2_soundAt_15 rfl (lv_at hl 2 rfl) ?_
  refine r_isub C dX2_soundAt_16 ?_
  refine r_imul C dX2_soundAt_17 ?_
  refine r_ishr C (by omega) (by omega) rfl dX2_soundAt_18 ?_
  refine r_const C dX2_soundAt_19 ?_
  refine r_iand C (zi_and3 _) dX2_soundAt_20 ?_
  exact r_iret C hS (Nat.le_of_ble_eq_true rfl) (Nat.le_of_ble_eq_true rfl) dX2_soundAt_21 ⟨(sn_r _ _ _ _), (by first | rfl | exact (sel_t (by omega)).symm | exact (sel_f (by omega)).symm | omega), hX⟩

theorem hd_X2_doAgree : yX2_doAgree.cls = RX2 ∧ yX2_doAgree.cls ≠ "java/lang/invoke/MethodHandle" ∧ yX2_doAgree.cls ≠ "java/lang/invoke/VarHandle" ∧ (parseMethodDescriptor yX2_doAgree.desc).map (fun d => d.parameters.length) = some 6 := by decide +kernel
abbrev rm_X2_doAgree : Room := { frames := 1, cells := 0, slots := 0, locals := 23 }
set_option maxHeartbeats 8000000 in
theorem met_X2_doAgree (l : Launch) (E : us_E) (A : Nat → Prop) (ad : Nat → Nat) (F : Nat → Int) (M : Nat → Int → Int) (a : Int) (t : Int) (i : Int) (b : Int) (u : Int) (j : Int) (hab : 0 ≤ a ∧ a < 4 ∧ 0 ≤ b ∧ b < 4) (htu : 0 ≤ t ∧ t < 8 ∧ 0 ≤ u ∧ u < 8) (hij : 0 ≤ i ∧ i + M 28 a ≤ 24 ∧ 0 ≤ j ∧ j + M 28 b ≤ 24) : cMet l yX2_doAgree cX2_doAgree 10 (some .boolean) rm_X2_doAgree A E [.ref (ad 63), .int (zi a), .int (zi t), .int (zi i), .int (zi b), .int (zi u), .int (zi j)] (fun H => MH E A ad F M H) (qi A (fun r H => (r = bI (Agr (pl (M 3) (M 6) t i) (pl (M 3) (M 6) u j) (sn (M 29) (M 28) a) (sn (M 29) (M 28) b) (M 28 a) (M 28 b))) ∧ MH E A ad F M H)) := by
  refine cMet.of (by decide) (Nat.le_of_ble_eq_true rfl) (fun p e s m args below meth c C hnm hX hS ls hl => ?_)
  have C : Cx p s m args meth c A RX2 cX2_doAgree 10 (some .boolean) E := C
  have hX : MH E A ad F M s.heap := hX
  have hl : lv_has ls 10 [(0, .ref (ad 63)), (1, .int (zi a)), (2, .int (zi t)), (3, .int (zi i)), (4, .int (zi b)), (5, .int (zi u)), (6, .int (zi j))] := hl
  generalize hH : s.heap = H at hX
  have hS : va_S A s.heap H [] := by rw [← hH]; exact hS
  generalize hlocs : ([] : List Loc) = locs at hS ⊢
  have q28 : 0 ≤ M 28 a ∧ M 28 a ≤ 8 := hX.2.2 28 (0, 8) rfl _
  have q28b : 0 ≤ M 28 b ∧ M 28 b ≤ 8 := hX.2.2 28 (0, 8) rfl _
  refine r_const C dX2_doAgree_0 ?_
  refine lv_istore (lv' := [(7, .int (zi 1)), (0, .ref (ad 63)), (1, .int (zi a)), (2, .int (zi t)), (3, .int (zi i)), (4, .int (zi b)), (5, .int (zi u)), (6, .int (zi j))]) C.x C.b dX2_doAgree_1 hl (by decide) rfl (fun ls hl => ?_)
  refine r_const C dX2_doAgree_3 ?_
  refine lv_istore (lv' := [(8, .int (zi 0)), (7, .int (zi 1)), (0, .ref (ad 63)), (1, .int (zi a)), (2, .int (zi t)), (3, .int (zi i)), (4, .int (zi b)), (5, .int (zi u)), (6, .int (zi j))]) C.x C.b dX2_doAgree_4 hl (by decide) rfl (fun ls hl => ?_)
  have L6 : ∀ (fu : Nat) (v7 : Prop) (xv7 : Int) (hv7 : xv7 = bI v7) (v8 : Int) (h8 : 0 ≤ v8 ∧ v8 ≤ M 28 a) (hu : v7 ↔ ∀ x : Int, 0 ≤ x → x < v8 → ∀ y : Int, 0 ≤ y → y < M 28 b → (pl (M 3) (M 6) t i x = pl (M 3) (M 6) u j y ↔ sn (M 29) (M 28) a x = sn (M 29) (M 28) b y)) (hm : Int.toNat (M 28 a - v8) < fu) (H : Heap) (locs : List Loc) (ls : Array Slot) (hX : MH E A ad F M H) (hS : va_S A s.heap H locs) (hl : lv_has ls 10 [(0, .ref (ad 63)), (1, .int (zi a)), (2, .int (zi t)), (3, .int (zi i)), (4, .int (zi b)), (5, .int (zi u)), (6, .int (zi j)), (7, .int (zi xv7)), (8, .int (zi v8))]), W p l e rm_X2_doAgree s m args below meth c H locs 0 0 (MQ below (qi A (fun r H => (r = bI (Agr (pl (M 3) (M 6) t i) (pl (M 3) (M 6) u j) (sn (M 29) (M 28) a) (sn (M 29) (M 28) b) (M 28 a) (M 28 b))) ∧ MH E A ad F M H)) args s (rm_X2_doAgree).cells (rm_X2_doAgree).slots A) (F0 m 6 ls []) := by
    intro fu
    induction fu with
    | zero => intro v7 xv7 hv7 v8 h8 hu hm; exact absurd hm (Nat.not_lt_zero _)
    | succ fu ih6 =>
      intro v7 xv7 hv7 v8 h8 hu hm H locs ls hX hS hl
      subst hv7
      refine lv_iload C.x C.b dX2_doAgree_6 (lv_at hl 8 rfl) ?_
      refine lv_aload_n C.x C.b dX2_doAgree_8 rfl (lv_at hl 0 rfl) ?_
      refine mg_28 C hX dX2_doAgree_9 ?_
      refine lv_iload_n C.x C.b dX2_doAgree_12 rfl (lv_at hl 1 rfl) ?_
      refine ml_28 C hX (by omega) (M 28) rfl dX2_doAgree_13 (fun r13 => ?_)
      refine r_icmp_ge (tgt := 110) C (by omega) (by omega) dX2_doAgree_14 (by decide) (fun c_1 => ?_) (fun c_1 => ?_)
      · refine lv_iload C.x C.b dX2_doAgree_110 (lv_at hl 7 rfl) ?_
        exact r_zret C (bI_e _) hS (Nat.le_of_ble_eq_true rfl) (Nat.le_of_ble_eq_true rfl) dX2_doAgree_112 ⟨(bI_c (by rw [hu, show v8 = M 28 a by omega]; exact Iff.rfl)), hX⟩
      · refine r_const C dX2_doAgree_17 ?_
        refine lv_istore (lv' := [(9, .int (zi 0)), (0, .ref (ad 63)), (1, .int (zi a)), (2, .int (zi t)), (3, .int (zi i)), (4, .int (zi b)), (5, .int (zi u)), (6, .int (zi j)), (7, .int (zi (bI v7))), (8, .int (zi v8))]) C.x C.b dX2_doAgree_18 hl (by decide) rfl (fun ls hl => ?_)
        have L20 : ∀ (fu : Nat) (v7 : Prop) (xv7 : Int) (hv7 : xv7 = bI v7) (v9 : Int) (h9 : 0 ≤ v9 ∧ v9 ≤ M 28 b) (hw : v7 ↔ ((∀ x : Int, 0 ≤ x → x < v8 → ∀ y : Int, 0 ≤ y → y < M 28 b → (pl (M 3) (M 6) t i x = pl (M 3) (M 6) u j y ↔ sn (M 29) (M 28) a x = sn (M 29) (M 28) b y)) ∧ ∀ y : Int, 0 ≤ y → y < v9 → (pl (M 3) (M 6) t i v8 = pl (M 3) (M 6) u j y ↔ sn (M 29) (M 28) a v8 = sn (M 29) (M 28) b y))) (hm : Int.toNat (M 28 b - v9) < fu) (H : Heap) (locs : List Loc) (ls : Array Slot) (hX : MH E A ad F M H) (hS : va_S A s.heap H locs) (hl : lv_has ls 10 [(0, .ref (ad 63)), (1, .int (zi a)), (2, .int (zi t)), (3, .int (zi i)), (4, .int (zi b)), (5, .int (zi u)), (6, .int (zi j)), (7, .int (zi xv7)), (8, .int (zi v8)), (9, .int (zi v9))]), W p l e rm_X2_doAgree s m args below meth c H locs 0 0 (MQ below (qi A (fun r H => (r = bI (Agr (pl (M 3) (M 6) t i) (pl (M 3) (M 6) u j) (sn (M 29) (M 28) a) (sn (M 29) (M 28) b) (M 28 a) (M 28 b))) ∧ MH E A ad F M H)) args s (rm_X2_doAgree).cells (rm_X2_doAgree).slots A) (F0 m 20 ls []) := by
          intro fu
          induction fu with
          | zero => intro v7 xv7 hv7 v9 h9 hw hm; exact absurd hm (Nat.not_lt_zero _)
          | succ fu ih20 =>
            intro v7 xv7 hv7 v9 h9 hw hm H locs ls hX hS hl
            subst hv7
            refine lv_iload C.x C.b dX2_doAgree_20 (lv_at hl 9 rfl) ?_
            refine lv_aload_n C.x C.b dX2_doAgree_22 rfl (lv_at hl 0 rfl) ?_
            refine mg_28 C hX dX2_doAgree_23 ?_
            refine lv_iload C.x C.b dX2_doAgree_26 (lv_at hl 4 rfl) ?_
            refine ml_28 C hX (by omega) (M 28) rfl dX2_doAgree_28 (fun r28 => ?_)
            refine r_icmp_ge (tgt := 104) C (by omega) (by omega) dX2_doAgree_29 (by decide) (fun c_2 => ?_) (fun c_2 => ?_)
            · refine r_iinc (lv' := [(8, .int (zi (v8 + 1))), (0, .ref (ad 63)), (1, .int (zi a)), (2, .int (zi t)), (3, .int (zi i)), (4, .int (zi b)), (5, .int (zi u)), (6, .int (zi j)), (7, .int (zi (bI v7))), (9, .int (zi v9))]) C dX2_doAgree_104 hl (k := 8) rfl (by decide) rfl (fun ls hl => ?_)
              refine lv_goto (tgt := 6) C.x C.b dX2_doAgree_107 (by decide) ?_
              exact ih6 v7 (bI v7) rfl (v8 + 1) (by omega) (bl_out (P := fun x => ∀ y : Int, 0 ≤ y → y < M 28 b → (pl (M 3) (M 6) t i x = pl (M 3) (M 6) u j y ↔ sn (M 29) (M 28) a x = sn (M 29) (M 28) b y)) (by omega) hw (by rw [show v9 = M 28 b by omega])) (by omega) H locs ls hX hS (lv_sub hl [1, 2, 3, 4, 5, 6, 7, 8, 0] rfl)
            · refine lv_iload C.x C.b dX2_doAgree_32 (lv_at hl 7 rfl) ?_
              have J96_3 : ∀ (t0 : Int) (ht0 : t0 = bI (v7 ∧ (((sa ((M 3)) ((M 6) (24 * t + (i + v8)))) = (sa ((M 3)) ((M 6) (24 * u + (j + v9))))) ↔ ((sn ((M 29)) ((M 28)) a v8) = (sn ((M 29)) ((M 28)) b v9))))) (H : Heap) (locs : List Loc) (ls : Array Slot) (hX : MH E A ad F M H) (hS : va_S A s.heap H locs) (hl : lv_has ls 10 [(0, .ref (ad 63)), (1, .int (zi a)), (2, .int (zi t)), (3, .int (zi i)), (4, .int (zi b)), (5, .int (zi u)), (6, .int (zi j)), (7, .int (zi (bI v7))), (8, .int (zi v8)), (9, .int (zi v9))]), W p l e rm_X2_doAgree s m args below meth c H locs 0 0 (MQ below (qi A (fun r H => (r = bI (Agr (pl (M 3) (M 6) t i) (pl (M 3) (M 6) u j) (sn (M 29) (M 28) a) (sn (M 29) (M 28) b) (M 28 a) (M 28 b))) ∧ MH E A ad F M H)) args s (rm_X2_doAgree).cells (rm_X2_doAgree).slots A) (F0 m 96 ls [.int (zi t0)]) := by
                intro t0 ht0 H locs ls hX hS hl
                subst ht0
                refine lv_istore (lv' := [(7, .int (zi (bI (v7 ∧ (((sa ((M 3)) ((M 6) (24 * t + (i + v8)))) = (sa ((M 3)) ((M 6) (24 * u + (j + v9))))) ↔ ((sn ((M 29)) ((M 28)) a v8) = (sn ((M 29)) ((M 28)) b v9))))))), (0, .ref (ad 63)), (1, .int (zi a)), (2, .int (zi t)), (3, .int (zi i)), (4, .int (zi b)), (5, .int (zi u)), (6, .int (zi j)), (8, .int (zi v8)), (9, .int (zi v9))]) C.x C.b dX2_doAgree_96 hl (by decide) rfl (fun ls hl => ?_)
                refine r_iinc (lv' := [(9, .int (zi (v9 + 1))), (7, .int (zi (bI (v7 ∧ (((sa ((M 3)) ((M 6) (24 * t + (i + v8)))) = (sa ((M 3)) ((M 6) (24 * u + (j + v9))))) ↔ ((sn ((M 29)) ((M 28)) a v8) = (sn ((M 29)) ((M 28)) b v9))))))), (0, .ref (ad 63)), (1, .int (zi a)), (2, .int (zi t)), (3, .int (zi i)), (4, .int (zi b)), (5, .int (zi u)), (6, .int (zi j)), (8, .int (zi v8))]) C dX2_doAgree_98 hl (k := 9) rfl (by decide) rfl (fun ls hl => ?_)
                refine lv_goto (tgt := 20) C.x C.b dX2_doAgree_101 (by decide) ?_
                exact ih20 (v7 ∧ (((sa ((M 3)) ((M 6) (24 * t + (i + v8)))) = (sa ((M 3)) ((M 6) (24 * u + (j + v9))))) ↔ ((sn ((M 29)) ((M 28)) a v8) = (sn ((M 29)) ((M 28)) b v9)))) (bI (v7 ∧ (((sa ((M 3)) ((M 6) (24 * t + (i + v8)))) = (sa ((M 3)) ((M 6) (24 * u + (j + v9))))) ↔ ((sn ((M 29)) ((M 28)) a v8) = (sn ((M 29)) ((M 28)) b v9))))) rfl (v9 + 1) (by omega) (ba_st (P := fun y => (pl (M 3) (M 6) t i v8 = pl (M 3) (M 6) u j y ↔ sn (M 29) (M 28) a v8 = sn (M 29) (M 28) b y)) (by omega) hw) (by omega) H locs ls hX hS (lv_sub hl [2, 3, 4, 5, 6, 7, 8, 1, 9, 0] rfl)
              refine r_if_eq_b (tgt := 95) C dX2_doAgree_34 (by decide) (fun c_4 => ?_) (fun c_4 => ?_)
              · refine r_const C dX2_doAgree_95 ?_
                exact J96_3 0 ((bI_f (fun q => c_4 q.1)).symm) H locs ls hX hS hl
              · refine lv_aload_n C.x C.b dX2_doAgree_37 rfl (lv_at hl 0 rfl) ?_
                refine lv_iload_n C.x C.b dX2_doAgree_38 rfl (lv_at hl 2 rfl) ?_
                refine lv_iload_n C.x C.b dX2_doAgree_39 rfl (lv_at hl 3 rfl) ?_
                refine lv_iload C.x C.b dX2_doAgree_40 (lv_at hl 8 rfl) ?_
                refine r_iadd C dX2_doAgree_42 ?_
                refine r_callVi (As := [.int (zi t), .int (zi (i + v8))]) (rest := []) (cells' := 0) (slots' := 0) C (met_X2_at l E A ad F M t (i + v8) (show 0 ≤ t ∧ t < 8 from (by omega)) (show 0 ≤ (i + v8) ∧ (i + v8) < 24 from (by omega))) (lw_V q1259 q1261 qs47 q88 q1262) hd_X2_at rfl (by decide) (m_recv C hX) hX hS hl.1 rfl (Nat.le_of_ble_eq_true rfl) dX2_doAgree_43 rfl rfl ⟨Nat.le_of_ble_eq_true rfl, Nat.le_of_ble_eq_true rfl⟩ (fun rr H locs hp hS => ?_)
                obtain ⟨hat, hrr, hX⟩ := hp
                have hrr : rr = sa ((M 3)) ((M 6) (24 * t + (i + v8))) := hrr
                subst hrr
                have hat : -2 ≤ sa ((M 3)) ((M 6) (24 * t + (i + v8))) ∧ sa ((M 3)) ((M 6) (24 * t + (i + v8))) ≤ 23 := hat
                refine lv_aload_n C.x C.b dX2_doAgree_46 rfl (lv_at hl 0 rfl) ?_
                refine lv_iload C.x C.b dX2_doAgree_47 (lv_at hl 5 rfl) ?_
                refine lv_iload C.x C.b dX2_doAgree_49 (lv_at hl 6 rfl) ?_
                refine lv_iload C.x C.b dX2_doAgree_51 (lv_at hl 9 rfl) ?_
                refine r_iadd C dX2_doAgree_53 ?_
                refine r_callVi (As := [.int (zi u), .int (zi (j + v9))]) (rest := [.int (zi (sa ((M 3)) ((M 6) (24 * t + (i + v8)))))]) (cells' := 0) (slots' := 0) C (met_X2_at l E A ad F M u (j + v9) (show 0 ≤ u ∧ u < 8 from (by omega)) (show 0 ≤ (j + v9) ∧ (j + v9) < 24 from (by omega))) (lw_V q1259 q1261 qs47 q88 q1262) hd_X2_at rfl (by decide) (m_recv C hX) hX hS hl.1 rfl (Nat.le_of_ble_eq_true rfl) dX2_doAgree_54 rfl rfl ⟨Nat.le_of_ble_eq_true rfl, Nat.le_of_ble_eq_true rfl⟩ (fun rr H locs hp hS => ?_)
                obtain ⟨hat, hrr, hX⟩ := hp
                have hrr : rr = sa ((M 3)) ((M 6) (24 * u + (j + v9))) := hrr
                subst hrr
                have hat : -2 ≤ sa ((M 3)) ((M 6) (24 * u + (j + v9))) ∧ sa ((M 3)) ((M 6) (24 * u + (j + v9))) ≤ 23 := hat
                have J65_5 : ∀ (t0 : Int) (ht0 : t0 = bI ((sa ((M 3)) ((M 6) (24 * t + (i + v8)))) = (sa ((M 3)) ((M 6) (24 * u + (j + v9)))))) (H : Heap) (locs : List Loc) (ls : Array Slot) (hX : MH E A ad F M H) (hS : va_S A s.heap H locs) (hl : lv_has ls 10 [(0, .ref (ad 63)), (1, .int (zi a)), (2, .int (zi t)), (3, .int (zi i)), (4, .int (zi b)), (5, .int (zi u)), (6, .int (zi j)), (7, .int (zi (bI v7))), (8, .int (zi v8)), (9, .int (zi v9))]), W p l e rm_X2_doAgree s m args below meth c H locs 0 0 (MQ below (qi A (fun r H => (r = bI (Agr (pl (M 3) (M 6) t i) (pl (M 3) (M 6) u j) (sn (M 29) (M 28) a) (sn (M 29) (M 28) b) (M 28 a) (M 28 b))) ∧ MH E A ad F M H)) args s (rm_X2_doAgree).cells (rm_X2_doAgree).slots A) (F0 m 65 ls [.int (zi t0)]) := by
                  intro t0 ht0 H locs ls hX hS hl
                  subst ht0
                  refine lv_aload_n C.x C.b dX2_doAgree_65 rfl (lv_at hl 0 rfl) ?_
                  refine lv_iload_n C.x C.b dX2_doAgree_66 rfl (lv_at hl 1 rfl) ?_
                  refine lv_iload C.x C.b dX2_doAgree_67 (lv_at hl 8 rfl) ?_
                  refine r_callVi (As := [.int (zi a), .int (zi v8)]) (rest := [.int (zi (bI ((sa ((M 3)) ((M 6) (24 * t + (i + v8)))) = (sa ((M 3)) ((M 6) (24 * u + (j + v9)))))))]) (cells' := 0) (slots' := 0) C (met_X2_soundAt l E A ad F M a v8 (show 0 ≤ a ∧ a < 4 from (by omega)) (show 0 ≤ v8 ∧ v8 < (M 28) a from (by omega))) (lw_V q1396 q1398 qs66 q88 q1399) hd_X2_soundAt rfl (by decide) (m_recv C hX) hX hS hl.1 rfl (Nat.le_of_ble_eq_true rfl) dX2_doAgree_69 rfl rfl ⟨Nat.le_of_ble_eq_true rfl, Nat.le_of_ble_eq_true rfl⟩ (fun rr H locs hp hS => ?_)
                  obtain ⟨hsn, hrr, hX⟩ := hp
                  have hrr : rr = sn ((M 29)) ((M 28)) a v8 := hrr
                  subst hrr
                  have hsn : 0 ≤ sn ((M 29)) ((M 28)) a v8 ∧ sn ((M 29)) ((M 28)) a v8 ≤ 3 := hsn
                  refine lv_aload_n C.x C.b dX2_doAgree_72 rfl (lv_at hl 0 rfl) ?_
                  refine lv_iload C.x C.b dX2_doAgree_73 (lv_at hl 4 rfl) ?_
                  refine lv_iload C.x C.b dX2_doAgree_75 (lv_at hl 9 rfl) ?_
                  refine r_callVi (As := [.int (zi b), .int (zi v9)]) (rest := [.int (zi (sn ((M 29)) ((M 28)) a v8)), .int (zi (bI ((sa ((M 3)) ((M 6) (24 * t + (i + v8)))) = (sa ((M 3)) ((M 6) (24 * u + (j + v9)))))))]) (cells' := 0) (slots' := 0) C (met_X2_soundAt l E A ad F M b v9 (show 0 ≤ b ∧ b < 4 from (by omega)) (show 0 ≤ v9 ∧ v9 < (M 28) b from (by omega))) (lw_V q1396 q1398 qs66 q88 q1399) hd_X2_soundAt rfl (by decide) (m_recv C hX) hX hS hl.1 rfl (Nat.le_of_ble_eq_true rfl) dX2_doAgree_77 rfl rfl ⟨Nat.le_of_ble_eq_true rfl, Nat.le_of_ble_eq_true rfl⟩ (fun rr H locs hp hS => ?_)
                  obtain ⟨hsn, hrr, hX⟩ := hp
                  have hrr : rr = sn ((M 29)) ((M 28)) b v9 := hrr
                  subst hrr
                  have hsn : 0 ≤ sn ((M 29)) ((M 28)) b v9 ∧ sn ((M 29)) ((M 28)) b v9 ≤ 3 := hsn
                  have J88_6 : ∀ (t1 : Int) (ht1 : t1 = bI ((sn ((M 29)) ((M 28)) a v8) = (sn ((M 29)) ((M 28)) b v9))) (H : Heap) (locs : List Loc) (ls : Array Slot) (hX : MH E A ad F M H) (hS : va_S A s.heap H locs) (hl : lv_has ls 10 [(0, .ref (ad 63)), (1, .int (zi a)), (2, .int (zi t)), (3, .int (zi i)), (4, .int (zi b)), (5, .int (zi u)), (6, .int (zi j)), (7, .int (zi (bI v7))), (8, .int (zi v8)), (9, .int (zi v9))]), W p l e rm_X2_doAgree s m args below meth c H locs 0 0 (MQ below (qi A (fun r H => (r = bI (Agr (pl (M 3) (M 6) t i) (pl (M 3) (M 6) u j) (sn (M 29) (M 28) a) (sn (M 29) (M 28) b) (M 28 a) (M 28 b))) ∧ MH E A ad F M H)) args s (rm_X2_doAgree).cells (rm_X2_doAgree).slots A) (F0 m 88 ls [.int (zi t1), .int (zi (bI ((sa ((M 3)) ((M 6) (24 * t + (i + v8)))) = (sa ((M 3)) ((M 6) (24 * u + (j + v9)))))))]) := by
                    intro t1 ht1 H locs ls hX hS hl
                    subst ht1
                    refine r_icmp_ne_b (tgt := 95) C dX2_doAgree_88 (by decide) (fun c_7 => ?_) (fun c_7 => ?_)
                    · refine r_const C dX2_doAgree_95 ?_
                      exact J96_3 0 ((bI_f (fun q => c_7 q.2)).symm) H locs ls hX hS hl
                    · refine r_const C dX2_doAgree_91 ?_
                      refine lv_goto (tgt := 96) C.x C.b dX2_doAgree_92 (by decide) ?_
                      exact J96_3 1 ((bI_t ⟨c_4, c_7⟩).symm) H locs ls hX hS hl
                  refine r_icmp_ne (tgt := 87) C (by omega) (by omega) dX2_doAgree_80 (by decide) (fun c_8 => ?_) (fun c_8 => ?_)
                  · refine r_const C dX2_doAgree_87 ?_
                    exact J88_6 0 ((bI_f c_8).symm) H locs ls hX hS hl
                  · refine r_const C dX2_doAgree_83 ?_
                    refine lv_goto (tgt := 88) C.x C.b dX2_doAgree_84 (by decide) ?_
                    exact J88_6 1 ((bI_t c_8).symm) H locs ls hX hS hl
                refine r_icmp_ne (tgt := 64) C (by omega) (by omega) dX2_doAgree_57 (by decide) (fun c_9 => ?_) (fun c_9 => ?_)
                · refine r_const C dX2_doAgree_64 ?_
                  exact J65_5 0 ((bI_f c_9).symm) H locs ls hX hS hl
                · refine r_const C dX2_doAgree_60 ?_
                  refine lv_goto (tgt := 65) C.x C.b dX2_doAgree_61 (by decide) ?_
                  exact J65_5 1 ((bI_t c_9).symm) H locs ls hX hS hl
        exact L20 _ v7 (bI v7) rfl 0 (by omega) (hu.trans ba_0) (Nat.lt_succ_self _) H locs ls hX hS (lv_sub hl [1, 2, 3, 4, 5, 6, 7, 8, 9, 0] rfl)
  exact L6 _ True 1 bI_T.symm 0 (by omega) bl_0 (Nat.lt_succ_self _) H locs ls hX hS (lv_sub hl [2, 3, 4, 5, 6, 7, 8, 1, 0] rfl)

theorem hd_X2_doesFit : yX2_doesFit.cls = RX2 ∧ yX2_doesFit.cls ≠ "java/lang/invoke/MethodHandle" ∧ yX2_doesFit.cls ≠ "java/lang/invoke/VarHandle" ∧ (parseMethodDescriptor yX2_doesFit.desc).map (fun d => d.parameters.length) = some 3 := by decide +kernel
abbrev rm_X2_doesFit : Room := { frames := 2, cells := 0, slots := 0, locals := 52 }
set_option maxHeartbeats 8000000 in
theorem met_X2_doesFit (l : Launch) (E : us_E) (A : Nat → Prop) (ad : Nat → Nat) (F : Nat → Int) (M : Nat → Int → Int) (a : Int) (t : Int) (i : Int) (ha : 0 ≤ a ∧ a < 4) (ht : 0 ≤ t ∧ t < 8) (hi : 0 ≤ i ∧ i < 24) : cMet l yX2_doesFit cX2_doesFit 5 (some .boolean) rm_X2_doesFit A E [.ref (ad 63), .int (zi a), .int (zi t), .int (zi i)] (fun H => MH E A ad F M H) (qi A (fun r H => (r = bI (Fits (pl (M 3) (M 6) t i) (sn (M 29) (M 28) a) (M 28 a) (M 5 t - i))) ∧ MH E A ad F M H)) := by
  refine cMet.of (by decide) (Nat.le_of_ble_eq_true rfl) (fun p e s m args below meth c C hnm hX hS ls hl => ?_)
  have C : Cx p s m args meth c A RX2 cX2_doesFit 5 (some .boolean) E := C
  have hX : MH E A ad F M s.heap := hX
  have hl : lv_has ls 5 [(0, .ref (ad 63)), (1, .int (zi a)), (2, .int (zi t)), (3, .int (zi i))] := hl
  generalize hH : s.heap = H at hX
  have hS : va_S A s.heap H [] := by rw [← hH]; exact hS
  generalize hlocs : ([] : List Loc) = locs at hS ⊢
  have q28 : 0 ≤ M 28 a ∧ M 28 a ≤ 8 := hX.2.2 28 (0, 8) rfl _
  have q5 : 0 ≤ M 5 t ∧ M 5 t ≤ 24 := hX.2.2 5 (0, 24) rfl _
  refine lv_iload_n C.x C.b dX2_doesFit_0 rfl (lv_at hl 3 rfl) ?_
  refine lv_aload_n C.x C.b dX2_doesFit_1 rfl (lv_at hl 0 rfl) ?_
  refine mg_28 C hX dX2_doesFit_2 ?_
  refine lv_iload_n C.x C.b dX2_doesFit_5 rfl (lv_at hl 1 rfl) ?_
  refine ml_28 C hX (by omega) (M 28) rfl dX2_doesFit_6 (fun r6 => ?_)
  refine r_iadd C dX2_doesFit_7 ?_
  refine lv_aload_n C.x C.b dX2_doesFit_8 rfl (lv_at hl 0 rfl) ?_
  refine mg_5 C hX dX2_doesFit_9 ?_
  refine lv_iload_n C.x C.b dX2_doesFit_12 rfl (lv_at hl 2 rfl) ?_
  refine ml_5 C hX (by omega) (M 5) rfl dX2_doesFit_13 (fun r13 => ?_)
  refine r_icmp_le (tgt := 19) C (by omega) (by omega) dX2_doesFit_14 (by decide) (fun c_1 => ?_) (fun c_1 => ?_)
  · refine r_const C dX2_doesFit_19 ?_
    refine lv_istore (lv' := [(4, .int (zi 0)), (0, .ref (ad 63)), (1, .int (zi a)), (2, .int (zi t)), (3, .int (zi i))]) C.x C.b dX2_doesFit_20 hl (by decide) rfl (fun ls hl => ?_)
    have L22 : ∀ (fu : Nat) (v4 : Int) (h4 : 0 ≤ v4 ∧ v4 ≤ M 28 a) (hw : ∀ x : Int, 0 ≤ x → x < v4 → ¬ pl (M 3) (M 6) t i x < 0) (hm : Int.toNat (M 28 a - v4) < fu) (H : Heap) (locs : List Loc) (ls : Array Slot) (hX : MH E A ad F M H) (hS : va_S A s.heap H locs) (hl : lv_has ls 5 [(0, .ref (ad 63)), (1, .int (zi a)), (2, .int (zi t)), (3, .int (zi i)), (4, .int (zi v4))]), W p l e rm_X2_doesFit s m args below meth c H locs 0 0 (MQ below (qi A (fun r H => (r = bI (Fits (pl (M 3) (M 6) t i) (sn (M 29) (M 28) a) (M 28 a) (M 5 t - i))) ∧ MH E A ad F M H)) args s (rm_X2_doesFit).cells (rm_X2_doesFit).slots A) (F0 m 22 ls []) := by
      intro fu
      induction fu with
      | zero => intro v4 h4 hw hm; exact absurd hm (Nat.not_lt_zero _)
      | succ fu ih22 =>
        intro v4 h4 hw hm H locs ls hX hS hl
        refine lv_iload C.x C.b dX2_doesFit_22 (lv_at hl 4 rfl) ?_
        refine lv_aload_n C.x C.b dX2_doesFit_24 rfl (lv_at hl 0 rfl) ?_
        refine mg_28 C hX dX2_doesFit_25 ?_
        refine lv_iload_n C.x C.b dX2_doesFit_28 rfl (lv_at hl 1 rfl) ?_
        refine ml_28 C hX (by omega) (M 28) rfl dX2_doesFit_29 (fun _ => ?_)
        refine r_icmp_ge (tgt := 53) C (by omega) (by omega) dX2_doesFit_30 (by decide) (fun c_2 => ?_) (fun c_2 => ?_)
        · refine lv_aload_n C.x C.b dX2_doesFit_53 rfl (lv_at hl 0 rfl) ?_
          refine lv_iload_n C.x C.b dX2_doesFit_54 rfl (lv_at hl 1 rfl) ?_
          refine lv_iload_n C.x C.b dX2_doesFit_55 rfl (lv_at hl 2 rfl) ?_
          refine lv_iload_n C.x C.b dX2_doesFit_56 rfl (lv_at hl 3 rfl) ?_
          refine lv_iload_n C.x C.b dX2_doesFit_57 rfl (lv_at hl 1 rfl) ?_
          refine lv_iload_n C.x C.b dX2_doesFit_58 rfl (lv_at hl 2 rfl) ?_
          refine lv_iload_n C.x C.b dX2_doesFit_59 rfl (lv_at hl 3 rfl) ?_
          refine r_callVi (As := [.int (zi a), .int (zi t), .int (zi i), .int (zi a), .int (zi t), .int (zi i)]) (rest := []) (cells' := 0) (slots' := 0) C (met_X2_doAgree l E A ad F M a t i a t i (show 0 ≤ a ∧ a < 4 ∧ 0 ≤ a ∧ a < 4 from (by omega)) (show 0 ≤ t ∧ t < 8 ∧ 0 ≤ t ∧ t < 8 from (by omega)) (show 0 ≤ i ∧ i + (M 28) a ≤ 24 ∧ 0 ≤ i ∧ i + (M 28) a ≤ 24 from (by omega))) (lw_V q1392 q1394 qs65 q88 q1395) hd_X2_doAgree rfl (by decide) (m_recv C hX) hX hS hl.1 rfl (Nat.le_of_ble_eq_true rfl) dX2_doesFit_60 rfl rfl ⟨Nat.le_of_ble_eq_true rfl, Nat.le_of_ble_eq_true rfl⟩ (fun rr H locs hp hS => ?_)
          obtain ⟨hrr, hX⟩ := hp
          have hrr : rr = bI (Agr (pl ((M 3)) ((M 6)) t i) (pl ((M 3)) ((M 6)) t i) (sn ((M 29)) ((M 28)) a) (sn ((M 29)) ((M 28)) a) ((M 28) a) ((M 28) a)) := hrr
          subst hrr
          exact r_zret C (bI_e _) hS (Nat.le_of_ble_eq_true rfl) (Nat.le_of_ble_eq_true rfl) dX2_doesFit_63 ⟨(bI_c ⟨fun q => ⟨by omega, fun x a b => hw x a (by omega), q⟩, fun q => q.2.2⟩), hX⟩
        · refine lv_aload_n C.x C.b dX2_doesFit_33 rfl (lv_at hl 0 rfl) ?_
          refine lv_iload_n C.x C.b dX2_doesFit_34 rfl (lv_at hl 2 rfl) ?_
          refine lv_iload_n C.x C.b dX2_doesFit_35 rfl (lv_at hl 3 rfl) ?_
          refine lv_iload C.x C.b dX2_doesFit_36 (lv_at hl 4 rfl) ?_
          refine r_iadd C dX2_doesFit_38 ?_
          refine r_callVi (As := [.int (zi t), .int (zi (i + v4))]) (rest := []) (cells' := 0) (slots' := 0) C (met_X2_at l E A ad F M t (i + v4) (show 0 ≤ t ∧ t < 8 from (by omega)) (show 0 ≤ (i + v4) ∧ (i + v4) < 24 from (by omega))) (lw_V q1259 q1261 qs47 q88 q1262) hd_X2_at rfl (by decide) (m_recv C hX) hX hS hl.1 rfl (Nat.le_of_ble_eq_true rfl) dX2_doesFit_39 rfl rfl ⟨Nat.le_of_ble_eq_true rfl, Nat.le_of_ble_eq_true rfl⟩ (fun rr H locs hp hS => ?_)
          obtain ⟨hat, hrr, hX⟩ := hp
          have hrr : rr = sa ((M 3)) ((M 6) (24 * t + (i + v4))) := hrr
          subst hrr
          have hat : -2 ≤ sa ((M 3)) ((M 6) (24 * t + (i + v4))) ∧ sa ((M 3)) ((M 6) (24 * t + (i + v4))) ≤ 23 := hat
          refine r_if_ge (tgt := 47) C (by omega) dX2_doesFit_42 (by decide) (fun c_3 => ?_) (fun c_3 => ?_)
          · refine r_iinc (lv' := [(4, .int (zi (v4 + 1))), (0, .ref (ad 63)), (1, .int (zi a)), (2, .int (zi t)), (3, .int (zi i))]) C dX2_doesFit_47 hl (k := 4) rfl (by decide) rfl (fun ls hl => ?_)
            refine lv_goto (tgt := 22) C.x C.b dX2_doesFit_50 (by decide) ?_
            exact ih22 (v4 + 1) (by omega) ((bl_s (P := fun x => ¬ pl (M 3) (M 6) t i x < 0) h4.1).2 ⟨hw, by assumption⟩) (by omega) H locs ls hX hS (lv_sub hl [1, 2, 3, 4, 0] rfl)
          · refine r_const C dX2_doesFit_45 ?_
            exact r_zret C (by omega) hS (Nat.le_of_ble_eq_true rfl) (Nat.le_of_ble_eq_true rfl) dX2_doesFit_46 ⟨(bI_f (fun q => absurd (q.2.1 v4 (by omega) (by omega)) (fun z => z (by assumption)))).symm, hX⟩
    exact L22 _ 0 (by omega) (fun x a b => absurd a (by omega)) (Nat.lt_succ_self _) H locs ls hX hS (lv_sub hl [1, 2, 3, 4, 0] rfl)
  · refine r_const C dX2_doesFit_17 ?_
    exact r_zret C (by omega) hS (Nat.le_of_ble_eq_true rfl) (Nat.le_of_ble_eq_true rfl) dX2_doesFit_18 ⟨(bI_f (fun q => by have := q.1; omega)).symm, hX⟩

theorem hd_X2_dragged : yX2_dragged.cls = RX2 ∧ yX2_dragged.cls ≠ "java/lang/invoke/MethodHandle" ∧ yX2_dragged.cls ≠ "java/lang/invoke/VarHandle" ∧ (parseMethodDescriptor yX2_dragged.desc).map (fun d => d.parameters.length) = some 3 := by decide +kernel
abbrev rm_X2_dragged : Room := { frames := 3, cells := 0, slots := 0, locals := 76 }
set_option maxHeartbeats 8000000 in
theorem met_X2_dragged (l : Launch) (E : us_E) (A : Nat → Prop) (ad : Nat → Nat) (F : Nat → Int) (M : Nat → Int → Int) (a : Int) (t : Int) (w : Int) (ha : -2147483648 ≤ a ∧ a < 2147483648) (ht : -2147483648 ≤ t ∧ t < 2147483648) (hw : -2147483648 ≤ w ∧ w < 2147483648) : cMet l yX2_dragged cX2_dragged 8 (some .int) rm_X2_dragged A E [.ref (ad 63), .int (zi a), .int (zi t), .int (zi w)] (fun H => MH E A ad F M H) (qi A (fun r H => ∃ m3 : Int → Int, (((0 ≤ a ∧ a < F 27) ∧ (0 ≤ t ∧ t < F 4) ∧ (0 ≤ w ∧ w ≤ 2)) → SgOK (F 0) (M 1) (F 2) m3) ∧ (r = sel ((0 ≤ a ∧ a < F 27) ∧ (0 ≤ t ∧ t < F 4) ∧ (0 ≤ w ∧ w ≤ 2)) (pick3 w (cntF (fun i => Fits (pl m3 (M 6) t i) (sn (M 29) (M 28) a) (M 28 a) (M 5 t - i)) (M 5 t)) (fstF (fun i => Fits (pl m3 (M 6) t i) (sn (M 29) (M 28) a) (M 28 a) (M 5 t - i)) (M 5 t)) (lstF (fun i => Fits (pl m3 (M 6) t i) (sn (M 29) (M 28) a) (M 28 a) (M 5 t - i)) (M 5 t))) (-1)) ∧ MH E A ad F (va_up M 3 m3) H)) := by
  refine cMet.of (by decide) (Nat.le_of_ble_eq_true rfl) (fun p e s m args below meth c C hnm hX hS ls hl => ?_)
  have C : Cx p s m args meth c A RX2 cX2_dragged 8 (some .int) E := C
  have hX : MH E A ad F M s.heap := hX
  have hl : lv_has ls 8 [(0, .ref (ad 63)), (1, .int (zi a)), (2, .int (zi t)), (3, .int (zi w))] := hl
  generalize hH : s.heap = H at hX
  have hS : va_S A s.heap H [] := by rw [← hH]; exact hS
  generalize hlocs : ([] : List Loc) = locs at hS ⊢
  have rF0 : 0 ≤ F 0 ∧ F 0 ≤ 24 := hX.2.1 0 (0, 24) rfl
  have rF2 : 0 ≤ F 2 ∧ F 2 ≤ 12 := hX.2.1 2 (0, 12) rfl
  have rF4 : 0 ≤ F 4 ∧ F 4 ≤ 8 := hX.2.1 4 (0, 8) rfl
  have rF27 : 0 ≤ F 27 ∧ F 27 ≤ 4 := hX.2.1 27 (0, 4) rfl
  refine lv_aload_n C.x C.b dX2_dragged_0 rfl (lv_at hl 0 rfl) ?_
  refine lv_iload_n C.x C.b dX2_dragged_1 rfl (lv_at hl 1 rfl) ?_
  refine r_callVi (As := [.int (zi a)]) (rest := []) (cells' := 0) (slots' := 0) C (met_X2_isName l E A ad F M a (show -2147483648 ≤ a ∧ a < 2147483648 from (by omega))) (lw_V q1384 q1386 qs63 q88 q1387) hd_X2_isName rfl (by decide) (m_recv C hX) hX hS hl.1 rfl (Nat.le_of_ble_eq_true rfl) dX2_dragged_2 rfl rfl ⟨Nat.le_of_ble_eq_true rfl, Nat.le_of_ble_eq_true rfl⟩ (fun rr H locs hp hS => ?_)
  obtain ⟨hrr, hX⟩ := hp
  have hrr : rr = bI (0 ≤ a ∧ a < (F 27)) := hrr
  subst hrr
  refine r_if_eq_b (tgt := 28) C dX2_dragged_5 (by decide) (fun c_1 => ?_) (fun c_1 => ?_)
  · refine r_const C dX2_dragged_28 ?_
    exact r_iret C hS (Nat.le_of_ble_eq_true rfl) (Nat.le_of_ble_eq_true rfl) dX2_dragged_29 ⟨(M 3), (fun q => by first | exact absurd q.1 (by assumption) | exact absurd q.2.1 (by assumption) | exact absurd q.2.2 (by assumption)), (by first | exact Eq.symm (sel_f (fun q => absurd q.1 (by assumption))) | exact Eq.symm (sel_f (fun q => absurd q.2.1 (by assumption))) | exact Eq.symm (sel_f (fun q => absurd q.2.2 (by assumption)))), (hX.to rfl ((up_id M (k := 3) (a := (M 3)) rfl).symm.trans rfl))⟩
  · refine lv_aload_n C.x C.b dX2_dragged_8 rfl (lv_at hl 0 rfl) ?_
    refine lv_iload_n C.x C.b dX2_dragged_9 rfl (lv_at hl 2 rfl) ?_
    refine r_callVi (As := [.int (zi t)]) (rest := []) (cells' := 0) (slots' := 0) C (met_X2_isText l E A ad F M t (show -2147483648 ≤ t ∧ t < 2147483648 from (by omega))) (lw_V q1249 q1251 qs45 q88 q1252) hd_X2_isText rfl (by decide) (m_recv C hX) hX hS hl.1 rfl (Nat.le_of_ble_eq_true rfl) dX2_dragged_10 rfl rfl ⟨Nat.le_of_ble_eq_true rfl, Nat.le_of_ble_eq_true rfl⟩ (fun rr H locs hp hS => ?_)
    obtain ⟨hrr, hX⟩ := hp
    have hrr : rr = bI (0 ≤ t ∧ t < (F 4)) := hrr
    subst hrr
    refine r_if_eq_b (tgt := 28) C dX2_dragged_13 (by decide) (fun c_2 => ?_) (fun c_2 => ?_)
    · refine r_const C dX2_dragged_28 ?_
      exact r_iret C hS (Nat.le_of_ble_eq_true rfl) (Nat.le_of_ble_eq_true rfl) dX2_dragged_29 ⟨(M 3), (fun q => by first | exact absurd q.1 (by assumption) | exact absurd q.2.1 (by assumption) | exact absurd q.2.2 (by assumption)), (by first | exact Eq.symm (sel_f (fun q => absurd q.1 (by assumption))) | exact Eq.symm (sel_f (fun q => absurd q.2.1 (by assumption))) | exact Eq.symm (sel_f (fun q => absurd q.2.2 (by assumption)))), (hX.to rfl ((up_id M (k := 3) (a := (M 3)) rfl).symm.trans rfl))⟩
    · refine lv_iload_n C.x C.b dX2_dragged_16 rfl (lv_at hl 3 rfl) ?_
      refine r_i2l C (by omega) dX2_dragged_17 ?_
      refine r_lconst C 0 rfl dX2_dragged_18 ?_
      refine r_ldc2 C 2 (by decide) q1292 dX2_dragged_19 ?_
      refine r_callSi (As := [.long (zl w), .long (zl 0), .long (zl 2)]) (rest := []) (cells' := 0) (slots' := 0) C (met_X2_in l E A ad H w 0 2 (show -9223372036854775808 ≤ w ∧ w < 9223372036854775808 from (by omega)) (show -9223372036854775808 ≤ 0 ∧ 0 < 9223372036854775808 from (by omega)) (show -9223372036854775808 ≤ 2 ∧ 2 < 9223372036854775808 from (by omega))) (lw_S q1209 q1210 q88 q1211) hd_X2_in rfl (by decide) rfl hS hl.1 rfl (Nat.le_of_ble_eq_true rfl) dX2_dragged_22 rfl rfl ⟨Nat.le_of_ble_eq_true rfl, Nat.le_of_ble_eq_true rfl⟩ (fun rr H locs hp hS => ?_)
      obtain ⟨hrr, hH⟩ := hp
      have hrr : rr = bI (0 ≤ w ∧ w ≤ 2) := hrr
      subst hrr
      have hX : MH E A ad F M H := by rw [hH]; exact hX
      refine r_if_ne_b (tgt := 30) C dX2_dragged_25 (by decide) (fun c_3 => ?_) (fun c_3 => ?_)
      · refine lv_aload_n C.x C.b dX2_dragged_30 rfl (lv_at hl 0 rfl) ?_
        refine lv_aload_n C.x C.b dX2_dragged_31 rfl (lv_at hl 0 rfl) ?_
        refine mg_2 C hX (F 2) rfl dX2_dragged_32 (fun _ => ?_)
        refine r_callVv (As := [.int (zi (F 2))]) (rest := []) (cells' := 0) (slots' := 0) C (met_X2_findSigns l E A ad F M (F 2) (show 0 ≤ (F 2) ∧ (F 2) ≤ 24 from (by omega))) (lw_V q1221 q1223 qs42 q88 q1224) hd_X2_findSigns rfl (by decide) (m_recv C hX) hX hS hl.1 rfl (Nat.le_of_ble_eq_true rfl) dX2_dragged_35 rfl rfl ⟨Nat.le_of_ble_eq_true rfl, Nat.le_of_ble_eq_true rfl⟩ (fun H locs hp hS => ?_)
        obtain ⟨sg, hsg, hX⟩ := hp
        have hsg : SgOK ((F 0)) ((M 1)) (F 2) sg := hsg
        have hX : MH E A ad F (va_up M 3 sg) H := hX.to rfl rfl
        refine r_const C dX2_dragged_38 ?_
        refine lv_istore (lv' := [(4, .int (zi 0)), (0, .ref (ad 63)), (1, .int (zi a)), (2, .int (zi t)), (3, .int (zi w))]) C.x C.b dX2_dragged_39 hl (by decide) rfl (fun ls hl => ?_)
        refine r_bipush C (by decide) dX2_dragged_41 ?_
        refine lv_istore (lv' := [(5, .int (zi (-4))), (4, .int (zi 0)), (0, .ref (ad 63)), (1, .int (zi a)), (2, .int (zi t)), (3, .int (zi w))]) C.x C.b dX2_dragged_43 hl (by decide) rfl (fun ls hl => ?_)
        refine r_bipush C (by decide) dX2_dragged_45 ?_
        refine lv_istore (lv' := [(6, .int (zi (-4))), (5, .int (zi (-4))), (4, .int (zi 0)), (0, .ref (ad 63)), (1, .int (zi a)), (2, .int (zi t)), (3, .int (zi w))]) C.x C.b dX2_dragged_47 hl (by decide) rfl (fun ls hl => ?_)
        refine r_const C dX2_dragged_49 ?_
        refine lv_istore (lv' := [(7, .int (zi 0)), (6, .int (zi (-4))), (5, .int (zi (-4))), (4, .int (zi 0)), (0, .ref (ad 63)), (1, .int (zi a)), (2, .int (zi t)), (3, .int (zi w))]) C.x C.b dX2_dragged_50 hl (by decide) rfl (fun ls hl => ?_)
        have L52 : ∀ (fu : Nat) (v4 : Int) (v5 : Int) (v6 : Int) (v7 : Int) (h7 : 0 ≤ v7 ∧ v7 ≤ M 5 t) (h4 : v4 = cntF (fun i => Fits (pl sg (M 6) t i) (sn (M 29) (M 28) a) (M 28 a) (M 5 t - i)) v7) (h5 : v5 = fstF (fun i => Fits (pl sg (M 6) t i) (sn (M 29) (M 28) a) (M 28 a) (M 5 t - i)) v7) (h6 : v6 = lstF (fun i => Fits (pl sg (M 6) t i) (sn (M 29) (M 28) a) (M 28 a) (M 5 t - i)) v7) (hm : Int.toNat (M 5 t - v7) < fu) (H : Heap) (locs : List Loc) (ls : Array Slot) (hX : MH E A ad F (va_up M 3 sg) H) (hS : va_S A s.heap H locs) (hl : lv_has ls 8 [(0, .ref (ad 63)), (1, .int (zi a)), (2, .int (zi t)), (3, .int (zi w)), (4, .int (zi v4)), (5, .int (zi v5)), (6, .int (zi v6)), (7, .int (zi v7))]), W p l e rm_X2_dragged s m args below meth c H locs 0 0 (MQ below (qi A (fun r H => ∃ m3 : Int → Int, (((0 ≤ a ∧ a < F 27) ∧ (0 ≤ t ∧ t < F 4) ∧ (0 ≤ w ∧ w ≤ 2)) → SgOK (F 0) (M 1) (F 2) m3) ∧ (r = sel ((0 ≤ a ∧ a < F 27) ∧ (0 ≤ t ∧ t < F 4) ∧ (0 ≤ w ∧ w ≤ 2)) (pick3 w (cntF (fun i => Fits (pl m3 (M 6) t i) (sn (M 29) (M 28) a) (M 28 a) (M 5 t - i)) (M 5 t)) (fstF (fun i => Fits (pl m3 (M 6) t i) (sn (M 29) (M 28) a) (M 28 a) (M 5 t - i)) (M 5 t)) (lstF (fun i => Fits (pl m3 (M 6) t i) (sn (M 29) (M 28) a) (M 28 a) (M 5 t - i)) (M 5 t))) (-1)) ∧ MH E A ad F (va_up M 3 m3) H)) args s (rm_X2_dragged).cells (rm_X2_dragged).slots A) (F0 m 52 ls []) := by
          intro fu
          induction fu with
          | zero => intro v4 v5 v6 v7 h7 h4 h5 h6 hm; exact absurd hm (Nat.not_lt_zero _)
          | succ fu ih52 =>
            intro v4 v5 v6 v7 h7 h4 h5 h6 hm H locs ls hX hS hl
            refine lv_iload C.x C.b dX2_dragged_52 (lv_at hl 7 rfl) ?_
            refine lv_aload_n C.x C.b dX2_dragged_54 rfl (lv_at hl 0 rfl) ?_
            refine mg_5 C hX dX2_dragged_55 ?_
            refine lv_iload_n C.x C.b dX2_dragged_58 rfl (lv_at hl 2 rfl) ?_
            refine ml_5 C hX (by omega) (M 5) rfl dX2_dragged_59 (fun r59 => ?_)
            refine r_icmp_ge (tgt := 103) C (by omega) (by omega) dX2_dragged_60 (by decide) (fun c_4 => ?_) (fun c_4 => ?_)
            · refine lv_iload_n C.x C.b dX2_dragged_103 rfl (lv_at hl 3 rfl) ?_
              have J124_5 : ∀ (t0 : Int) (ht0 : t0 = sel (w = 0) v4 (sel (w = 1) v5 v6)) (H : Heap) (locs : List Loc) (ls : Array Slot) (hX : MH E A ad F (va_up M 3 sg) H) (hS : va_S A s.heap H locs) (hl : lv_has ls 8 [(0, .ref (ad 63)), (1, .int (zi a)), (2, .int (zi t)), (3, .int (zi w)), (4, .int (zi v4)), (5, .int (zi v5)), (6, .int (zi v6)), (7, .int (zi v7))]), W p l e rm_X2_dragged s m args below meth c H locs 0 0 (MQ below (qi A (fun r H => ∃ m3 : Int → Int, (((0 ≤ a ∧ a < F 27) ∧ (0 ≤ t ∧ t < F 4) ∧ (0 ≤ w ∧ w ≤ 2)) → SgOK (F 0) (M 1) (F 2) m3) ∧ (r = sel ((0 ≤ a ∧ a < F 27) ∧ (0 ≤ t ∧ t < F 4) ∧ (0 ≤ w ∧ w ≤ 2)) (pick3 w (cntF (fun i => Fits (pl m3 (M 6) t i) (sn (M 29) (M 28) a) (M 28 a) (M 5 t - i)) (M 5 t)) (fstF (fun i => Fits (pl m3 (M 6) t i) (sn (M 29) (M 28) a) (M 28 a) (M 5 t - i)) (M 5 t)) (lstF (fun i => Fits (pl m3 (M 6) t i) (sn (M 29) (M 28) a) (M 28 a) (M 5 t - i)) (M 5 t))) (-1)) ∧ MH E A ad F (va_up M 3 m3) H)) args s (rm_X2_dragged).cells (rm_X2_dragged).slots A) (F0 m 124 ls [.int (zi t0)]) := by
                intro t0 ht0 H locs ls hX hS hl
                subst ht0
                have e7 : v7 = M 5 t := by omega
                rw [e7] at h4 h5 h6
                exact r_iret C hS (Nat.le_of_ble_eq_true rfl) (Nat.le_of_ble_eq_true rfl) dX2_dragged_124 ⟨sg, (fun _ => hsg), (by rw [sel_t (c := (0 ≤ a ∧ a < F 27) ∧ (0 ≤ t ∧ t < F 4) ∧ (0 ≤ w ∧ w ≤ 2)) ⟨by assumption, by assumption, by assumption⟩, ← h4, ← h5, ← h6]; rfl), hX⟩
              refine r_if_ne (tgt := 112) C (by omega) dX2_dragged_104 (by decide) (fun c_6 => ?_) (fun c_6 => ?_)
              · refine lv_iload_n C.x C.b dX2_dragged_112 rfl (lv_at hl 3 rfl) ?_
                refine r_const C dX2_dragged_113 ?_
                refine r_icmp_ne (tgt := 122) C (by omega) (by decide) dX2_dragged_114 (by decide) (fun c_7 => ?_) (fun c_7 => ?_)
                · refine lv_iload C.x C.b dX2_dragged_122 (lv_at hl 6 rfl) ?_
                  exact J124_5 v6 (((sel_f c_6).trans (sel_f c_7)).symm) H locs ls hX hS hl
                · refine lv_iload C.x C.b dX2_dragged_117 (lv_at hl 5 rfl) ?_
                  refine lv_goto (tgt := 124) C.x C.b dX2_dragged_119 (by decide) ?_
                  exact J124_5 v5 (((sel_f c_6).trans (sel_t c_7)).symm) H locs ls hX hS hl
              · refine lv_iload C.x C.b dX2_dragged_107 (lv_at hl 4 rfl) ?_
                refine lv_goto (tgt := 124) C.x C.b dX2_dragged_109 (by decide) ?_
                exact J124_5 v4 ((sel_t c_6).symm) H locs ls hX hS hl
            · refine lv_aload_n C.x C.b dX2_dragged_63 rfl (lv_at hl 0 rfl) ?_
              have hfr := fstF_r (P := (fun i => Fits (pl sg (M 6) t i) (sn (M 29) (M 28) a) (M 28 a) (M 5 t - i))) h7.1
              rw [← h5] at hfr
              refine lv_iload_n C.x C.b dX2_dragged_64 rfl (lv_at hl 1 rfl) ?_
              refine lv_iload_n C.x C.b dX2_dragged_65 rfl (lv_at hl 2 rfl) ?_
              refine lv_iload C.x C.b dX2_dragged_66 (lv_at hl 7 rfl) ?_
              refine r_callVi (As := [.int (zi a), .int (zi t), .int (zi v7)]) (rest := []) (cells' := 0) (slots' := 0) C (met_X2_doesFit l E A ad F (va_up M 3 sg) a t v7 (show 0 ≤ a ∧ a < 4 from (by omega)) (show 0 ≤ t ∧ t < 8 from (by omega)) (show 0 ≤ v7 ∧ v7 < 24 from (by omega))) (lw_V q1388 q1390 qs64 q88 q1391) hd_X2_doesFit rfl (by decide) (m_recv C hX) hX hS hl.1 rfl (Nat.le_of_ble_eq_true rfl) dX2_dragged_68 rfl rfl ⟨Nat.le_of_ble_eq_true rfl, Nat.le_of_ble_eq_true rfl⟩ (fun rr H locs hp hS => ?_)
              obtain ⟨hrr, hX⟩ := hp
              have hrr : rr = bI (Fits (pl (sg) ((M 6)) t v7) (sn ((M 29)) ((M 28)) a) ((M 28) a) ((M 5) t - v7)) := hrr
              subst hrr
              have J97_8 : ∀ (v4_97 : Int) (hv4_97 : v4_97 = sel (Fits (pl (sg) ((M 6)) t v7) (sn ((M 29)) ((M 28)) a) ((M 28) a) ((M 5) t - v7)) (v4 + 1) v4) (v5_97 : Int) (hv5_97 : v5_97 = sel (Fits (pl (sg) ((M 6)) t v7) (sn ((M 29)) ((M 28)) a) ((M 28) a) ((M 5) t - v7)) (sel (v5 = (-4)) v7 v5) v5) (v6_97 : Int) (hv6_97 : v6_97 = sel (Fits (pl (sg) ((M 6)) t v7) (sn ((M 29)) ((M 28)) a) ((M 28) a) ((M 5) t - v7)) v7 v6) (H : Heap) (locs : List Loc) (ls : Array Slot) (hX : MH E A ad F (va_up M 3 sg) H) (hS : va_S A s.heap H locs) (hl : lv_has ls 8 [(0, .ref (ad 63)), (1, .int (zi a)), (2, .int (zi t)), (3, .int (zi w)), (4, .int (zi v4_97)), (5, .int (zi v5_97)), (6, .int (zi v6_97)), (7, .int (zi v7))]), W p l e rm_X2_dragged s m args below meth c H locs 0 0 (MQ below (qi A (fun r H => ∃ m3 : Int → Int, (((0 ≤ a ∧ a < F 27) ∧ (0 ≤ t ∧ t < F 4) ∧ (0 ≤ w ∧ w ≤ 2)) → SgOK (F 0) (M 1) (F 2) m3) ∧ (r = sel ((0 ≤ a ∧ a < F 27) ∧ (0 ≤ t ∧ t < F 4) ∧ (0 ≤ w ∧ w ≤ 2)) (pick3 w (cntF (fun i => Fits (pl m3 (M 6) t i) (sn (M 29) (M 28) a) (M 28 a) (M 5 t - i)) (M 5 t)) (fstF (fun i => Fits (pl m3 (M 6) t i) (sn (M 29) (M 28) a) (M 28 a) (M 5 t - i)) (M 5 t)) (lstF (fun i => Fits (pl m3 (M 6) t i) (sn (M 29) (M 28) a) (M 28 a) (M 5 t - i)) (M 5 t))) (-1)) ∧ MH E A ad F (va_up M 3 m3) H)) args s (rm_X2_dragged).cells (rm_X2_dragged).slots A) (F0 m 97 ls []) := by
                intro v4_97 hv4_97 v5_97 hv5_97 v6_97 hv6_97 H locs ls hX hS hl
                subst hv4_97
                subst hv5_97
                subst hv6_97
                refine r_iinc (lv' := [(7, .int (zi (v7 + 1))), (0, .ref (ad 63)), (1, .int (zi a)), (2, .int (zi t)), (3, .int (zi w)), (4, .int (zi (sel (Fits (pl (sg) ((M 6)) t v7) (sn ((M 29)) ((M 28)) a) ((M 28) a) ((M 5) t - v7)) (v4 + 1) v4))), (5, .int (zi (sel (Fits (pl (sg) ((M 6)) t v7) (sn ((M 29)) ((M 28)) a) ((M 28) a) ((M 5) t - v7)) (sel (v5 = (-4)) v7 v5) v5))), (6, .int (zi (sel (Fits (pl (sg) ((M 6)) t v7) (sn ((M 29)) ((M 28)) a) ((M 28) a) ((M 5) t - v7)) v7 v6)))]) C dX2_dragged_97 hl (k := 7) rfl (by decide) rfl (fun ls hl => ?_)
                refine lv_goto (tgt := 52) C.x C.b dX2_dragged_100 (by decide) ?_
                exact ih52 (sel (Fits (pl (sg) ((M 6)) t v7) (sn ((M 29)) ((M 28)) a) ((M 28) a) ((M 5) t - v7)) (v4 + 1) v4) (sel (Fits (pl (sg) ((M 6)) t v7) (sn ((M 29)) ((M 28)) a) ((M 28) a) ((M 5) t - v7)) (sel (v5 = (-4)) v7 v5) v5) (sel (Fits (pl (sg) ((M 6)) t v7) (sn ((M 29)) ((M 28)) a) ((M 28) a) ((M 5) t - v7)) v7 v6) (v7 + 1) (by omega) (by rw [h4, sel_a1]; exact (isum_s h7.1).symm) (by rw [h5]; exact (fstF_s (P := (fun i => Fits (pl sg (M 6) t i) (sn (M 29) (M 28) a) (M 28 a) (M 5 t - i))) h7.1).symm) (by rw [h6]; exact (lstF_s (P := (fun i => Fits (pl sg (M 6) t i) (sn (M 29) (M 28) a) (M 28 a) (M 5 t - i))) h7.1).symm) (by omega) H locs ls hX hS (lv_sub hl [1, 2, 3, 4, 5, 6, 7, 0] rfl)
              refine r_if_eq_b (tgt := 97) C dX2_dragged_71 (by decide) (fun c_9 => ?_) (fun c_9 => ?_)
              · exact J97_8 v4 ((sel_f c_9).symm) v5 ((sel_f c_9).symm) v6 ((sel_f c_9).symm) H locs ls hX hS hl
              · refine r_iinc (lv' := [(4, .int (zi (v4 + 1))), (0, .ref (ad 63)), (1, .int (zi a)), (2, .int (zi t)), (3, .int (zi w)), (5, .int (zi v5)), (6, .int (zi v6)), (7, .int (zi v7))]) C dX2_dragged_74 hl (k := 4) rfl (by decide) rfl (fun ls hl => ?_)
                refine lv_iload C.x C.b dX2_dragged_77 (lv_at hl 5 rfl) ?_
                refine r_bipush C (by decide) dX2_dragged_79 ?_
                have J91_10 : ∀ (t0 : Int) (ht0 : t0 = sel (v5 = (-4)) v7 v5) (H : Heap) (locs : List Loc) (ls : Array Slot) (hX : MH E A ad F (va_up M 3 sg) H) (hS : va_S A s.heap H locs) (hl : lv_has ls 8 [(4, .int (zi (v4 + 1))), (0, .ref (ad 63)), (1, .int (zi a)), (2, .int (zi t)), (3, .int (zi w)), (5, .int (zi v5)), (6, .int (zi v6)), (7, .int (zi v7))]), W p l e rm_X2_dragged s m args below meth c H locs 0 0 (MQ below (qi A (fun r H => ∃ m3 : Int → Int, (((0 ≤ a ∧ a < F 27) ∧ (0 ≤ t ∧ t < F 4) ∧ (0 ≤ w ∧ w ≤ 2)) → SgOK (F 0) (M 1) (F 2) m3) ∧ (r = sel ((0 ≤ a ∧ a < F 27) ∧ (0 ≤ t ∧ t < F 4) ∧ (0 ≤ w ∧ w ≤ 2)) (pick3 w (cntF (fun i => Fits (pl m3 (M 6) t i) (sn (M 29) (M 28) a) (M 28 a) (M 5 t - i)) (M 5 t)) (fstF (fun i => Fits (pl m3 (M 6) t i) (sn (M 29) (M 28) a) (M 28 a) (M 5 t - i)) (M 5 t)) (lstF (fun i => Fits (pl m3 (M 6) t i) (sn (M 29) (M 28) a) (M 28 a) (M 5 t - i)) (M 5 t))) (-1)) ∧ MH E A ad F (va_up M 3 m3) H)) args s (rm_X2_dragged).cells (rm_X2_dragged).slots A) (F0 m 91 ls [.int (zi t0)]) := by
                  intro t0 ht0 H locs ls hX hS hl
                  subst ht0
                  refine lv_istore (lv' := [(5, .int (zi (sel (v5 = (-4)) v7 v5))), (4, .int (zi (v4 + 1))), (0, .ref (ad 63)), (1, .int (zi a)), (2, .int (zi t)), (3, .int (zi w)), (6, .int (zi v6)), (7, .int (zi v7))]) C.x C.b dX2_dragged_91 hl (by decide) rfl (fun ls hl => ?_)
                  refine lv_iload C.x C.b dX2_dragged_93 (lv_at hl 7 rfl) ?_
                  refine lv_istore (lv' := [(6, .int (zi v7)), (5, .int (zi (sel (v5 = (-4)) v7 v5))), (4, .int (zi (v4 + 1))), (0, .ref (ad 63)), (1, .int (zi a)), (2, .int (zi t)), (3, .int (zi w)), (7, .int (zi v7))]) C.x C.b dX2_dragged_95 hl (by decide) rfl (fun ls hl => ?_)
                  exact J97_8 (v4 + 1) ((sel_t c_9).symm) (sel (v5 = (-4)) v7 v5) ((sel_t c_9).symm) v7 ((sel_t c_9).symm) H locs ls hX hS (lv_sub hl [3, 4, 5, 6, 2, 1, 0, 7] rfl)
                refine r_icmp_ne (tgt := 89) C (by omega) (by decide) dX2_dragged_81 (by decide) (fun c_11 => ?_) (fun c_11 => ?_)
                · refine lv_iload C.x C.b dX2_dragged_89 (lv_at hl 5 rfl) ?_
                  exact J91_10 v5 ((sel_f c_11).symm) H locs ls hX hS hl
                · refine lv_iload C.x C.b dX2_dragged_84 (lv_at hl 7 rfl) ?_
                  refine lv_goto (tgt := 91) C.x C.b dX2_dragged_86 (by decide) ?_
                  exact J91_10 v7 ((sel_t c_11).symm) H locs ls hX hS hl
        have q5 : 0 ≤ M 5 t ∧ M 5 t ≤ 24 := hX.2.2 5 (0, 24) rfl _
        exact L52 _ 0 (-4) (-4) 0 (by omega) rfl rfl rfl (Nat.lt_succ_self _) H locs ls hX hS (lv_sub hl [4, 5, 6, 7, 3, 2, 1, 0] rfl)
      · refine r_const C dX2_dragged_28 ?_
        exact r_iret C hS (Nat.le_of_ble_eq_true rfl) (Nat.le_of_ble_eq_true rfl) dX2_dragged_29 ⟨(M 3), (fun q => by first | exact absurd q.1 (by assumption) | exact absurd q.2.1 (by assumption) | exact absurd q.2.2 (by assumption)), (by first | exact Eq.symm (sel_f (fun q => absurd q.1 (by assumption))) | exact Eq.symm (sel_f (fun q => absurd q.2.1 (by assumption))) | exact Eq.symm (sel_f (fun q => absurd q.2.2 (by assumption)))), (hX.to rfl ((up_id M (k := 3) (a := (M 3)) rfl).symm.trans rfl))⟩

theorem hd_X2_together : yX2_together.cls = RX2 ∧ yX2_together.cls ≠ "java/lang/invoke/MethodHandle" ∧ yX2_together.cls ≠ "java/lang/invoke/VarHandle" ∧ (parseMethodDescriptor yX2_together.desc).map (fun d => d.parameters.length) = some 4 := by decide +kernel
abbrev rm_X2_together : Room := { frames := 3, cells := 0, slots := 0, locals := 76 }
set_option maxHeartbeats 8000000 in
theorem met_X2_together (l : Launch) (E : us_E) (A : Nat → Prop) (ad : Nat → Nat) (F : Nat → Int) (M : Nat → Int → Int) (a : Int) (t : Int) (b : Int) (u : Int) (ha : -2147483648 ≤ a ∧ a < 2147483648) (ht : -2147483648 ≤ t ∧ t < 2147483648) (hb : -2147483648 ≤ b ∧ b < 2147483648) (hu : -2147483648 ≤ u ∧ u < 2147483648) : cMet l yX2_together cX2_together 8 (some .int) rm_X2_together A E [.ref (ad 63), .int (zi a), .int (zi t), .int (zi b), .int (zi u)] (fun H => MH E A ad F M H) (qi A (fun r H => ∃ m3 : Int → Int, ((((0 ≤ a ∧ a < F 27) ∧ (0 ≤ t ∧ t < F 4)) ∧ ((0 ≤ b ∧ b < F 27) ∧ (0 ≤ u ∧ u < F 4))) → SgOK (F 0) (M 1) (F 2) m3) ∧ (r = sel (((0 ≤ a ∧ a < F 27) ∧ (0 ≤ t ∧ t < F 4)) ∧ ((0 ≤ b ∧ b < F 27) ∧ (0 ≤ u ∧ u < F 4))) (isum (fun i => isum (fun j => bI (Fits (pl m3 (M 6) t i) (sn (M 29) (M 28) a) (M 28 a) (M 5 t - i) ∧ Fits (pl m3 (M 6) u j) (sn (M 29) (M 28) b) (M 28 b) (M 5 u - j) ∧ Agr (pl m3 (M 6) t i) (pl m3 (M 6) u j) (sn (M 29) (M 28) a) (sn (M 29) (M 28) b) (M 28 a) (M 28 b))) (M 5 u)) (M 5 t)) (-1)) ∧ MH E A ad F (va_up M 3 m3) H)) := by
  refine cMet.of (by decide) (Nat.le_of_ble_eq_true rfl) (fun p e s m args below meth c C hnm hX hS ls hl => ?_)
  have C : Cx p s m args meth c A RX2 cX2_together 8 (some .int) E := C
  have hX : MH E A ad F M s.heap := hX
  have hl : lv_has ls 8 [(0, .ref (ad 63)), (1, .int (zi a)), (2, .int (zi t)), (3, .int (zi b)), (4, .int (zi u))] := hl
  generalize hH : s.heap = H at hX
  have hS : va_S A s.heap H [] := by rw [← hH]; exact hS
  generalize hlocs : ([] : List Loc) = locs at hS ⊢
  have rF0 : 0 ≤ F 0 ∧ F 0 ≤ 24 := hX.2.1 0 (0, 24) rfl
  have rF2 : 0 ≤ F 2 ∧ F 2 ≤ 12 := hX.2.1 2 (0, 12) rfl
  have rF4 : 0 ≤ F 4 ∧ F 4 ≤ 8 := hX.2.1 4 (0, 8) rfl
  have rF27 : 0 ≤ F 27 ∧ F 27 ≤ 4 := hX.2.1 27 (0, 4) rfl
  refine lv_aload_n C.x C.b dX2_together_0 rfl (lv_at hl 0 rfl) ?_
  refine lv_iload_n C.x C.b dX2_together_1 rfl (lv_at hl 1 rfl) ?_
  refine r_callVi (As := [.int (zi a)]) (rest := []) (cells' := 0) (slots' := 0) C (met_X2_isName l E A ad F M a (show -2147483648 ≤ a ∧ a < 2147483648 from (by omega))) (lw_V q1384 q1386 qs63 q88 q1387) hd_X2_isName rfl (by decide) (m_recv C hX) hX hS hl.1 rfl (Nat.le_of_ble_eq_true rfl) dX2_together_2 rfl rfl ⟨Nat.le_of_ble_eq_true rfl, Nat.le_of_ble_eq_true rfl⟩ (fun rr H locs hp hS => ?_)
  obtain ⟨hrr, hX⟩ := hp
  have hrr : rr = bI (0 ≤ a ∧ a < (F 27)) := hrr
  subst hrr
  refine r_if_eq_b (tgt := 33) C dX2_together_5 (by decide) (fun c_1 => ?_) (fun c_1 => ?_)
  · refine r_const C dX2_together_33 ?_
    exact r_iret C hS (Nat.le_of_ble_eq_true rfl) (Nat.le_of_ble_eq_true rfl) dX2_together_34 ⟨(M 3), (fun q => by first | exact absurd q.1.1 (by assumption) | exact absurd q.1.2 (by assumption) | exact absurd q.2.1 (by assumption) | exact absurd q.2.2 (by assumption)), (by first | exact Eq.symm (sel_f (fun q => absurd q.1.1 (by assumption))) | exact Eq.symm (sel_f (fun q => absurd q.1.2 (by assumption))) | exact Eq.symm (sel_f (fun q => absurd q.2.1 (by assumption))) | exact Eq.symm (sel_f (fun q => absurd q.2.2 (by assumption)))), (hX.to rfl ((up_id M (k := 3) (a := (M 3)) rfl).symm.trans rfl))⟩
  · refine lv_aload_n C.x C.b dX2_together_8 rfl (lv_at hl 0 rfl) ?_
    refine lv_iload_n C.x C.b dX2_together_9 rfl (lv_at hl 2 rfl) ?_
    refine r_callVi (As := [.int (zi t)]) (rest := []) (cells' := 0) (slots' := 0) C (met_X2_isText l E A ad F M t (show -2147483648 ≤ t ∧ t < 2147483648 from (by omega))) (lw_V q1249 q1251 qs45 q88 q1252) hd_X2_isText rfl (by decide) (m_recv C hX) hX hS hl.1 rfl (Nat.le_of_ble_eq_true rfl) dX2_together_10 rfl rfl ⟨Nat.le_of_ble_eq_true rfl, Nat.le_of_ble_eq_true rfl⟩ (fun rr H locs hp hS => ?_)
    obtain ⟨hrr, hX⟩ := hp
    have hrr : rr = bI (0 ≤ t ∧ t < (F 4)) := hrr
    subst hrr
    refine r_if_eq_b (tgt := 33) C dX2_together_13 (by decide) (fun c_2 => ?_) (fun c_2 => ?_)
    · refine r_const C dX2_together_33 ?_
      exact r_iret C hS (Nat.le_of_ble_eq_true rfl) (Nat.le_of_ble_eq_true rfl) dX2_together_34 ⟨(M 3), (fun q => by first | exact absurd q.1.1 (by assumption) | exact absurd q.1.2 (by assumption) | exact absurd q.2.1 (by assumption) | exact absurd q.2.2 (by assumption)), (by first | exact Eq.symm (sel_f (fun q => absurd q.1.1 (by assumption))) | exact Eq.symm (sel_f (fun q => absurd q.1.2 (by assumption))) | exact Eq.symm (sel_f (fun q => absurd q.2.1 (by assumption))) | exact Eq.symm (sel_f (fun q => absurd q.2.2 (by assumption)))), (hX.to rfl ((up_id M (k := 3) (a := (M 3)) rfl).symm.trans rfl))⟩
    · refine lv_aload_n C.x C.b dX2_together_16 rfl (lv_at hl 0 rfl) ?_
      refine lv_iload_n C.x C.b dX2_together_17 rfl (lv_at hl 3 rfl) ?_
      refine r_callVi (As := [.int (zi b)]) (rest := []) (cells' := 0) (slots' := 0) C (met_X2_isName l E A ad F M b (show -2147483648 ≤ b ∧ b < 2147483648 from (by omega))) (lw_V q1384 q1386 qs63 q88 q1387) hd_X2_isName rfl (by decide) (m_recv C hX) hX hS hl.1 rfl (Nat.le_of_ble_eq_true rfl) dX2_together_18 rfl rfl ⟨Nat.le_of_ble_eq_true rfl, Nat.le_of_ble_eq_true rfl⟩ (fun rr H locs hp hS => ?_)
      obtain ⟨hrr, hX⟩ := hp
      have hrr : rr = bI (0 ≤ b ∧ b < (F 27)) := hrr
      subst hrr
      refine r_if_eq_b (tgt := 33) C dX2_together_21 (by decide) (fun c_3 => ?_) (fun c_3 => ?_)
      · refine r_const C dX2_together_33 ?_
        exact r_iret C hS (Nat.le_of_ble_eq_true rfl) (Nat.le_of_ble_eq_true rfl) dX2_together_34 ⟨(M 3), (fun q => by first | exact absurd q.1.1 (by assumption) | exact absurd q.1.2 (by assumption) | exact absurd q.2.1 (by assumption) | exact absurd q.2.2 (by assumption)), (by first | exact Eq.symm (sel_f (fun q => absurd q.1.1 (by assumption))) | exact Eq.symm (sel_f (fun q => absurd q.1.2 (by assumption))) | exact Eq.symm (sel_f (fun q => absurd q.2.1 (by assumption))) | exact Eq.symm (sel_f (fun q => absurd q.2.2 (by assumption)))), (hX.to rfl ((up_id M (k := 3) (a := (M 3)) rfl).symm.trans rfl))⟩
      · refine lv_aload_n C.x C.b dX2_together_24 rfl (lv_at hl 0 rfl) ?_
        refine lv_iload C.x C.b dX2_together_25 (lv_at hl 4 rfl) ?_
        refine r_callVi (As := [.int (zi u)]) (rest := []) (cells' := 0) (slots' := 0) C (met_X2_isText l E A ad F M u (show -2147483648 ≤ u ∧ u < 2147483648 from (by omega))) (lw_V q1249 q1251 qs45 q88 q1252) hd_X2_isText rfl (by decide) (m_recv C hX) hX hS hl.1 rfl (Nat.le_of_ble_eq_true rfl) dX2_together_27 rfl rfl ⟨Nat.le_of_ble_eq_true rfl, Nat.le_of_ble_eq_true rfl⟩ (fun rr H locs hp hS => ?_)
        obtain ⟨hrr, hX⟩ := hp
        have hrr : rr = bI (0 ≤ u ∧ u < (F 4)) := hrr
        subst hrr
        refine r_if_ne_b (tgt := 35) C dX2_together_30 (by decide) (fun c_4 => ?_) (fun c_4 => ?_)
        · refine lv_aload_n C.x C.b dX2_together_35 rfl (lv_at hl 0 rfl) ?_
          refine lv_aload_n C.x C.b dX2_together_36 rfl (lv_at hl 0 rfl) ?_
          refine mg_2 C hX (F 2) rfl dX2_together_37 (fun _ => ?_)
          refine r_callVv (As := [.int (zi (F 2))]) (rest := []) (cells' := 0) (slots' := 0) C (met_X2_findSigns l E A ad F M (F 2) (show 0 ≤ (F 2) ∧ (F 2) ≤ 24 from (by omega))) (lw_V q1221 q1223 qs42 q88 q1224) hd_X2_findSigns rfl (by decide) (m_recv C hX) hX hS hl.1 rfl (Nat.le_of_ble_eq_true rfl) dX2_together_40 rfl rfl ⟨Nat.le_of_ble_eq_true rfl, Nat.le_of_ble_eq_true rfl⟩ (fun H locs hp hS => ?_)
          obtain ⟨sg, hsg, hX⟩ := hp
          have hsg : SgOK ((F 0)) ((M 1)) (F 2) sg := hsg
          have hX : MH E A ad F (va_up M 3 sg) H := hX.to rfl rfl
          have q5 : 0 ≤ M 5 t ∧ M 5 t ≤ 24 := hX.2.2 5 (0, 24) rfl _
          have q5u : 0 ≤ M 5 u ∧ M 5 u ≤ 24 := hX.2.2 5 (0, 24) rfl _
          refine r_const C dX2_together_43 ?_
          refine lv_istore (lv' := [(5, .int (zi 0)), (0, .ref (ad 63)), (1, .int (zi a)), (2, .int (zi t)), (3, .int (zi b)), (4, .int (zi u))]) C.x C.b dX2_together_44 hl (by decide) rfl (fun ls hl => ?_)
          refine r_const C dX2_together_46 ?_
          refine lv_istore (lv' := [(6, .int (zi 0)), (5, .int (zi 0)), (0, .ref (ad 63)), (1, .int (zi a)), (2, .int (zi t)), (3, .int (zi b)), (4, .int (zi u))]) C.x C.b dX2_together_47 hl (by decide) rfl (fun ls hl => ?_)
          have L49 : ∀ (fu : Nat) (v5 : Int) (v6 : Int) (h6 : 0 ≤ v6 ∧ v6 ≤ M 5 t) (hs : v5 = isum (fun i => isum (fun j => bI (Fits (pl sg (M 6) t i) (sn (M 29) (M 28) a) (M 28 a) (M 5 t - i) ∧ Fits (pl sg (M 6) u j) (sn (M 29) (M 28) b) (M 28 b) (M 5 u - j) ∧ Agr (pl sg (M 6) t i) (pl sg (M 6) u j) (sn (M 29) (M 28) a) (sn (M 29) (M 28) b) (M 28 a) (M 28 b))) (M 5 u)) v6) (hm : Int.toNat (M 5 t - v6) < fu) (H : Heap) (locs : List Loc) (ls : Array Slot) (hX : MH E A ad F (va_up M 3 sg) H) (hS : va_S A s.heap H locs) (hl : lv_has ls 8 [(0, .ref (ad 63)), (1, .int (zi a)), (2, .int (zi t)), (3, .int (zi b)), (4, .int (zi u)), (5, .int (zi v5)), (6, .int (zi v6))]), W p l e rm_X2_together s m args below meth c H locs 0 0 (MQ below (qi A (fun r H => ∃ m3 : Int → Int, ((((0 ≤ a ∧ a < F 27) ∧ (0 ≤ t ∧ t < F 4)) ∧ ((0 ≤ b ∧ b < F 27) ∧ (0 ≤ u ∧ u < F 4))) → SgOK (F 0) (M 1) (F 2) m3) ∧ (r = sel (((0 ≤ a ∧ a < F 27) ∧ (0 ≤ t ∧ t < F 4)) ∧ ((0 ≤ b ∧ b < F 27) ∧ (0 ≤ u ∧ u < F 4))) (isum (fun i => isum (fun j => bI (Fits (pl m3 (M 6) t i) (sn (M 29) (M 28) a) (M 28 a) (M 5 t - i) ∧ Fits (pl m3 (M 6) u j) (sn (M 29) (M 28) b) (M 28 b) (M 5 u - j) ∧ Agr (pl m3 (M 6) t i) (pl m3 (M 6) u j) (sn (M 29) (M 28) a) (sn (M 29) (M 28) b) (M 28 a) (M 28 b))) (M 5 u)) (M 5 t)) (-1)) ∧ MH E A ad F (va_up M 3 m3) H)) args s (rm_X2_together).cells (rm_X2_together).slots A) (F0 m 49 ls []) := by
            intro fu
            induction fu with
            | zero => intro v5 v6 h6 hs hm; exact absurd hm (Nat.not_lt_zero _)
            | succ fu ih49 =>
              intro v5 v6 h6 hs hm H locs ls hX hS hl
              refine lv_iload C.x C.b dX2_together_49 (lv_at hl 6 rfl) ?_
              refine lv_aload_n C.x C.b dX2_together_51 rfl (lv_at hl 0 rfl) ?_
              refine mg_5 C hX dX2_together_52 ?_
              refine lv_iload_n C.x C.b dX2_together_55 rfl (lv_at hl 2 rfl) ?_
              refine ml_5 C hX (by omega) (M 5) rfl dX2_together_56 (fun r56 => ?_)
              refine r_icmp_ge (tgt := 136) C (by omega) (by omega) dX2_together_57 (by decide) (fun c_5 => ?_) (fun c_5 => ?_)
              · refine lv_iload C.x C.b dX2_together_136 (lv_at hl 5 rfl) ?_
                have e7 : v6 = M 5 t := by omega
                rw [e7] at hs
                exact r_iret C hS (Nat.le_of_ble_eq_true rfl) (Nat.le_of_ble_eq_true rfl) dX2_together_138 ⟨sg, (fun _ => hsg), (by rw [sel_t (c := ((0 ≤ a ∧ a < F 27) ∧ (0 ≤ t ∧ t < F 4)) ∧ ((0 ≤ b ∧ b < F 27) ∧ (0 ≤ u ∧ u < F 4))) ⟨⟨by assumption, by assumption⟩, ⟨by assumption, by assumption⟩⟩, ← hs]), hX⟩
              · refine r_const C dX2_together_60 ?_
                refine lv_istore (lv' := [(7, .int (zi 0)), (0, .ref (ad 63)), (1, .int (zi a)), (2, .int (zi t)), (3, .int (zi b)), (4, .int (zi u)), (5, .int (zi v5)), (6, .int (zi v6))]) C.x C.b dX2_together_61 hl (by decide) rfl (fun ls hl => ?_)
                have L63 : ∀ (fu : Nat) (v5 : Int) (v7 : Int) (h7 : 0 ≤ v7 ∧ v7 ≤ M 5 u) (hr : v5 = isum (fun i => isum (fun j => bI (Fits (pl sg (M 6) t i) (sn (M 29) (M 28) a) (M 28 a) (M 5 t - i) ∧ Fits (pl sg (M 6) u j) (sn (M 29) (M 28) b) (M 28 b) (M 5 u - j) ∧ Agr (pl sg (M 6) t i) (pl sg (M 6) u j) (sn (M 29) (M 28) a) (sn (M 29) (M 28) b) (M 28 a) (M 28 b))) (M 5 u)) v6 + isum (fun j => bI (Fits (pl sg (M 6) t v6) (sn (M 29) (M 28) a) (M 28 a) (M 5 t - v6) ∧ Fits (pl sg (M 6) u j) (sn (M 29) (M 28) b) (M 28 b) (M 5 u - j) ∧ Agr (pl sg (M 6) t v6) (pl sg (M 6) u j) (sn (M 29) (M 28) a) (sn (M 29) (M 28) b) (M 28 a) (M 28 b))) v7) (hm : Int.toNat (M 5 u - v7) < fu) (H : Heap) (locs : List Loc) (ls : Array Slot) (hX : MH E A ad F (va_up M 3 sg) H) (hS : va_S A s.heap H locs) (hl : lv_has ls 8 [(0, .ref (ad 63)), (1, .int (zi a)), (2, .int (zi t)), (3, .int (zi b)), (4, .int (zi u)), (5, .int (zi v5)), (6, .int (zi v6)), (7, .int (zi v7))]), W p l e rm_X2_together s m args below meth c H locs 0 0 (MQ below (qi A (fun r H => ∃ m3 : Int → Int, ((((0 ≤ a ∧ a < F 27) ∧ (0 ≤ t ∧ t < F 4)) ∧ ((0 ≤ b ∧ b < F 27) ∧ (0 ≤ u ∧ u < F 4))) → SgOK (F 0) (M 1) (F 2) m3) ∧ (r = sel (((0 ≤ a ∧ a < F 27) ∧ (0 ≤ t ∧ t < F 4)) ∧ ((0 ≤ b ∧ b < F 27) ∧ (0 ≤ u ∧ u < F 4))) (isum (fun i => isum (fun j => bI (Fits (pl m3 (M 6) t i) (sn (M 29) (M 28) a) (M 28 a) (M 5 t - i) ∧ Fits (pl m3 (M 6) u j) (sn (M 29) (M 28) b) (M 28 b) (M 5 u - j) ∧ Agr (pl m3 (M 6) t i) (pl m3 (M 6) u j) (sn (M 29) (M 28) a) (sn (M 29) (M 28) b) (M 28 a) (M 28 b))) (M 5 u)) (M 5 t)) (-1)) ∧ MH E A ad F (va_up M 3 m3) H)) args s (rm_X2_together).cells (rm_X2_together).slots A) (F0 m 63 ls []) := by
                  intro fu
                  induction fu with
                  | zero => intro v5 v7 h7 hr hm; exact absurd hm (Nat.not_lt_zero _)
                  | succ fu ih63 =>
                    intro v5 v7 h7 hr hm H locs ls hX hS hl
                    refine lv_iload C.x C.b dX2_together_63 (lv_at hl 7 rfl) ?_
                    refine lv_aload_n C.x C.b dX2_together_65 rfl (lv_at hl 0 rfl) ?_
                    refine mg_5 C hX dX2_together_66 ?_
                    refine lv_iload C.x C.b dX2_together_69 (lv_at hl 4 rfl) ?_
                    refine ml_5 C hX (by omega) (M 5) rfl dX2_together_71 (fun r71 => ?_)
                    refine r_icmp_ge (tgt := 130) C (by omega) (by omega) dX2_together_72 (by decide) (fun c_6 => ?_) (fun c_6 => ?_)
                    · refine r_iinc (lv' := [(6, .int (zi (v6 + 1))), (0, .ref (ad 63)), (1, .int (zi a)), (2, .int (zi t)), (3, .int (zi b)), (4, .int (zi u)), (5, .int (zi v5)), (7, .int (zi v7))]) C dX2_together_130 hl (k := 6) rfl (by decide) rfl (fun ls hl => ?_)
                      refine lv_goto (tgt := 49) C.x C.b dX2_together_133 (by decide) ?_
                      exact ih49 v5 (v6 + 1) (by omega) (by first | exact isum_out (f := fun j => bI (Fits (pl sg (M 6) t v6) (sn (M 29) (M 28) a) (M 28 a) (M 5 t - v6) ∧ Fits (pl sg (M 6) u j) (sn (M 29) (M 28) b) (M 28 b) (M 5 u - j) ∧ Agr (pl sg (M 6) t v6) (pl sg (M 6) u j) (sn (M 29) (M 28) a) (sn (M 29) (M 28) b) (M 28 a) (M 28 b))) (N := M 5 u) h6.1 hr (by omega) rfl | (rw [hr.trans (hr0 (by assumption)), isum_s h6.1, isum_all0 (fun j q1 q2 => bI_f (fun z => absurd z.1 (by assumption))), Int.add_zero])) (by omega) H locs ls hX hS (lv_sub hl [1, 2, 3, 4, 5, 6, 0] rfl)
                    · refine lv_aload_n C.x C.b dX2_together_75 rfl (lv_at hl 0 rfl) ?_
                      refine lv_iload_n C.x C.b dX2_together_76 rfl (lv_at hl 1 rfl) ?_
                      refine lv_iload_n C.x C.b dX2_together_77 rfl (lv_at hl 2 rfl) ?_
                      refine lv_iload C.x C.b dX2_together_78 (lv_at hl 6 rfl) ?_
                      refine r_callVi (As := [.int (zi a), .int (zi t), .int (zi v6)]) (rest := []) (cells' := 0) (slots' := 0) C (met_X2_doesFit l E A ad F (va_up M 3 sg) a t v6 (show 0 ≤ a ∧ a < 4 from (by omega)) (show 0 ≤ t ∧ t < 8 from (by omega)) (show 0 ≤ v6 ∧ v6 < 24 from (by omega))) (lw_V q1388 q1390 qs64 q88 q1391) hd_X2_doesFit rfl (by decide) (m_recv C hX) hX hS hl.1 rfl (Nat.le_of_ble_eq_true rfl) dX2_together_80 rfl rfl ⟨Nat.le_of_ble_eq_true rfl, Nat.le_of_ble_eq_true rfl⟩ (fun rr H locs hp hS => ?_)
                      obtain ⟨hrr, hX⟩ := hp
                      have hrr : rr = bI (Fits (pl (sg) ((M 6)) t v6) (sn ((M 29)) ((M 28)) a) ((M 28) a) ((M 5) t - v6)) := hrr
                      subst hrr
                      have hr0 : ¬ Fits (pl sg (M 6) t v6) (sn (M 29) (M 28) a) (M 28 a) (M 5 t - v6) → isum (fun i => isum (fun j => bI (Fits (pl sg (M 6) t i) (sn (M 29) (M 28) a) (M 28 a) (M 5 t - i) ∧ Fits (pl sg (M 6) u j) (sn (M 29) (M 28) b) (M 28 b) (M 5 u - j) ∧ Agr (pl sg (M 6) t i) (pl sg (M 6) u j) (sn (M 29) (M 28) a) (sn (M 29) (M 28) b) (M 28 a) (M 28 b))) (M 5 u)) v6 + isum (fun j => bI (Fits (pl sg (M 6) t v6) (sn (M 29) (M 28) a) (M 28 a) (M 5 t - v6) ∧ Fits (pl sg (M 6) u j) (sn (M 29) (M 28) b) (M 28 b) (M 5 u - j) ∧ Agr (pl sg (M 6) t v6) (pl sg (M 6) u j) (sn (M 29) (M 28) a) (sn (M 29) (M 28) b) (M 28 a) (M 28 b))) v7 = isum (fun i => isum (fun j => bI (Fits (pl sg (M 6) t i) (sn (M 29) (M 28) a) (M 28 a) (M 5 t - i) ∧ Fits (pl sg (M 6) u j) (sn (M 29) (M 28) b) (M 28 b) (M 5 u - j) ∧ Agr (pl sg (M 6) t i) (pl sg (M 6) u j) (sn (M 29) (M 28) a) (sn (M 29) (M 28) b) (M 28 a) (M 28 b))) (M 5 u)) v6 := fun z => by
                        rw [isum_all0 (fun j q1 q2 => bI_f (fun y => absurd y.1 z)), Int.add_zero]
                      refine r_if_eq_b (tgt := 130) C dX2_together_83 (by decide) (fun c_7 => ?_) (fun c_7 => ?_)
                      · refine r_iinc (lv' := [(6, .int (zi (v6 + 1))), (0, .ref (ad 63)), (1, .int (zi a)), (2, .int (zi t)), (3, .int (zi b)), (4, .int (zi u)), (5, .int (zi v5)), (7, .int (zi v7))]) C dX2_together_130 hl (k := 6) rfl (by decide) rfl (fun ls hl => ?_)
                        refine lv_goto (tgt := 49) C.x C.b dX2_together_133 (by decide) ?_
                        exact ih49 v5 (v6 + 1) (by omega) (by first | exact isum_out (f := fun j => bI (Fits (pl sg (M 6) t v6) (sn (M 29) (M 28) a) (M 28 a) (M 5 t - v6) ∧ Fits (pl sg (M 6) u j) (sn (M 29) (M 28) b) (M 28 b) (M 5 u - j) ∧ Agr (pl sg (M 6) t v6) (pl sg (M 6) u j) (sn (M 29) (M 28) a) (sn (M 29) (M 28) b) (M 28 a) (M 28 b))) (N := M 5 u) h6.1 hr (by omega) rfl | (rw [hr.trans (hr0 (by assumption)), isum_s h6.1, isum_all0 (fun j q1 q2 => bI_f (fun z => absurd z.1 (by assumption))), Int.add_zero])) (by omega) H locs ls hX hS (lv_sub hl [1, 2, 3, 4, 5, 6, 0] rfl)
                      · refine lv_iload C.x C.b dX2_together_86 (lv_at hl 5 rfl) ?_
                        refine lv_aload_n C.x C.b dX2_together_88 rfl (lv_at hl 0 rfl) ?_
                        refine lv_iload_n C.x C.b dX2_together_89 rfl (lv_at hl 3 rfl) ?_
                        refine lv_iload C.x C.b dX2_together_90 (lv_at hl 4 rfl) ?_
                        refine lv_iload C.x C.b dX2_together_92 (lv_at hl 7 rfl) ?_
                        refine r_callVi (As := [.int (zi b), .int (zi u), .int (zi v7)]) (rest := [.int (zi v5)]) (cells' := 0) (slots' := 0) C (met_X2_doesFit l E A ad F (va_up M 3 sg) b u v7 (show 0 ≤ b ∧ b < 4 from (by omega)) (show 0 ≤ u ∧ u < 8 from (by omega)) (show 0 ≤ v7 ∧ v7 < 24 from (by omega))) (lw_V q1388 q1390 qs64 q88 q1391) hd_X2_doesFit rfl (by decide) (m_recv C hX) hX hS hl.1 rfl (Nat.le_of_ble_eq_true rfl) dX2_together_94 rfl rfl ⟨Nat.le_of_ble_eq_true rfl, Nat.le_of_ble_eq_true rfl⟩ (fun rr H locs hp hS => ?_)
                        obtain ⟨hrr, hX⟩ := hp
                        have hrr : rr = bI (Fits (pl (sg) ((M 6)) u v7) (sn ((M 29)) ((M 28)) b) ((M 28) b) ((M 5) u - v7)) := hrr
                        subst hrr
                        have J121_8 : ∀ (t1 : Int) (ht1 : t1 = bI ((Fits (pl (sg) ((M 6)) u v7) (sn ((M 29)) ((M 28)) b) ((M 28) b) ((M 5) u - v7)) ∧ (Agr (pl (sg) ((M 6)) t v6) (pl (sg) ((M 6)) u v7) (sn ((M 29)) ((M 28)) a) (sn ((M 29)) ((M 28)) b) ((M 28) a) ((M 28) b)))) (H : Heap) (locs : List Loc) (ls : Array Slot) (hX : MH E A ad F (va_up M 3 sg) H) (hS : va_S A s.heap H locs) (hl : lv_has ls 8 [(0, .ref (ad 63)), (1, .int (zi a)), (2, .int (zi t)), (3, .int (zi b)), (4, .int (zi u)), (5, .int (zi v5)), (6, .int (zi v6)), (7, .int (zi v7))]), W p l e rm_X2_together s m args below meth c H locs 0 0 (MQ below (qi A (fun r H => ∃ m3 : Int → Int, ((((0 ≤ a ∧ a < F 27) ∧ (0 ≤ t ∧ t < F 4)) ∧ ((0 ≤ b ∧ b < F 27) ∧ (0 ≤ u ∧ u < F 4))) → SgOK (F 0) (M 1) (F 2) m3) ∧ (r = sel (((0 ≤ a ∧ a < F 27) ∧ (0 ≤ t ∧ t < F 4)) ∧ ((0 ≤ b ∧ b < F 27) ∧ (0 ≤ u ∧ u < F 4))) (isum (fun i => isum (fun j => bI (Fits (pl m3 (M 6) t i) (sn (M 29) (M 28) a) (M 28 a) (M 5 t - i) ∧ Fits (pl m3 (M 6) u j) (sn (M 29) (M 28) b) (M 28 b) (M 5 u - j) ∧ Agr (pl m3 (M 6) t i) (pl m3 (M 6) u j) (sn (M 29) (M 28) a) (sn (M 29) (M 28) b) (M 28 a) (M 28 b))) (M 5 u)) (M 5 t)) (-1)) ∧ MH E A ad F (va_up M 3 m3) H)) args s (rm_X2_together).cells (rm_X2_together).slots A) (F0 m 121 ls [.int (zi t1), .int (zi v5)]) := by
                          intro t1 ht1 H locs ls hX hS hl
                          subst ht1
                          refine r_iadd C dX2_together_121 ?_
                          refine lv_istore (lv' := [(5, .int (zi (v5 + (bI ((Fits (pl (sg) ((M 6)) u v7) (sn ((M 29)) ((M 28)) b) ((M 28) b) ((M 5) u - v7)) ∧ (Agr (pl (sg) ((M 6)) t v6) (pl (sg) ((M 6)) u v7) (sn ((M 29)) ((M 28)) a) (sn ((M 29)) ((M 28)) b) ((M 28) a) ((M 28) b))))))), (0, .ref (ad 63)), (1, .int (zi a)), (2, .int (zi t)), (3, .int (zi b)), (4, .int (zi u)), (6, .int (zi v6)), (7, .int (zi v7))]) C.x C.b dX2_together_122 hl (by decide) rfl (fun ls hl => ?_)
                          refine r_iinc (lv' := [(7, .int (zi (v7 + 1))), (5, .int (zi (v5 + (bI ((Fits (pl (sg) ((M 6)) u v7) (sn ((M 29)) ((M 28)) b) ((M 28) b) ((M 5) u - v7)) ∧ (Agr (pl (sg) ((M 6)) t v6) (pl (sg) ((M 6)) u v7) (sn ((M 29)) ((M 28)) a) (sn ((M 29)) ((M 28)) b) ((M 28) a) ((M 28) b))))))), (0, .ref (ad 63)), (1, .int (zi a)), (2, .int (zi t)), (3, .int (zi b)), (4, .int (zi u)), (6, .int (zi v6))]) C dX2_together_124 hl (k := 7) rfl (by decide) rfl (fun ls hl => ?_)
                          refine lv_goto (tgt := 63) C.x C.b dX2_together_127 (by decide) ?_
                          exact ih63 (v5 + (bI ((Fits (pl (sg) ((M 6)) u v7) (sn ((M 29)) ((M 28)) b) ((M 28) b) ((M 5) u - v7)) ∧ (Agr (pl (sg) ((M 6)) t v6) (pl (sg) ((M 6)) u v7) (sn ((M 29)) ((M 28)) a) (sn ((M 29)) ((M 28)) b) ((M 28) a) ((M 28) b))))) (v7 + 1) (by omega) (isum_st2 h7.1 hr (bI_c ⟨fun q => ⟨by assumption, q⟩, fun q => q.2⟩)) (by omega) H locs ls hX hS (lv_sub hl [2, 3, 4, 5, 6, 1, 7, 0] rfl)
                        refine r_if_eq_b (tgt := 120) C dX2_together_97 (by decide) (fun c_9 => ?_) (fun c_9 => ?_)
                        · refine r_const C dX2_together_120 ?_
                          exact J121_8 0 ((bI_f (fun q => c_9 q.1)).symm) H locs ls hX hS hl
                        · refine lv_aload_n C.x C.b dX2_together_100 rfl (lv_at hl 0 rfl) ?_
                          refine lv_iload_n C.x C.b dX2_together_101 rfl (lv_at hl 1 rfl) ?_
                          refine lv_iload_n C.x C.b dX2_together_102 rfl (lv_at hl 2 rfl) ?_
                          refine lv_iload C.x C.b dX2_together_103 (lv_at hl 6 rfl) ?_
                          refine lv_iload_n C.x C.b dX2_together_105 rfl (lv_at hl 3 rfl) ?_
                          refine lv_iload C.x C.b dX2_together_106 (lv_at hl 4 rfl) ?_
                          refine lv_iload C.x C.b dX2_together_108 (lv_at hl 7 rfl) ?_
                          have hf1 : M 28 a ≤ M 5 t - v6 := (show Fits (pl sg (M 6) t v6) (sn (M 29) (M 28) a) (M 28 a) (M 5 t - v6) by assumption).1
                          have hf2 : M 28 b ≤ M 5 u - v7 := (show Fits (pl sg (M 6) u v7) (sn (M 29) (M 28) b) (M 28 b) (M 5 u - v7) by assumption).1
                          refine r_callVi (As := [.int (zi a), .int (zi t), .int (zi v6), .int (zi b), .int (zi u), .int (zi v7)]) (rest := [.int (zi v5)]) (cells' := 0) (slots' := 0) C (met_X2_doAgree l E A ad F (va_up M 3 sg) a t v6 b u v7 (show 0 ≤ a ∧ a < 4 ∧ 0 ≤ b ∧ b < 4 from (by omega)) (show 0 ≤ t ∧ t < 8 ∧ 0 ≤ u ∧ u < 8 from (by omega)) (show 0 ≤ v6 ∧ v6 + (M 28) a ≤ 24 ∧ 0 ≤ v7 ∧ v7 + (M 28) b ≤ 24 from (by omega))) (lw_V q1392 q1394 qs65 q88 q1395) hd_X2_doAgree rfl (by decide) (m_recv C hX) hX hS hl.1 rfl (Nat.le_of_ble_eq_true rfl) dX2_together_110 rfl rfl ⟨Nat.le_of_ble_eq_true rfl, Nat.le_of_ble_eq_true rfl⟩ (fun rr H locs hp hS => ?_)
                          obtain ⟨hrr, hX⟩ := hp
                          have hrr : rr = bI (Agr (pl (sg) ((M 6)) t v6) (pl (sg) ((M 6)) u v7) (sn ((M 29)) ((M 28)) a) (sn ((M 29)) ((M 28)) b) ((M 28) a) ((M 28) b)) := hrr
                          subst hrr
                          refine r_if_eq_b (tgt := 120) C dX2_together_113 (by decide) (fun c_10 => ?_) (fun c_10 => ?_)
                          · refine r_const C dX2_together_120 ?_
                            exact J121_8 0 ((bI_f (fun q => c_10 q.2)).symm) H locs ls hX hS hl
                          · refine r_const C dX2_together_116 ?_
                            refine lv_goto (tgt := 121) C.x C.b dX2_together_117 (by decide) ?_
                            exact J121_8 1 ((bI_t ⟨c_9, c_10⟩).symm) H locs ls hX hS hl
                exact L63 _ v5 0 (by omega) (by rw [hs]; exact (Int.add_zero _).symm) (Nat.lt_succ_self _) H locs ls hX hS (lv_sub hl [1, 2, 3, 4, 5, 6, 7, 0] rfl)
          exact L49 _ 0 0 (by omega) rfl (Nat.lt_succ_self _) H locs ls hX hS (lv_sub hl [2, 3, 4, 5, 6, 1, 0] rfl)
        · refine r_const C dX2_together_33 ?_
          exact r_iret C hS (Nat.le_of_ble_eq_true rfl) (Nat.le_of_ble_eq_true rfl) dX2_together_34 ⟨(M 3), (fun q => by first | exact absurd q.1.1 (by assumption) | exact absurd q.1.2 (by assumption) | exact absurd q.2.1 (by assumption) | exact absurd q.2.2 (by assumption)), (by first | exact Eq.symm (sel_f (fun q => absurd q.1.1 (by assumption))) | exact Eq.symm (sel_f (fun q => absurd q.1.2 (by assumption))) | exact Eq.symm (sel_f (fun q => absurd q.2.1 (by assumption))) | exact Eq.symm (sel_f (fun q => absurd q.2.2 (by assumption)))), (hX.to rfl ((up_id M (k := 3) (a := (M 3)) rfl).symm.trans rfl))⟩

theorem hd_X2_word : yX2_word.cls = RX2 ∧ yX2_word.cls ≠ "java/lang/invoke/MethodHandle" ∧ yX2_word.cls ≠ "java/lang/invoke/VarHandle" ∧ (parseMethodDescriptor yX2_word.desc).map (fun d => d.parameters.length) = some 2 := by decide +kernel
abbrev rm_X2_word : Room := { frames := 1, cells := 0, slots := 0, locals := 25 }
set_option maxHeartbeats 8000000 in
theorem met_X2_word (l : Launch) (E : us_E) (A : Nat → Prop) (ad : Nat → Nat) (F : Nat → Int) (M : Nat → Int → Int) (n : Int) (v : Int) (hn : -2147483648 ≤ n ∧ n < 2147483648) (hv : -2147483648 ≤ v ∧ v < 2147483648) : cMet l yX2_word cX2_word 4 (some .int) rm_X2_word A E [.ref (ad 63), .int (zi n), .int (zi v)] (fun H => MH E A ad F M H) (qi A (fun r H => ∃ f30 : Int, ∃ m31 : Int → Int, ∃ m32 : Int → Int, (f30 = sel (areS n 6 v ∧ ¬ (∃ z, 0 ≤ z ∧ z < F 30 ∧ M 31 z = n ∧ M 32 z = v) ∧ ¬ F 30 = 12) (F 30 + 1) (F 30)) ∧ (m31 = sel (areS n 6 v ∧ ¬ (∃ z, 0 ≤ z ∧ z < F 30 ∧ M 31 z = n ∧ M 32 z = v) ∧ ¬ F 30 = 12) (fup (M 31) (F 30) n) (M 31)) ∧ (m32 = sel (areS n 6 v ∧ ¬ (∃ z, 0 ≤ z ∧ z < F 30 ∧ M 31 z = n ∧ M 32 z = v) ∧ ¬ F 30 = 12) (fup (M 32) (F 30) v) (M 32)) ∧ (r = sel (areS n 6 v ∧ ¬ (∃ z, 0 ≤ z ∧ z < F 30 ∧ M 31 z = n ∧ M 32 z = v)) (sel (F 30 = 12) (-3) (F 30)) (-1)) ∧ MH E A ad (va_up F 30 f30) (va_up (va_up M 31 m31) 32 m32) H)) := by
  refine cMet.of (by decide) (Nat.le_of_ble_eq_true rfl) (fun p e s m args below meth c C hnm hX hS ls hl => ?_)
  have C : Cx p s m args meth c A RX2 cX2_word 4 (some .int) E := C
  have hX : MH E A ad F M s.heap := hX
  have hl : lv_has ls 4 [(0, .ref (ad 63)), (1, .int (zi n)), (2, .int (zi v))] := hl
  generalize hH : s.heap = H at hX
  have hS : va_S A s.heap H [] := by rw [← hH]; exact hS
  generalize hlocs : ([] : List Loc) = locs at hS ⊢
  have rF30 : 0 ≤ F 30 ∧ F 30 ≤ 12 := hX.2.1 30 (0, 12) rfl
  refine lv_iload_n C.x C.b dX2_word_0 rfl (lv_at hl 1 rfl) ?_
  refine r_i2l C (by omega) dX2_word_1 ?_
  refine r_lconst C 1 rfl dX2_word_2 ?_
  refine r_ldc2 C 6 (by decide) q1408 dX2_word_3 ?_
  refine r_callSi (As := [.long (zl n), .long (zl 1), .long (zl 6)]) (rest := []) (cells' := 0) (slots' := 0) C (met_X2_in l E A ad H n 1 6 (show -9223372036854775808 ≤ n ∧ n < 9223372036854775808 from (by omega)) (show -9223372036854775808 ≤ 1 ∧ 1 < 9223372036854775808 from (by omega)) (show -9223372036854775808 ≤ 6 ∧ 6 < 9223372036854775808 from (by omega))) (lw_S q1209 q1210 q88 q1211) hd_X2_in rfl (by decide) rfl hS hl.1 rfl (Nat.le_of_ble_eq_true rfl) dX2_word_6 rfl rfl ⟨Nat.le_of_ble_eq_true rfl, Nat.le_of_ble_eq_true rfl⟩ (fun rr H locs hp hS => ?_)
  obtain ⟨hrr, hH⟩ := hp
  have hrr : rr = bI (1 ≤ n ∧ n ≤ 6) := hrr
  subst hrr
  have hX : MH E A ad F M H := by rw [hH]; exact hX
  refine r_if_eq_b (tgt := 29) C dX2_word_9 (by decide) (fun c_1 => ?_) (fun c_1 => ?_)
  · refine r_const C dX2_word_29 ?_
    exact r_iret C hS (Nat.le_of_ble_eq_true rfl) (Nat.le_of_ble_eq_true rfl) dX2_word_30 ⟨(F 30), (M 31), (M 32), (by first | exact Eq.symm (sel_f (fun q => absurd q.1.1 (by assumption))) | exact Eq.symm (sel_f (fun q => absurd q.1.2 (by assumption)))), (by first | exact Eq.symm (sel_f (fun q => absurd q.1.1 (by assumption))) | exact Eq.symm (sel_f (fun q => absurd q.1.2 (by assumption)))), (by first | exact Eq.symm (sel_f (fun q => absurd q.1.1 (by assumption))) | exact Eq.symm (sel_f (fun q => absurd q.1.2 (by assumption)))), (by first | exact Eq.symm (sel_f (fun q => absurd q.1.1 (by assumption))) | exact Eq.symm (sel_f (fun q => absurd q.1.2 (by assumption)))), (hX.to ((up_id F (k := 30) (a := (F 30)) rfl).symm.trans rfl) (((up_id M (k := 31) (a := (M 31)) rfl).symm.trans rfl).trans ((up_id (va_up M 31 (M 31)) (k := 32) (a := (M 32)) rfl).symm.trans rfl)))⟩
  · have hp2 := p2_12 (k := 2 * n) (by omega)
    refine lv_iload_n C.x C.b dX2_word_12 rfl (lv_at hl 2 rfl) ?_
    refine r_i2l C (by omega) dX2_word_13 ?_
    refine r_lconst C 0 rfl dX2_word_14 ?_
    refine r_const C dX2_word_15 ?_
    refine r_const C dX2_word_16 ?_
    refine lv_iload_n C.x C.b dX2_word_17 rfl (lv_at hl 1 rfl) ?_
    refine r_imul C dX2_word_18 ?_
    refine r_ishl C (by omega) (by omega) rfl dX2_word_19 ?_
    refine r_const C dX2_word_20 ?_
    refine r_isub C dX2_word_21 ?_
    refine r_i2l C (by omega) dX2_word_22 ?_
    refine r_callSi (As := [.long (zl v), .long (zl 0), .long (zl ((1 * 2 ^ (2 * n).toNat) - 1))]) (rest := []) (cells' := 0) (slots' := 0) C (met_X2_in l E A ad H v 0 ((1 * 2 ^ (2 * n).toNat) - 1) (show -9223372036854775808 ≤ v ∧ v < 9223372036854775808 from (by omega)) (show -9223372036854775808 ≤ 0 ∧ 0 < 9223372036854775808 from (by omega)) (show -9223372036854775808 ≤ ((1 * 2 ^ (2 * n).toNat) - 1) ∧ ((1 * 2 ^ (2 * n).toNat) - 1) < 9223372036854775808 from (by omega))) (lw_S q1209 q1210 q88 q1211) hd_X2_in rfl (by decide) rfl hS hl.1 rfl (Nat.le_of_ble_eq_true rfl) dX2_word_23 rfl rfl ⟨Nat.le_of_ble_eq_true rfl, Nat.le_of_ble_eq_true rfl⟩ (fun rr H locs hp hS => ?_)
    obtain ⟨hrr, hH⟩ := hp
    have hrr : rr = bI (0 ≤ v ∧ v ≤ ((1 * 2 ^ (2 * n).toNat) - 1)) := hrr
    subst hrr
    have hX : MH E A ad F M H := by rw [hH]; exact hX
    refine r_if_ne_b (tgt := 31) C dX2_word_26 (by decide) (fun c_2 => ?_) (fun c_2 => ?_)
    · have har : areS n 6 v := ⟨by assumption, by assumption⟩
      refine r_const C dX2_word_31 ?_
      refine lv_istore_n (lv' := [(3, .int (zi 0)), (0, .ref (ad 63)), (1, .int (zi n)), (2, .int (zi v))]) C.x C.b dX2_word_32 rfl hl (by decide) rfl (fun ls hl => ?_)
      have L33 : ∀ (fu : Nat) (v3 : Int) (h3 : 0 ≤ v3 ∧ v3 ≤ F 30) (hno : ∀ z : Int, 0 ≤ z → z < v3 → ¬ (M 31 z = n ∧ M 32 z = v)) (hm : Int.toNat (F 30 - v3) < fu) (H : Heap) (locs : List Loc) (ls : Array Slot) (hX : MH E A ad F M H) (hS : va_S A s.heap H locs) (hl : lv_has ls 4 [(0, .ref (ad 63)), (1, .int (zi n)), (2, .int (zi v)), (3, .int (zi v3))]), W p l e rm_X2_word s m args below meth c H locs 0 0 (MQ below (qi A (fun r H => ∃ f30 : Int, ∃ m31 : Int → Int, ∃ m32 : Int → Int, (f30 = sel (areS n 6 v ∧ ¬ (∃ z, 0 ≤ z ∧ z < F 30 ∧ M 31 z = n ∧ M 32 z = v) ∧ ¬ F 30 = 12) (F 30 + 1) (F 30)) ∧ (m31 = sel (areS n 6 v ∧ ¬ (∃ z, 0 ≤ z ∧ z < F 30 ∧ M 31 z = n ∧ M 32 z = v) ∧ ¬ F 30 = 12) (fup (M 31) (F 30) n) (M 31)) ∧ (m32 = sel (areS n 6 v ∧ ¬ (∃ z, 0 ≤ z ∧ z < F 30 ∧ M 31 z = n ∧ M 32 z = v) ∧ ¬ F 30 = 12) (fup (M 32) (F 30) v) (M 32)) ∧ (r = sel (areS n 6 v ∧ ¬ (∃ z, 0 ≤ z ∧ z < F 30 ∧ M 31 z = n ∧ M 32 z = v)) (sel (F 30 = 12) (-3) (F 30)) (-1)) ∧ MH E A ad (va_up F 30 f30) (va_up (va_up M 31 m31) 32 m32) H)) args s (rm_X2_word).cells (rm_X2_word).slots A) (F0 m 33 ls []) := by
        intro fu
        induction fu with
        | zero => intro v3 h3 hno hm; exact absurd hm (Nat.not_lt_zero _)
        | succ fu ih33 =>
          intro v3 h3 hno hm H locs ls hX hS hl
          refine lv_iload_n C.x C.b dX2_word_33 rfl (lv_at hl 3 rfl) ?_
          refine lv_aload_n C.x C.b dX2_word_34 rfl (lv_at hl 0 rfl) ?_
          refine mg_30 C hX (F 30) rfl dX2_word_35 (fun _ => ?_)
          refine r_icmp_ge (tgt := 69) C (by omega) (by omega) dX2_word_38 (by decide) (fun c_3 => ?_) (fun c_3 => ?_)
          · have hns : ¬ (∃ z, 0 ≤ z ∧ z < F 30 ∧ M 31 z = n ∧ M 32 z = v) := fun ⟨z, q1, q2, q3⟩ => hno z q1 (by omega) q3
            refine lv_aload_n C.x C.b dX2_word_69 rfl (lv_at hl 0 rfl) ?_
            refine mg_30 C hX (F 30) rfl dX2_word_70 (fun _ => ?_)
            refine r_bipush C (by decide) dX2_word_73 ?_
            refine r_icmp_ne (tgt := 81) C (by omega) (by decide) dX2_word_75 (by decide) (fun c_4 => ?_) (fun c_4 => ?_)
            · refine lv_aload_n C.x C.b dX2_word_81 rfl (lv_at hl 0 rfl) ?_
              refine mg_31 C hX dX2_word_82 ?_
              refine lv_aload_n C.x C.b dX2_word_85 rfl (lv_at hl 0 rfl) ?_
              refine mg_30 C hX (F 30) rfl dX2_word_86 (fun _ => ?_)
              refine lv_iload_n C.x C.b dX2_word_89 rfl (lv_at hl 1 rfl) ?_
              refine ms_31 C hX hS (by omega) (by omega) (M 31) rfl (M' := (va_up M 31 (fup (M 31) (F 30) n))) rfl dX2_word_90 (fun H locs hX hS => ?_)
              refine lv_aload_n C.x C.b dX2_word_91 rfl (lv_at hl 0 rfl) ?_
              refine mg_32 C hX dX2_word_92 ?_
              refine lv_aload_n C.x C.b dX2_word_95 rfl (lv_at hl 0 rfl) ?_
              refine mg_30 C hX (F 30) rfl dX2_word_96 (fun _ => ?_)
              refine lv_iload_n C.x C.b dX2_word_99 rfl (lv_at hl 2 rfl) ?_
              refine ms_32 C hX hS (by omega) (by omega) (M 32) rfl (M' := (va_up (va_up M 31 (fup (M 31) (F 30) n)) 32 (fup (M 32) (F 30) v))) rfl dX2_word_100 (fun H locs hX hS => ?_)
              refine lv_aload_n C.x C.b dX2_word_101 rfl (lv_at hl 0 rfl) ?_
              refine lv_dup C.x C.b dX2_word_102 rfl ?_
              refine mg_30 C hX (F 30) rfl dX2_word_103 (fun _ => ?_)
              refine r_const C dX2_word_106 ?_
              refine r_iadd C dX2_word_107 ?_
              refine mp_30 C hX hS (by omega) (F' := (va_up F 30 ((F 30) + 1))) rfl dX2_word_108 (fun H locs hX hS => ?_)
              refine lv_aload_n C.x C.b dX2_word_111 rfl (lv_at hl 0 rfl) ?_
              refine mg_30 C hX ((F 30) + 1) rfl dX2_word_112 (fun r112 => ?_)
              refine r_const C dX2_word_115 ?_
              refine r_isub C dX2_word_116 ?_
              exact r_iret C hS (Nat.le_of_ble_eq_true rfl) (Nat.le_of_ble_eq_true rfl) dX2_word_117 ⟨((F 30) + 1), (fup (M 31) (F 30) n), (fup (M 32) (F 30) v), (Eq.symm (sel_t ⟨har, hns, by assumption⟩)), (Eq.symm (sel_t ⟨har, hns, by assumption⟩)), (Eq.symm (sel_t ⟨har, hns, by assumption⟩)), (by rw [sel_t ⟨har, hns⟩, sel_f (by assumption)]; omega), hX⟩
            · refine r_bipush C (by decide) dX2_word_78 ?_
              exact r_iret C hS (Nat.le_of_ble_eq_true rfl) (Nat.le_of_ble_eq_true rfl) dX2_word_80 ⟨(F 30), (M 31), (M 32), (Eq.symm (sel_f (fun q => q.2.2 (by assumption)))), (Eq.symm (sel_f (fun q => q.2.2 (by assumption)))), (Eq.symm (sel_f (fun q => q.2.2 (by assumption)))), (by rw [sel_t ⟨har, hns⟩, sel_t (by assumption)]), (hX.to ((up_id F (k := 30) (a := (F 30)) rfl).symm.trans rfl) (((up_id M (k := 31) (a := (M 31)) rfl).symm.trans rfl).trans ((up_id (va_up M 31 (M 31)) (k := 32) (a := (M 32)) rfl).symm.trans rfl)))⟩
          · refine lv_aload_n C.x C.b dX2_word_41 rfl (lv_at hl 0 rfl) ?_
            refine mg_31 C hX dX2_word_42 ?_
            refine lv_iload_n C.x C.b dX2_word_45 rfl (lv_at hl 3 rfl) ?_
            refine ml_31 C hX (by omega) (M 31) rfl dX2_word_46 (fun r46 => ?_)
            refine lv_iload_n C.x C.b dX2_word_47 rfl (lv_at hl 1 rfl) ?_
            refine r_icmp_ne (tgt := 63) C (by omega) (by omega) dX2_word_48 (by decide) (fun c_5 => ?_) (fun c_5 => ?_)
            · refine r_iinc (lv' := [(3, .int (zi (v3 + 1))), (0, .ref (ad 63)), (1, .int (zi n)), (2, .int (zi v))]) C dX2_word_63 hl (k := 3) rfl (by decide) rfl (fun ls hl => ?_)
              refine lv_goto (tgt := 33) C.x C.b dX2_word_66 (by decide) ?_
              exact ih33 (v3 + 1) (by omega) ((bl_s (P := fun z => ¬ (M 31 z = n ∧ M 32 z = v)) h3.1).2 ⟨hno, fun q => by first | exact absurd q.1 (by assumption) | exact absurd q.2 (by assumption)⟩) (by omega) H locs ls hX hS (lv_sub hl [1, 2, 3, 0] rfl)
            · refine lv_aload_n C.x C.b dX2_word_51 rfl (lv_at hl 0 rfl) ?_
              refine mg_32 C hX dX2_word_52 ?_
              refine lv_iload_n C.x C.b dX2_word_55 rfl (lv_at hl 3 rfl) ?_
              refine ml_32 C hX (by omega) (M 32) rfl dX2_word_56 (fun r56 => ?_)
              refine lv_iload_n C.x C.b dX2_word_57 rfl (lv_at hl 2 rfl) ?_
              refine r_icmp_ne (tgt := 63) C (by omega) (by omega) dX2_word_58 (by decide) (fun c_6 => ?_) (fun c_6 => ?_)
              · refine r_iinc (lv' := [(3, .int (zi (v3 + 1))), (0, .ref (ad 63)), (1, .int (zi n)), (2, .int (zi v))]) C dX2_word_63 hl (k := 3) rfl (by decide) rfl (fun ls hl => ?_)
                refine lv_goto (tgt := 33) C.x C.b dX2_word_66 (by decide) ?_
                exact ih33 (v3 + 1) (by omega) ((bl_s (P := fun z => ¬ (M 31 z = n ∧ M 32 z = v)) h3.1).2 ⟨hno, fun q => by first | exact absurd q.1 (by assumption) | exact absurd q.2 (by assumption)⟩) (by omega) H locs ls hX hS (lv_sub hl [1, 2, 3, 0] rfl)
              · refine r_const C dX2_word_61 ?_
                exact r_iret C hS (Nat.le_of_ble_eq_true rfl) (Nat.le_of_ble_eq_true rfl) dX2_word_62 ⟨(F 30), (M 31), (M 32), (Eq.symm (sel_f (fun q => q.2.1 ⟨v3, h3.1, by omega, by assumption, by assumption⟩))), (Eq.symm (sel_f (fun q => q.2.1 ⟨v3, h3.1, by omega, by assumption, by assumption⟩))), (Eq.symm (sel_f (fun q => q.2.1 ⟨v3, h3.1, by omega, by assumption, by assumption⟩))), (Eq.symm (sel_f (fun q => q.2 ⟨v3, h3.1, by omega, by assumption, by assumption⟩))), (hX.to ((up_id F (k := 30) (a := (F 30)) rfl).symm.trans rfl) (((up_id M (k := 31) (a := (M 31)) rfl).symm.trans rfl).trans ((up_id (va_up M 31 (M 31)) (k := 32) (a := (M 32)) rfl).symm.trans rfl)))⟩
      exact L33 _ 0 (by omega) (fun z a b => absurd a (by omega)) (Nat.lt_succ_self _) H locs ls hX hS (lv_sub hl [1, 2, 3, 0] rfl)
    · refine r_const C dX2_word_29 ?_
      exact r_iret C hS (Nat.le_of_ble_eq_true rfl) (Nat.le_of_ble_eq_true rfl) dX2_word_30 ⟨(F 30), (M 31), (M 32), (by first | exact Eq.symm (sel_f (fun q => absurd q.1.1 (by assumption))) | exact Eq.symm (sel_f (fun q => absurd q.1.2 (by assumption)))), (by first | exact Eq.symm (sel_f (fun q => absurd q.1.1 (by assumption))) | exact Eq.symm (sel_f (fun q => absurd q.1.2 (by assumption)))), (by first | exact Eq.symm (sel_f (fun q => absurd q.1.1 (by assumption))) | exact Eq.symm (sel_f (fun q => absurd q.1.2 (by assumption)))), (by first | exact Eq.symm (sel_f (fun q => absurd q.1.1 (by assumption))) | exact Eq.symm (sel_f (fun q => absurd q.1.2 (by assumption)))), (hX.to ((up_id F (k := 30) (a := (F 30)) rfl).symm.trans rfl) (((up_id M (k := 31) (a := (M 31)) rfl).symm.trans rfl).trans ((up_id (va_up M 31 (M 31)) (k := 32) (a := (M 32)) rfl).symm.trans rfl)))⟩
