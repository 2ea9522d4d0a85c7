set_option maxRecDepth 100000

theorem hd_X0_marked : yX0_marked.cls ≠ "java/lang/invoke/MethodHandle" ∧ yX0_marked.cls ≠ "java/lang/invoke/VarHandle" ∧ (parseMethodDescriptor yX0_marked.desc).map (fun d => d.parameters.length) = some 2 := by decide +kernel
abbrev rm_X0_marked : Room := { frames := 0, cells := 0, slots := 0, locals := 0 }
set_option maxHeartbeats 8000000 in
theorem met_X0_marked (l : Launch) (E : us_E) (A : Nat → Prop) (H0 : Heap) (v : Int) (k : Int) (hv : -2147483648 ≤ v ∧ v < 2147483648) (hk : 0 ≤ k ∧ k < 4) : cMet l yX0_marked cX0_marked 2 (some .int) rm_X0_marked A E [.int (zi v), .int (zi k)] (fun H => H = H0) (qi A (fun r H => (0 ≤ mk5 v k ∧ mk5 v k ≤ 31) ∧ (r = mk5 v k) ∧ (H = H0))) := by
  refine cMet.of (by decide) (Nat.le_of_ble_eq_true rfl) (fun p e s m args below meth c C hnm hX hS ls hl => ?_)
  have C : Cx p s m args meth c A RX0 cX0_marked 2 (some .int) E := C
  have hX : s.heap = H0 := hX
  have hl : lv_has ls 2 [(0, .int (zi v)), (1, .int (zi k))] := hl
  generalize hH : s.heap = H at hX
  have hS : va_S A s.heap H [] := by rw [← hH]; exact hS
  generalize hlocs : ([] : List Loc) = locs at hS ⊢
  obtain ⟨QQ, hQQ⟩ : ∃ zQQ, MQ below (qi A (fun r H => (0 ≤ mk5 v k ∧ mk5 v k ≤ 31) ∧ (r = mk5 v k) ∧ (H = H0))) args s (rm_X0_marked).cells (rm_X0_marked).slots A = zQQ := ⟨_, rfl⟩
  rw [hQQ]
  refine lv_iload_n C.x C.b dX0_marked_0 rfl (lv_at hl 0 rfl) ?_
  refine r_const C dX0_marked_1 ?_
  refine lv_iload_n C.x C.b dX0_marked_2 rfl (lv_at hl 1 rfl) ?_
  refine r_imul C dX0_marked_3 ?_
  refine r_ishr C (by omega) (by omega) rfl dX0_marked_4 ?_
  refine r_bipush C (by decide) dX0_marked_5 ?_
  refine r_iand C (zi_and31 _) dX0_marked_7 ?_
  rw [← hQQ]
  exact r_iret C hS (Nat.le_of_ble_eq_true rfl) (Nat.le_of_ble_eq_true rfl) dX0_marked_8 ⟨(mk5_r v k), (by first | rfl | exact (sel_t (by omega)).symm | exact (sel_f (by omega)).symm | omega), hX⟩

theorem hd_X0_isCounted : yX0_isCounted.cls ≠ "java/lang/invoke/MethodHandle" ∧ yX0_isCounted.cls ≠ "java/lang/invoke/VarHandle" ∧ (parseMethodDescriptor yX0_isCounted.desc).map (fun d => d.parameters.length) = some 1 := by decide +kernel
abbrev rm_X0_isCounted : Room := { frames := 1, cells := 0, slots := 0, locals := 25 }
set_option maxHeartbeats 8000000 in
theorem met_X0_isCounted (l : Launch) (E : us_E) (A : Nat → Prop) (H0 : Heap) (v : Int) (hv : -2147483648 ≤ v ∧ v < 2147483648) : cMet l yX0_isCounted cX0_isCounted 3 (some .boolean) rm_X0_isCounted A E [.int (zi v)] (fun H => H = H0) (qi A (fun r H => (r = bI (okM v)) ∧ (H = H0))) := by
  refine cMet.of (by decide) (Nat.le_of_ble_eq_true rfl) (fun p e s m args below meth c C hnm hX hS ls hl => ?_)
  have C : Cx p s m args meth c A RX0 cX0_isCounted 3 (some .boolean) E := C
  have hX : s.heap = H0 := hX
  have hl : lv_has ls 3 [(0, .int (zi v))] := hl
  generalize hH : s.heap = H at hX
  have hS : va_S A s.heap H [] := by rw [← hH]; exact hS
  generalize hlocs : ([] : List Loc) = locs at hS ⊢
  obtain ⟨QQ, hQQ⟩ : ∃ zQQ, MQ below (qi A (fun r H => (r = bI (okM v)) ∧ (H = H0))) args s (rm_X0_isCounted).cells (rm_X0_isCounted).slots A = zQQ := ⟨_, rfl⟩
  rw [hQQ]
  refine lv_iload_n C.x C.b dX0_isCounted_0 rfl (lv_at hl 0 rfl) ?_
  refine r_i2l C (by omega) dX0_isCounted_1 ?_
  refine r_lconst C 0 rfl dX0_isCounted_2 ?_
  refine r_ldc2 C 1048575 (by decide) q278 dX0_isCounted_3 ?_
  refine r_callSi (As := [.long (zl v), .long (zl 0), .long (zl 1048575)]) (rest := []) (cells' := 0) (slots' := 0) C (met_X0_isIn l E A H v 0 1048575 (show -9223372036854775808 ≤ v ∧ v < 9223372036854775808 from (by omega)) (show -9223372036854775808 ≤ (0 : Int) ∧ (0 : Int) < 9223372036854775808 from (by omega)) (show -9223372036854775808 ≤ (1048575 : Int) ∧ (1048575 : Int) < 9223372036854775808 from (by omega))) (lw_S q117 q118 q86 q119) hd_X0_isIn rfl (by decide) rfl hS hl.1 rfl (Nat.le_of_ble_eq_true rfl) dX0_isCounted_6 rfl rfl ⟨Nat.le_of_ble_eq_true rfl, Nat.le_of_ble_eq_true rfl⟩ (fun rr H locs hp hS => ?_)
  obtain ⟨hrr, hH⟩ := hp
  have hrr : rr = bI ((0 : Int) ≤ v ∧ v ≤ (1048575 : Int)) := hrr
  subst hrr
  have hX : H = H0 := by rw [hH]; exact hX
  refine lv_istore_n (lv' := [(1, .int (zi (bI ((0 : Int) ≤ v ∧ v ≤ (1048575 : Int))))), (0, .int (zi v))]) C.x C.b dX0_isCounted_9 rfl hl (by decide) rfl (fun ls hl => ?_)
  refine r_const C dX0_isCounted_10 ?_
  refine lv_istore_n (lv' := [(2, .int (zi 0)), (1, .int (zi (bI ((0 : Int) ≤ v ∧ v ≤ (1048575 : Int))))), (0, .int (zi v))]) C.x C.b dX0_isCounted_11 rfl hl (by decide) rfl (fun ls hl => ?_)
  have L12 : ∀ (fu : Nat) (v1 : Prop) (xv1 : Int) (hv1 : xv1 = bI v1) (v2 : Int) (hi : 0 ≤ v2 ∧ v2 ≤ 4) (hb : v1 ↔ ((0 ≤ v ∧ v ≤ 1048575) ∧ ∀ k : Int, 0 ≤ k → k < v2 → ¬ 20 < mk5 v k)) (hm : Int.toNat (4 - v2) < fu) (H : Heap) (locs : List Loc) (ls : Array Slot) (hX : H = H0) (hS : va_S A s.heap H locs) (hl : lv_has ls 3 [(0, .int (zi v)), (1, .int (zi xv1)), (2, .int (zi v2))]), W p l e rm_X0_isCounted s m args below meth c H locs 0 0 QQ (F0 m 12 ls []) := by
    intro fu
    induction fu with
    | zero => intro v1 xv1 hv1 v2 hi hb hm; exact absurd hm (Nat.not_lt_zero _)
    | succ fu ih12 =>
      intro v1 xv1 hv1 v2 hi hb hm H locs ls hX hS hl
      subst hv1
      refine lv_iload_n C.x C.b dX0_isCounted_12 rfl (lv_at hl 2 rfl) ?_
      refine r_const C dX0_isCounted_13 ?_
      refine r_icmp_ge (tgt := 43) C (by omega) (by decide) dX0_isCounted_14 (by decide) (fun c_1 => ?_) (fun c_1 => ?_)
      · refine lv_iload_n C.x C.b dX0_isCounted_43 rfl (lv_at hl 1 rfl) ?_
        rw [← hQQ]
        exact r_zret C (bI_e _) hS (Nat.le_of_ble_eq_true rfl) (Nat.le_of_ble_eq_true rfl) dX0_isCounted_44 ⟨(bI_c (by rw [hb, show v2 = 4 by omega]; exact Iff.rfl)), hX⟩
      · refine lv_iload_n C.x C.b dX0_isCounted_17 rfl (lv_at hl 1 rfl) ?_
        have J36_2 : ∀ (t0 : Int) (ht0 : t0 = bI (v1 ∧ (¬ (20 < (mk5 v v2))))) (H : Heap) (locs : List Loc) (ls : Array Slot) (hX : H = H0) (hS : va_S A s.heap H locs) (hl : lv_has ls 3 [(0, .int (zi v)), (1, .int (zi (bI v1))), (2, .int (zi v2))]), W p l e rm_X0_isCounted s m args below meth c H locs 0 0 QQ (F0 m 36 ls [.int (zi t0)]) := by
          intro t0 ht0 H locs ls hX hS hl
          subst ht0
          refine lv_istore_n (lv' := [(1, .int (zi (bI (v1 ∧ (¬ (20 < (mk5 v v2))))))), (0, .int (zi v)), (2, .int (zi v2))]) C.x C.b dX0_isCounted_36 rfl hl (by decide) rfl (fun ls hl => ?_)
          refine r_iinc (lv' := [(2, .int (zi (v2 + 1))), (1, .int (zi (bI (v1 ∧ (¬ (20 < (mk5 v v2))))))), (0, .int (zi v))]) C dX0_isCounted_37 hl (k := 2) rfl (by decide) rfl (fun ls hl => ?_)
          refine lv_goto (tgt := 12) C.x C.b dX0_isCounted_40 (by decide) ?_
          exact ih12 (v1 ∧ (¬ (20 < (mk5 v v2)))) (bI (v1 ∧ (¬ (20 < (mk5 v v2))))) rfl (v2 + 1) (by omega) (ba_st (P := fun k => ¬ 20 < mk5 v k) (by omega) hb) (by omega) H locs ls hX hS (lv_sub hl [2, 1, 0] rfl)
        refine r_if_eq_b (tgt := 35) C dX0_isCounted_18 (by decide) (fun c_3 => ?_) (fun c_3 => ?_)
        · refine r_const C dX0_isCounted_35 ?_
          exact J36_2 0 ((bI_f (fun q => c_3 q.1)).symm) H locs ls hX hS hl
        · refine lv_iload_n C.x C.b dX0_isCounted_21 rfl (lv_at hl 0 rfl) ?_
          refine lv_iload_n C.x C.b dX0_isCounted_22 rfl (lv_at hl 2 rfl) ?_
          refine r_callSi (As := [.int (zi v), .int (zi v2)]) (rest := []) (cells' := 0) (slots' := 0) C (met_X0_marked l E A H v v2 (show -2147483648 ≤ v ∧ v < 2147483648 from (by omega)) (show 0 ≤ v2 ∧ v2 < 4 from (by omega))) (lw_S q279 q280 q86 q281) hd_X0_marked rfl (by decide) rfl hS hl.1 rfl (Nat.le_of_ble_eq_true rfl) dX0_isCounted_23 rfl rfl ⟨Nat.le_of_ble_eq_true rfl, Nat.le_of_ble_eq_true rfl⟩ (fun rr H locs hp hS => ?_)
          obtain ⟨hmk, hrr, hH⟩ := hp
          have hrr : rr = mk5 v v2 := hrr
          subst hrr
          have hX : H = H0 := by rw [hH]; exact hX
          replace hmk : 0 ≤ mk5 v v2 ∧ mk5 v v2 ≤ 31 := hmk
          refine r_bipush C (by decide) dX0_isCounted_26 ?_
          refine r_icmp_gt (tgt := 35) C (by omega) (by decide) dX0_isCounted_28 (by decide) (fun c_4 => ?_) (fun c_4 => ?_)
          · refine r_const C dX0_isCounted_35 ?_
            exact J36_2 0 ((bI_f (fun q => (fun q => q c_4) q.2)).symm) H locs ls hX hS hl
          · refine r_const C dX0_isCounted_31 ?_
            refine lv_goto (tgt := 36) C.x C.b dX0_isCounted_32 (by decide) ?_
            exact J36_2 1 ((bI_t ⟨c_3, c_4⟩).symm) H locs ls hX hS hl
  exact L12 _ ((0 : Int) ≤ v ∧ v ≤ (1048575 : Int)) (bI ((0 : Int) ≤ v ∧ v ≤ (1048575 : Int))) rfl 0 (by omega) ba_0 (Nat.lt_succ_self _) H locs ls hX hS (lv_sub hl [2, 1, 0] rfl)

theorem hd_X0_account : yX0_account.cls = RX0 ∧ yX0_account.cls ≠ "java/lang/invoke/MethodHandle" ∧ yX0_account.cls ≠ "java/lang/invoke/VarHandle" ∧ (parseMethodDescriptor yX0_account.desc).map (fun d => d.parameters.length) = some 2 := by decide +kernel
abbrev rm_X0_account : Room := { frames := 2, cells := 0, slots := 0, locals := 47 }
set_option maxHeartbeats 8000000 in
theorem met_X0_account (l : Launch) (E : us_E) (A : Nat → Prop) (B : Nat → Int → Nat) (F : Nat → Int) (M : Nat → Int → Int) (G : Nat → Int → Option Nat) (T : x_T) (a : Int) (b : Int) (ha : -2147483648 ≤ a ∧ a < 2147483648) (hb : -2147483648 ≤ b ∧ b < 2147483648) : cMet l yX0_account cX0_account 3 (some .int) rm_X0_account A E [.ref (B 49 0), .int (zi a), .int (zi b)] (fun H => XH E A B F M G T H) (qi A (fun r H => ∃ f21 : Int, ∃ m19 : Int → Int, ∃ m20 : Int → Int, (f21 = sel ((okM a ∧ okM b) ∧ ¬ F 21 = 8) (F 21 + 1) (F 21)) ∧ (m19 = sel ((okM a ∧ okM b) ∧ ¬ F 21 = 8) (fup (M 19) (F 21) a) (M 19)) ∧ (m20 = sel ((okM a ∧ okM b) ∧ ¬ F 21 = 8) (fup (M 20) (F 21) b) (M 20)) ∧ (r = sel (okM a ∧ okM b) (sel (F 21 = 8) (-3) (F 21)) (-1)) ∧ XH E A B (va_up F 21 f21) (va_up (va_up M 19 m19) 20 m20) G T H)) := by
  refine cMet.of (by decide) (Nat.le_of_ble_eq_true rfl) (fun p e s m args below meth c C hnm hX hS ls hl => ?_)
  have C : Cx p s m args meth c A RX0 cX0_account 3 (some .int) E := C
  have hX : XH E A B F M G T s.heap := hX
  have hl : lv_has ls 3 [(0, .ref (B 49 0)), (1, .int (zi a)), (2, .int (zi b))] := hl
  generalize hH : s.heap = H at hX
  have hS : va_S A s.heap H [] := by rw [← hH]; exact hS
  generalize hlocs : ([] : List Loc) = locs at hS ⊢
  obtain ⟨QQ, hQQ⟩ : ∃ zQQ, MQ below (qi A (fun r H => ∃ f21 : Int, ∃ m19 : Int → Int, ∃ m20 : Int → Int, (f21 = sel ((okM a ∧ okM b) ∧ ¬ F 21 = 8) (F 21 + 1) (F 21)) ∧ (m19 = sel ((okM a ∧ okM b) ∧ ¬ F 21 = 8) (fup (M 19) (F 21) a) (M 19)) ∧ (m20 = sel ((okM a ∧ okM b) ∧ ¬ F 21 = 8) (fup (M 20) (F 21) b) (M 20)) ∧ (r = sel (okM a ∧ okM b) (sel (F 21 = 8) (-3) (F 21)) (-1)) ∧ XH E A B (va_up F 21 f21) (va_up (va_up M 19 m19) 20 m20) G T H)) args s (rm_X0_account).cells (rm_X0_account).slots A = zQQ := ⟨_, rfl⟩
  rw [hQQ]
  have rF21 : 0 ≤ F 21 ∧ F 21 ≤ 8 := hX.2.1 21 (0, 8) rfl
  refine lv_iload_n C.x C.b dX0_account_0 rfl (lv_at hl 1 rfl) ?_
  refine r_callSi (As := [.int (zi a)]) (rest := []) (cells' := 0) (slots' := 0) C (met_X0_isCounted l E A H a (show -2147483648 ≤ a ∧ a < 2147483648 from (by omega))) (lw_S q275 q276 q86 q277) hd_X0_isCounted rfl (by decide) rfl hS hl.1 rfl (Nat.le_of_ble_eq_true rfl) dX0_account_1 rfl rfl ⟨Nat.le_of_ble_eq_true rfl, Nat.le_of_ble_eq_true rfl⟩ (fun rr H locs hp hS => ?_)
  obtain ⟨hrr, hH⟩ := hp
  have hrr : rr = bI (okM a) := hrr
  subst hrr
  have hX : XH E A B F M G T H := by rw [hH]; exact hX
  refine r_if_eq_b (tgt := 14) C dX0_account_4 (by decide) (fun c_1 => ?_) (fun c_1 => ?_)
  · refine r_const C dX0_account_14 ?_
    rw [← hQQ]
    exact r_iret C hS (Nat.le_of_ble_eq_true rfl) (Nat.le_of_ble_eq_true rfl) dX0_account_15 ⟨(F 21), (M 19), (M 20), (by first | exact Eq.symm (sel_f (fun q => absurd q.1.1 (by assumption))) | exact Eq.symm (sel_f (fun q => absurd q.1.2 (by assumption)))), (by first | exact Eq.symm (sel_f (fun q => absurd q.1.1 (by assumption))) | exact Eq.symm (sel_f (fun q => absurd q.1.2 (by assumption)))), (by first | exact Eq.symm (sel_f (fun q => absurd q.1.1 (by assumption))) | exact Eq.symm (sel_f (fun q => absurd q.1.2 (by assumption)))), (by first | exact Eq.symm (sel_f (fun q => absurd q.1 (by assumption))) | exact Eq.symm (sel_f (fun q => absurd q.2 (by assumption)))), (hX.to rfl ((up_id F (k := 21) (a := (F 21)) rfl).symm.trans rfl) (((up_id M (k := 19) (a := (M 19)) rfl).symm.trans rfl).trans ((up_id (va_up M 19 (M 19)) (k := 20) (a := (M 20)) rfl).symm.trans rfl)) rfl rfl)⟩
  · refine lv_iload_n C.x C.b dX0_account_7 rfl (lv_at hl 2 rfl) ?_
    refine r_callSi (As := [.int (zi b)]) (rest := []) (cells' := 0) (slots' := 0) C (met_X0_isCounted l E A H b (show -2147483648 ≤ b ∧ b < 2147483648 from (by omega))) (lw_S q275 q276 q86 q277) hd_X0_isCounted rfl (by decide) rfl hS hl.1 rfl (Nat.le_of_ble_eq_true rfl) dX0_account_8 rfl rfl ⟨Nat.le_of_ble_eq_true rfl, Nat.le_of_ble_eq_true rfl⟩ (fun rr H locs hp hS => ?_)
    obtain ⟨hrr, hH⟩ := hp
    have hrr : rr = bI (okM b) := hrr
    subst hrr
    have hX : XH E A B F M G T H := by rw [hH]; exact hX
    refine r_if_ne_b (tgt := 16) C dX0_account_11 (by decide) (fun c_2 => ?_) (fun c_2 => ?_)
    · refine lv_aload_n C.x C.b dX0_account_16 rfl (lv_at hl 0 rfl) ?_
      refine x_gi C hX 21 (by decide) rfl q757 (fun _ h => h) (F 21) rfl (b := (0, 8)) rfl dX0_account_17 (fun _ => ?_)
      refine r_bipush C (by decide) dX0_account_20 ?_
      refine r_icmp_ne (tgt := 28) C (by omega) (by decide) dX0_account_22 (by decide) (fun c_3 => ?_) (fun c_3 => ?_)
      · refine lv_aload_n C.x C.b dX0_account_28 rfl (lv_at hl 0 rfl) ?_
        refine x_ga C hX 19 (by decide) rfl q755 (fun _ h => h) dX0_account_29 ?_
        refine lv_aload_n C.x C.b dX0_account_32 rfl (lv_at hl 0 rfl) ?_
        refine x_gi C hX 21 (by decide) rfl q757 (fun _ h => h) (F 21) rfl (b := (0, 8)) rfl dX0_account_33 (fun _ => ?_)
        have hoa := (show okM a by assumption).1
        have hob := (show okM b by assumption).1
        refine lv_iload_n C.x C.b dX0_account_36 rfl (lv_at hl 1 rfl) ?_
        refine x_si1 C hX hS 19 rfl (by decide) rfl (show 0 ≤ (F 21) ∧ (F 21) < 8 from (by omega)) (by decide) (fun b hb => by cases hb; exact (show 0 ≤ a ∧ a ≤ 1048575 from (by omega))) (M' := (va_up M 19 (fup (M 19) (F 21) a))) rfl dX0_account_37 (fun H locs hX hS => ?_)
        refine lv_aload_n C.x C.b dX0_account_38 rfl (lv_at hl 0 rfl) ?_
        refine x_ga C hX 20 (by decide) rfl q756 (fun _ h => h) dX0_account_39 ?_
        refine lv_aload_n C.x C.b dX0_account_42 rfl (lv_at hl 0 rfl) ?_
        refine x_gi C hX 21 (by decide) rfl q757 (fun _ h => h) (F 21) rfl (b := (0, 8)) rfl dX0_account_43 (fun _ => ?_)
        refine lv_iload_n C.x C.b dX0_account_46 rfl (lv_at hl 2 rfl) ?_
        refine x_si1 C hX hS 20 rfl (by decide) rfl (show 0 ≤ (F 21) ∧ (F 21) < 8 from (by omega)) (by decide) (fun b hb => by cases hb; exact (show 0 ≤ b ∧ b ≤ 1048575 from (by omega))) (M' := (va_up (va_up M 19 (fup (M 19) (F 21) a)) 20 (fup (M 20) (F 21) b))) rfl dX0_account_47 (fun H locs hX hS => ?_)
        refine lv_aload_n C.x C.b dX0_account_48 rfl (lv_at hl 0 rfl) ?_
        refine lv_dup C.x C.b dX0_account_49 rfl ?_
        refine x_gi C hX 21 (by decide) rfl q757 (fun _ h => h) (F 21) rfl (b := (0, 8)) rfl dX0_account_50 (fun _ => ?_)
        refine r_const C dX0_account_53 ?_
        refine r_iadd C dX0_account_54 ?_
        refine x_pi C hX hS 21 (by decide) rfl (by decide) rfl rfl q757 (fun _ h => h) (b := (0, 8)) rfl (show 0 ≤ (F 21) + 1 ∧ (F 21) + 1 ≤ 8 from (by omega)) (F' := (va_up F 21 ((F 21) + 1))) rfl dX0_account_55 (fun H locs hX hS => ?_)
        refine lv_aload_n C.x C.b dX0_account_58 rfl (lv_at hl 0 rfl) ?_
        refine x_gi C hX 21 (by decide) rfl q757 (fun _ h => h) ((F 21) + 1) rfl (b := (0, 8)) rfl dX0_account_59 (fun r59 => ?_)
        have r59 : 0 ≤ (F 21) + 1 ∧ (F 21) + 1 ≤ 8 := r59
        refine r_const C dX0_account_62 ?_
        refine r_isub C dX0_account_63 ?_
        rw [← hQQ]
        exact r_iret C hS (Nat.le_of_ble_eq_true rfl) (Nat.le_of_ble_eq_true rfl) dX0_account_64 ⟨((F 21) + 1), (fup (M 19) (F 21) a), (fup (M 20) (F 21) b), (Eq.symm (sel_t ⟨⟨by assumption, by assumption⟩, by assumption⟩)), (Eq.symm (sel_t ⟨⟨by assumption, by assumption⟩, by assumption⟩)), (Eq.symm (sel_t ⟨⟨by assumption, by assumption⟩, by assumption⟩)), (by rw [sel_t ⟨by assumption, by assumption⟩, sel_f (by assumption)]; omega), hX⟩
      · refine r_bipush C (by decide) dX0_account_25 ?_
        rw [← hQQ]
        exact r_iret C hS (Nat.le_of_ble_eq_true rfl) (Nat.le_of_ble_eq_true rfl) dX0_account_27 ⟨(F 21), (M 19), (M 20), (Eq.symm (sel_f (fun q => absurd (show F 21 = 8 by assumption) q.2))), (Eq.symm (sel_f (fun q => absurd (show F 21 = 8 by assumption) q.2))), (Eq.symm (sel_f (fun q => absurd (show F 21 = 8 by assumption) q.2))), (by rw [sel_t ⟨by assumption, by assumption⟩, sel_t (by assumption)]), (hX.to rfl ((up_id F (k := 21) (a := (F 21)) rfl).symm.trans rfl) (((up_id M (k := 19) (a := (M 19)) rfl).symm.trans rfl).trans ((up_id (va_up M 19 (M 19)) (k := 20) (a := (M 20)) rfl).symm.trans rfl)) rfl rfl)⟩
    · refine r_const C dX0_account_14 ?_
      rw [← hQQ]
      exact r_iret C hS (Nat.le_of_ble_eq_true rfl) (Nat.le_of_ble_eq_true rfl) dX0_account_15 ⟨(F 21), (M 19), (M 20), (by first | exact Eq.symm (sel_f (fun q => absurd q.1.1 (by assumption))) | exact Eq.symm (sel_f (fun q => absurd q.1.2 (by assumption)))), (by first | exact Eq.symm (sel_f (fun q => absurd q.1.1 (by assumption))) | exact Eq.symm (sel_f (fun q => absurd q.1.2 (by assumption)))), (by first | exact Eq.symm (sel_f (fun q => absurd q.1.1 (by assumption))) | exact Eq.symm (sel_f (fun q => absurd q.1.2 (by assumption)))), (by first | exact Eq.symm (sel_f (fun q => absurd q.1 (by assumption))) | exact Eq.symm (sel_f (fun q => absurd q.2 (by assumption)))), (hX.to rfl ((up_id F (k := 21) (a := (F 21)) rfl).symm.trans rfl) (((up_id M (k := 19) (a := (M 19)) rfl).symm.trans rfl).trans ((up_id (va_up M 19 (M 19)) (k := 20) (a := (M 20)) rfl).symm.trans rfl)) rfl rfl)⟩

theorem hd_X0_pick : yX0_pick.cls = RX0 ∧ yX0_pick.cls ≠ "java/lang/invoke/MethodHandle" ∧ yX0_pick.cls ≠ "java/lang/invoke/VarHandle" ∧ (parseMethodDescriptor yX0_pick.desc).map (fun d => d.parameters.length) = some 1 := by decide +kernel
abbrev rm_X0_pick : Room := { frames := 0, cells := 0, slots := 0, locals := 0 }
set_option maxHeartbeats 8000000 in
theorem met_X0_pick (l : Launch) (E : us_E) (A : Nat → Prop) (B : Nat → Int → Nat) (F : Nat → Int) (M : Nat → Int → Int) (G : Nat → Int → Option Nat) (T : x_T) (z : Int) (hz : 0 ≤ z ∧ z < 4096) : cMet l yX0_pick cX0_pick 3 none rm_X0_pick A E [.ref (B 49 0), .int (zi z)] (fun H => XH E A B F M G T H) (qv A (fun H => ∃ m22 : Int → Int, (∀ k : Int, 0 ≤ k → k < 4 → m22 k = vc z k) ∧ XH E A B F (va_up M 22 m22) G T H)) := by
  refine cMet.of (by decide) (Nat.le_of_ble_eq_true rfl) (fun p e s m args below meth c C hnm hX hS ls hl => ?_)
  have C : Cx p s m args meth c A RX0 cX0_pick 3 none E := C
  have hX : XH E A B F M G T s.heap := hX
  have hl : lv_has ls 3 [(0, .ref (B 49 0)), (1, .int (zi z))] := hl
  generalize hH : s.heap = H at hX
  have hS : va_S A s.heap H [] := by rw [← hH]; exact hS
  generalize hlocs : ([] : List Loc) = locs at hS ⊢
  obtain ⟨QQ, hQQ⟩ : ∃ zQQ, MQ below (qv A (fun H => ∃ m22 : Int → Int, (∀ k : Int, 0 ≤ k → k < 4 → m22 k = vc z k) ∧ XH E A B F (va_up M 22 m22) G T H)) args s (rm_X0_pick).cells (rm_X0_pick).slots A = zQQ := ⟨_, rfl⟩
  rw [hQQ]
  refine r_const C dX0_pick_0 ?_
  refine lv_istore_n (lv' := [(2, .int (zi 0)), (0, .ref (B 49 0)), (1, .int (zi z))]) C.x C.b dX0_pick_1 rfl hl (by decide) rfl (fun ls hl => ?_)
  have L2 : ∀ (fu : Nat) (v2 : Int) (m22 : Int → Int) (h2 : 0 ≤ v2 ∧ v2 ≤ 4) (hv : ∀ k : Int, 0 ≤ k → k < v2 → m22 k = vc z k) (hm : Int.toNat (4 - v2) < fu) (H : Heap) (locs : List Loc) (ls : Array Slot) (hX : XH E A B F (va_up M 22 m22) G T H) (hS : va_S A s.heap H locs) (hl : lv_has ls 3 [(0, .ref (B 49 0)), (1, .int (zi z)), (2, .int (zi v2))]), W p l e rm_X0_pick s m args below meth c H locs 0 0 QQ (F0 m 2 ls []) := by
    intro fu
    induction fu with
    | zero => intro v2 m22 h2 hv hm; exact absurd hm (Nat.not_lt_zero _)
    | succ fu ih2 =>
      intro v2 m22 h2 hv hm H locs ls hX hS hl
      refine lv_iload_n C.x C.b dX0_pick_2 rfl (lv_at hl 2 rfl) ?_
      refine r_const C dX0_pick_3 ?_
      refine r_icmp_ge (tgt := 29) C (by omega) (by decide) dX0_pick_4 (by decide) (fun c_1 => ?_) (fun c_1 => ?_)
      · rw [← hQQ]
        exact r_vret C hS (Nat.le_of_ble_eq_true rfl) (Nat.le_of_ble_eq_true rfl) dX0_pick_29 ⟨m22, (fun k a b => hv k a (by omega)), hX⟩
      · refine lv_aload_n C.x C.b dX0_pick_7 rfl (lv_at hl 0 rfl) ?_
        refine x_ga C hX 22 (by decide) rfl q758 (fun _ h => h) dX0_pick_8 ?_
        refine lv_iload_n C.x C.b dX0_pick_11 rfl (lv_at hl 2 rfl) ?_
        refine lv_iload_n C.x C.b dX0_pick_12 rfl (lv_at hl 1 rfl) ?_
        refine r_const C dX0_pick_13 ?_
        refine r_const C dX0_pick_14 ?_
        refine lv_iload_n C.x C.b dX0_pick_15 rfl (lv_at hl 2 rfl) ?_
        refine r_isub C dX0_pick_16 ?_
        refine r_imul C dX0_pick_17 ?_
        refine r_ishr C (by omega) (by omega) rfl dX0_pick_18 ?_
        refine r_bipush C (by decide) dX0_pick_19 ?_
        refine r_iand C (zi_and7 _) dX0_pick_21 ?_
        refine x_si1 C hX hS 22 rfl (by decide) rfl (show 0 ≤ v2 ∧ v2 < 4 from (by omega)) (by decide) (fun b hb => by cases hb; exact (show 0 ≤ (z / 2 ^ (3 * (3 - v2)).toNat) % 8 ∧ (z / 2 ^ (3 * (3 - v2)).toNat) % 8 ≤ 7 from (by omega))) (M' := (va_up M 22 (fup m22 v2 ((z / 2 ^ (3 * (3 - v2)).toNat) % 8)))) (up_up _ _ _ _) dX0_pick_22 (fun H locs hX hS => ?_)
        refine r_iinc (lv' := [(2, .int (zi (v2 + 1))), (0, .ref (B 49 0)), (1, .int (zi z))]) C dX0_pick_23 hl (k := 2) rfl (by decide) rfl (fun ls hl => ?_)
        refine lv_goto (tgt := 2) C.x C.b dX0_pick_26 (by decide) ?_
        exact ih2 (v2 + 1) (fup m22 v2 ((z / 2 ^ (3 * (3 - v2)).toNat) % 8)) (by omega) (fup_st (P := fun j x => x = vc z j) hv rfl) (by omega) H locs ls hX hS (lv_sub hl [1, 2, 0] rfl)
  exact L2 _ 0 (M 22) (by omega) (fun j a b => absurd a (by omega)) (Nat.lt_succ_self _) H locs ls (hX.to rfl rfl ((up_id M (k := 22) (a := (M 22)) rfl).symm.trans rfl) rfl rfl) hS (lv_sub hl [1, 2, 0] rfl)

theorem hd_X0_doFit : yX0_doFit.cls = RX0 ∧ yX0_doFit.cls ≠ "java/lang/invoke/MethodHandle" ∧ yX0_doFit.cls ≠ "java/lang/invoke/VarHandle" ∧ (parseMethodDescriptor yX0_doFit.desc).map (fun d => d.parameters.length) = some 0 := by decide +kernel
abbrev rm_X0_doFit : Room := { frames := 1, cells := 0, slots := 0, locals := 21 }
set_option maxHeartbeats 8000000 in
theorem met_X0_doFit (l : Launch) (E : us_E) (A : Nat → Prop) (B : Nat → Int → Nat) (F : Nat → Int) (M : Nat → Int → Int) (G : Nat → Int → Option Nat) (T : x_T) : cMet l yX0_doFit cX0_doFit 5 (some .boolean) rm_X0_doFit A E [.ref (B 49 0)] (fun H => XH E A B F M G T H) (qi A (fun r H => (r = bI (Unl (M 22) ∧ Adds (M 22) (M 19) (M 20) (F 21))) ∧ XH E A B F M G T H)) := by
  refine cMet.of (by decide) (Nat.le_of_ble_eq_true rfl) (fun p e s m args below meth c C hnm hX hS ls hl => ?_)
  have C : Cx p s m args meth c A RX0 cX0_doFit 5 (some .boolean) E := C
  have hX : XH E A B F M G T s.heap := hX
  have hl : lv_has ls 5 [(0, .ref (B 49 0))] := hl
  generalize hH : s.heap = H at hX
  have hS : va_S A s.heap H [] := by rw [← hH]; exact hS
  generalize hlocs : ([] : List Loc) = locs at hS ⊢
  obtain ⟨QQ, hQQ⟩ : ∃ zQQ, MQ below (qi A (fun r H => (r = bI (Unl (M 22) ∧ Adds (M 22) (M 19) (M 20) (F 21))) ∧ XH E A B F M G T H)) args s (rm_X0_doFit).cells (rm_X0_doFit).slots A = zQQ := ⟨_, rfl⟩
  rw [hQQ]
  have rF21 : 0 ≤ F 21 ∧ F 21 ≤ 8 := hX.2.1 21 (0, 8) rfl
  refine r_const C dX0_doFit_0 ?_
  refine lv_istore_n (lv' := [(1, .int (zi 1)), (0, .ref (B 49 0))]) C.x C.b dX0_doFit_1 rfl hl (by decide) rfl (fun ls hl => ?_)
  refine r_const C dX0_doFit_2 ?_
  refine lv_istore_n (lv' := [(2, .int (zi 0)), (1, .int (zi 1)), (0, .ref (B 49 0))]) C.x C.b dX0_doFit_3 rfl hl (by decide) rfl (fun ls hl => ?_)
  have L4 : ∀ (fu : Nat) (v1 : Prop) (xv1 : Int) (hv1 : xv1 = bI v1) (v2 : Int) (h2 : 0 ≤ v2 ∧ v2 ≤ 4) (hu : v1 ↔ ∀ a : Int, 0 ≤ a → a < v2 → ∀ b : Int, 0 ≤ b → b < a → ¬ M 22 a = M 22 b) (hm : Int.toNat (4 - v2) < fu) (H : Heap) (locs : List Loc) (ls : Array Slot) (hX : XH E A B F M G T H) (hS : va_S A s.heap H locs) (hl : lv_has ls 5 [(0, .ref (B 49 0)), (1, .int (zi xv1)), (2, .int (zi v2))]), W p l e rm_X0_doFit s m args below meth c H locs 0 0 QQ (F0 m 4 ls []) := by
    intro fu
    induction fu with
    | zero => intro v1 xv1 hv1 v2 h2 hu hm; exact absurd hm (Nat.not_lt_zero _)
    | succ fu ih4 =>
      intro v1 xv1 hv1 v2 h2 hu hm H locs ls hX hS hl
      subst hv1
      refine lv_iload_n C.x C.b dX0_doFit_4 rfl (lv_at hl 2 rfl) ?_
      refine r_const C dX0_doFit_5 ?_
      refine r_icmp_ge (tgt := 53) C (by omega) (by decide) dX0_doFit_6 (by decide) (fun c_1 => ?_) (fun c_1 => ?_)
      · refine r_const C dX0_doFit_53 ?_
        refine lv_istore_n (lv' := [(2, .int (zi 0)), (0, .ref (B 49 0)), (1, .int (zi (bI v1)))]) C.x C.b dX0_doFit_54 rfl hl (by decide) rfl (fun ls hl => ?_)
        have L55 : ∀ (fu : Nat) (v1_55 : Prop) (xv1_55 : Int) (hv1_55 : xv1_55 = bI v1_55) (v2_55 : Int) (hk : 0 ≤ v2_55 ∧ v2_55 ≤ F 21) (hb : v1_55 ↔ (Unl (M 22) ∧ ∀ k : Int, 0 ≤ k → k < v2_55 → asum (M 22) (M 19 k) (M 20 k) = 0)) (hm : Int.toNat (F 21 - v2_55) < fu) (H : Heap) (locs : List Loc) (ls : Array Slot) (hX : XH E A B F M G T H) (hS : va_S A s.heap H locs) (hl : lv_has ls 5 [(0, .ref (B 49 0)), (1, .int (zi xv1_55)), (2, .int (zi v2_55))]), W p l e rm_X0_doFit s m args below meth c H locs 0 0 QQ (F0 m 55 ls []) := by
          intro fu
          induction fu with
          | zero => intro v1_55 xv1_55 hv1_55 v2_55 hk hb hm; exact absurd hm (Nat.not_lt_zero _)
          | succ fu ih55 =>
            intro v1_55 xv1_55 hv1_55 v2_55 hk hb hm H locs ls hX hS hl
            subst hv1_55
            refine lv_iload_n C.x C.b dX0_doFit_55 rfl (lv_at hl 2 rfl) ?_
            refine lv_aload_n C.x C.b dX0_doFit_56 rfl (lv_at hl 0 rfl) ?_
            refine x_gi C hX 21 (by decide) rfl q757 (fun _ h => h) (F 21) rfl (b := (0, 8)) rfl dX0_doFit_57 (fun _ => ?_)
            refine r_icmp_ge (tgt := 138) C (by omega) (by omega) dX0_doFit_60 (by decide) (fun c_2 => ?_) (fun c_2 => ?_)
            · refine lv_iload_n C.x C.b dX0_doFit_138 rfl (lv_at hl 1 rfl) ?_
              rw [← hQQ]
              exact r_zret C (bI_e _) hS (Nat.le_of_ble_eq_true rfl) (Nat.le_of_ble_eq_true rfl) dX0_doFit_139 ⟨(bI_c (by first | (rw [hb, show v2_55 = F 21 by omega]; exact Iff.rfl) | exact ⟨fun q => absurd q (by assumption), fun q => absurd (hb.2 ⟨q.1, fun k a b => q.2 k a (by omega)⟩) (by assumption)⟩)), hX⟩
            · refine lv_iload_n C.x C.b dX0_doFit_63 rfl (lv_at hl 1 rfl) ?_
              refine r_if_eq_b (tgt := 138) C dX0_doFit_64 (by decide) (fun c_3 => ?_) (fun c_3 => ?_)
              · refine lv_iload_n C.x C.b dX0_doFit_138 rfl (lv_at hl 1 rfl) ?_
                rw [← hQQ]
                exact r_zret C (bI_e _) hS (Nat.le_of_ble_eq_true rfl) (Nat.le_of_ble_eq_true rfl) dX0_doFit_139 ⟨(bI_c (by first | (rw [hb, show v2_55 = F 21 by omega]; exact Iff.rfl) | exact ⟨fun q => absurd q (by assumption), fun q => absurd (hb.2 ⟨q.1, fun k a b => q.2 k a (by omega)⟩) (by assumption)⟩)), hX⟩
              · refine r_const C dX0_doFit_67 ?_
                refine lv_istore_n (lv' := [(3, .int (zi 0)), (0, .ref (B 49 0)), (1, .int (zi (bI v1_55))), (2, .int (zi v2_55))]) C.x C.b dX0_doFit_68 rfl hl (by decide) rfl (fun ls hl => ?_)
                refine r_const C dX0_doFit_69 ?_
                refine lv_istore (lv' := [(4, .int (zi 0)), (3, .int (zi 0)), (0, .ref (B 49 0)), (1, .int (zi (bI v1_55))), (2, .int (zi v2_55))]) C.x C.b dX0_doFit_70 hl (by decide) rfl (fun ls hl => ?_)
                have L72 : ∀ (fu : Nat) (v3_72 : Int) (v4_72 : Int) (hm4 : 0 ≤ v4_72 ∧ v4_72 ≤ 4) (hs : v3_72 = isum (fun k => lst (M 22 k) * (mk5 (M 19 v2_55) k - mk5 (M 20 v2_55) k)) v4_72) (hr : -(1860 * v4_72) ≤ v3_72 ∧ v3_72 ≤ 1860 * v4_72) (hm : Int.toNat (4 - v4_72) < fu) (H : Heap) (locs : List Loc) (ls : Array Slot) (hX : XH E A B F M G T H) (hS : va_S A s.heap H locs) (hl : lv_has ls 5 [(0, .ref (B 49 0)), (1, .int (zi (bI v1_55))), (2, .int (zi v2_55)), (3, .int (zi v3_72)), (4, .int (zi v4_72))]), W p l e rm_X0_doFit s m args below meth c H locs 0 0 QQ (F0 m 72 ls []) := by
                  intro fu
                  induction fu with
                  | zero => intro v3_72 v4_72 hm4 hs hr hm; exact absurd hm (Nat.not_lt_zero _)
                  | succ fu ih72 =>
                    intro v3_72 v4_72 hm4 hs hr hm H locs ls hX hS hl
                    refine lv_iload C.x C.b dX0_doFit_72 (lv_at hl 4 rfl) ?_
                    refine r_const C dX0_doFit_74 ?_
                    refine r_icmp_ge (tgt := 122) C (by omega) (by decide) dX0_doFit_75 (by decide) (fun c_4 => ?_) (fun c_4 => ?_)
                    · have eb := ba_st (P := fun k => asum (M 22) (M 19 k) (M 20 k) = 0) hk.1 hb
                      have e2 : asum (M 22) (M 19 v2_55) (M 20 v2_55) = v3_72 := by rw [hs, show v4_72 = 4 by omega]; rfl
                      have hst : v3_72 = 0 ↔ (Unl (M 22) ∧ ∀ k : Int, 0 ≤ k → k < (v2_55 + 1) → asum (M 22) (M 19 k) (M 20 k) = 0) := by
                        rw [← eb, e2]
                        exact ⟨fun q => ⟨by assumption, q⟩, fun q => q.2⟩
                      refine lv_iload_n C.x C.b dX0_doFit_122 rfl (lv_at hl 3 rfl) ?_
                      have J131_5 : ∀ (t0 : Int) (ht0 : t0 = bI (v3_72 = 0)) (H : Heap) (locs : List Loc) (ls : Array Slot) (hX : XH E A B F M G T H) (hS : va_S A s.heap H locs) (hl : lv_has ls 5 [(0, .ref (B 49 0)), (1, .int (zi (bI v1_55))), (2, .int (zi v2_55)), (3, .int (zi v3_72)), (4, .int (zi v4_72))]), W p l e rm_X0_doFit s m args below meth c H locs 0 0 QQ (F0 m 131 ls [.int (zi t0)]) := by
                        intro t0 ht0 H locs ls hX hS hl
                        subst ht0
                        refine lv_istore_n (lv' := [(1, .int (zi (bI (v3_72 = 0)))), (0, .ref (B 49 0)), (2, .int (zi v2_55)), (3, .int (zi v3_72)), (4, .int (zi v4_72))]) C.x C.b dX0_doFit_131 rfl hl (by decide) rfl (fun ls hl => ?_)
                        refine r_iinc (lv' := [(2, .int (zi (v2_55 + 1))), (1, .int (zi (bI (v3_72 = 0)))), (0, .ref (B 49 0)), (3, .int (zi v3_72)), (4, .int (zi v4_72))]) C dX0_doFit_132 hl (k := 2) rfl (by decide) rfl (fun ls hl => ?_)
                        refine lv_goto (tgt := 55) C.x C.b dX0_doFit_135 (by decide) ?_
                        exact ih55 (v3_72 = 0) (bI (v3_72 = 0)) rfl (v2_55 + 1) (by omega) hst (by omega) H locs ls hX hS (lv_sub hl [2, 1, 0] rfl)
                      refine r_if_ne (tgt := 130) C (by omega) dX0_doFit_123 (by decide) (fun c_6 => ?_) (fun c_6 => ?_)
                      · refine r_const C dX0_doFit_130 ?_
                        exact J131_5 0 ((bI_f c_6).symm) H locs ls hX hS hl
                      · refine r_const C dX0_doFit_126 ?_
                        refine lv_goto (tgt := 131) C.x C.b dX0_doFit_127 (by decide) ?_
                        exact J131_5 1 ((bI_t c_6).symm) H locs ls hX hS hl
                    · refine lv_iload_n C.x C.b dX0_doFit_78 rfl (lv_at hl 3 rfl) ?_
                      refine x_LIST C hS q295 dX0_doFit_79 ?_
                      refine lv_aload_n C.x C.b dX0_doFit_82 rfl (lv_at hl 0 rfl) ?_
                      refine x_ga C hX 22 (by decide) rfl q758 (fun _ h => h) dX0_doFit_83 ?_
                      refine lv_iload C.x C.b dX0_doFit_86 (lv_at hl 4 rfl) ?_
                      refine x_li1 C hX 22 rfl (by decide) rfl (show 0 ≤ v4_72 ∧ v4_72 < 4 from (by omega)) (by decide) (M 22 v4_72) rfl dX0_doFit_88 (fun r88 => ?_)
                      have r88 : 0 ≤ M 22 v4_72 ∧ M 22 v4_72 ≤ 7 := r88 (0, 7) rfl
                      refine x_ltab C hS (show 0 ≤ (M 22 v4_72) ∧ (M 22 v4_72) < 8 from (by omega)) dX0_doFit_89 (fun _ => ?_)
                      refine lv_aload_n C.x C.b dX0_doFit_90 rfl (lv_at hl 0 rfl) ?_
                      refine x_ga C hX 19 (by decide) rfl q755 (fun _ h => h) dX0_doFit_91 ?_
                      refine lv_iload_n C.x C.b dX0_doFit_94 rfl (lv_at hl 2 rfl) ?_
                      refine x_li1 C hX 19 rfl (by decide) rfl (show 0 ≤ v2_55 ∧ v2_55 < 8 from (by omega)) (by decide) (M 19 v2_55) rfl dX0_doFit_95 (fun r95 => ?_)
                      have r95 : 0 ≤ M 19 v2_55 ∧ M 19 v2_55 ≤ 1048575 := r95 (0, 1048575) rfl
                      refine lv_iload C.x C.b dX0_doFit_96 (lv_at hl 4 rfl) ?_
                      refine r_callSi (As := [.int (zi (M 19 v2_55)), .int (zi v4_72)]) (rest := [.int (zi (lst (M 22 v4_72))), .int (zi v3_72)]) (cells' := 0) (slots' := 0) C (met_X0_marked l E A H (M 19 v2_55) v4_72 (show -2147483648 ≤ (M 19 v2_55) ∧ (M 19 v2_55) < 2147483648 from (by omega)) (show 0 ≤ v4_72 ∧ v4_72 < 4 from (by omega))) (lw_S q279 q280 q86 q281) hd_X0_marked rfl (by decide) rfl hS hl.1 rfl (Nat.le_of_ble_eq_true rfl) dX0_doFit_98 rfl rfl ⟨Nat.le_of_ble_eq_true rfl, Nat.le_of_ble_eq_true rfl⟩ (fun rr H locs hp hS => ?_)
                      obtain ⟨hmk1, hrr, hH⟩ := hp
                      have hrr : rr = mk5 (M 19 v2_55) v4_72 := hrr
                      subst hrr
                      have hX : XH E A B F M G T H := by rw [hH]; exact hX
                      replace hmk1 : 0 ≤ mk5 (M 19 v2_55) v4_72 ∧ mk5 (M 19 v2_55) v4_72 ≤ 31 := hmk1
                      refine lv_aload_n C.x C.b dX0_doFit_101 rfl (lv_at hl 0 rfl) ?_
                      refine x_ga C hX 20 (by decide) rfl q756 (fun _ h => h) dX0_doFit_102 ?_
                      refine lv_iload_n C.x C.b dX0_doFit_105 rfl (lv_at hl 2 rfl) ?_
                      refine x_li1 C hX 20 rfl (by decide) rfl (show 0 ≤ v2_55 ∧ v2_55 < 8 from (by omega)) (by decide) (M 20 v2_55) rfl dX0_doFit_106 (fun r106 => ?_)
                      have r106 : 0 ≤ M 20 v2_55 ∧ M 20 v2_55 ≤ 1048575 := r106 (0, 1048575) rfl
                      refine lv_iload C.x C.b dX0_doFit_107 (lv_at hl 4 rfl) ?_
                      refine r_callSi (As := [.int (zi (M 20 v2_55)), .int (zi v4_72)]) (rest := [.int (zi (mk5 (M 19 v2_55) v4_72)), .int (zi (lst (M 22 v4_72))), .int (zi v3_72)]) (cells' := 0) (slots' := 0) C (met_X0_marked l E A H (M 20 v2_55) v4_72 (show -2147483648 ≤ (M 20 v2_55) ∧ (M 20 v2_55) < 2147483648 from (by omega)) (show 0 ≤ v4_72 ∧ v4_72 < 4 from (by omega))) (lw_S q279 q280 q86 q281) hd_X0_marked rfl (by decide) rfl hS hl.1 rfl (Nat.le_of_ble_eq_true rfl) dX0_doFit_109 rfl rfl ⟨Nat.le_of_ble_eq_true rfl, Nat.le_of_ble_eq_true rfl⟩ (fun rr H locs hp hS => ?_)
                      obtain ⟨hmk2, hrr, hH⟩ := hp
                      have hrr : rr = mk5 (M 20 v2_55) v4_72 := hrr
                      subst hrr
                      have hX : XH E A B F M G T H := by rw [hH]; exact hX
                      replace hmk2 : 0 ≤ mk5 (M 20 v2_55) v4_72 ∧ mk5 (M 20 v2_55) v4_72 ≤ 31 := hmk2
                      refine r_isub C dX0_doFit_112 ?_
                      have hp := lst_mul (M 22 v4_72) (mk5 (M 19 v2_55) v4_72 - mk5 (M 20 v2_55) v4_72) (by omega)
                      refine r_imul C dX0_doFit_113 ?_
                      refine r_iadd C dX0_doFit_114 ?_
                      refine lv_istore_n (lv' := [(3, .int (zi (v3_72 + ((lst (M 22 v4_72)) * ((mk5 (M 19 v2_55) v4_72) - (mk5 (M 20 v2_55) v4_72)))))), (0, .ref (B 49 0)), (1, .int (zi (bI v1_55))), (2, .int (zi v2_55)), (4, .int (zi v4_72))]) C.x C.b dX0_doFit_115 rfl hl (by decide) rfl (fun ls hl => ?_)
                      refine r_iinc (lv' := [(4, .int (zi (v4_72 + 1))), (3, .int (zi (v3_72 + ((lst (M 22 v4_72)) * ((mk5 (M 19 v2_55) v4_72) - (mk5 (M 20 v2_55) v4_72)))))), (0, .ref (B 49 0)), (1, .int (zi (bI v1_55))), (2, .int (zi v2_55))]) C dX0_doFit_116 hl (k := 4) rfl (by decide) rfl (fun ls hl => ?_)
                      refine lv_goto (tgt := 72) C.x C.b dX0_doFit_119 (by decide) ?_
                      exact ih72 (v3_72 + ((lst (M 22 v4_72)) * ((mk5 (M 19 v2_55) v4_72) - (mk5 (M 20 v2_55) v4_72)))) (v4_72 + 1) (by omega) (isum_st (by omega) hs rfl) (by omega) (by omega) H locs ls hX hS (lv_sub hl [2, 3, 4, 1, 0] rfl)
                exact L72 _ 0 0 (by omega) rfl (by omega) (Nat.lt_succ_self _) H locs ls hX hS (lv_sub hl [2, 3, 4, 1, 0] rfl)
        exact L55 _ v1 (bI v1) rfl 0 (by omega) (Iff.trans (by rw [hu, show v2 = 4 by omega]; exact Iff.rfl) ba_0) (Nat.lt_succ_self _) H locs ls hX hS (lv_sub hl [1, 2, 0] rfl)
      · refine r_const C dX0_doFit_9 ?_
        refine lv_istore_n (lv' := [(3, .int (zi 0)), (0, .ref (B 49 0)), (1, .int (zi (bI v1))), (2, .int (zi v2))]) C.x C.b dX0_doFit_10 rfl hl (by decide) rfl (fun ls hl => ?_)
        have L11 : ∀ (fu : Nat) (v1 : Prop) (xv1 : Int) (hv1 : xv1 = bI v1) (v3 : Int) (h3 : 0 ≤ v3 ∧ v3 ≤ v2) (hw : v1 ↔ ((∀ a : Int, 0 ≤ a → a < v2 → ∀ b : Int, 0 ≤ b → b < a → ¬ M 22 a = M 22 b) ∧ ∀ b : Int, 0 ≤ b → b < v3 → ¬ M 22 v2 = M 22 b)) (hm : Int.toNat (v2 - v3) < fu) (H : Heap) (locs : List Loc) (ls : Array Slot) (hX : XH E A B F M G T H) (hS : va_S A s.heap H locs) (hl : lv_has ls 5 [(0, .ref (B 49 0)), (1, .int (zi xv1)), (2, .int (zi v2)), (3, .int (zi v3))]), W p l e rm_X0_doFit s m args below meth c H locs 0 0 QQ (F0 m 11 ls []) := by
          intro fu
          induction fu with
          | zero => intro v1 xv1 hv1 v3 h3 hw hm; exact absurd hm (Nat.not_lt_zero _)
          | succ fu ih11 =>
            intro v1 xv1 hv1 v3 h3 hw hm H locs ls hX hS hl
            subst hv1
            refine lv_iload_n C.x C.b dX0_doFit_11 rfl (lv_at hl 3 rfl) ?_
            refine lv_iload_n C.x C.b dX0_doFit_12 rfl (lv_at hl 2 rfl) ?_
            refine r_icmp_ge (tgt := 47) C (by omega) (by omega) dX0_doFit_13 (by decide) (fun c_7 => ?_) (fun c_7 => ?_)
            · refine r_iinc (lv' := [(2, .int (zi (v2 + 1))), (0, .ref (B 49 0)), (1, .int (zi (bI v1))), (3, .int (zi v3))]) C dX0_doFit_47 hl (k := 2) rfl (by decide) rfl (fun ls hl => ?_)
              refine lv_goto (tgt := 4) C.x C.b dX0_doFit_50 (by decide) ?_
              exact ih4 v1 (bI v1) rfl (v2 + 1) (by omega) (bl_out (P := fun a => ∀ b : Int, 0 ≤ b → b < a → ¬ M 22 a = M 22 b) (by omega) hw (by rw [show v3 = v2 by omega])) (by omega) H locs ls hX hS (lv_sub hl [1, 2, 0] rfl)
            · refine lv_iload_n C.x C.b dX0_doFit_16 rfl (lv_at hl 1 rfl) ?_
              have J40_8 : ∀ (t0 : Int) (ht0 : t0 = bI (v1 ∧ (¬ ((M 22 v2) = (M 22 v3))))) (H : Heap) (locs : List Loc) (ls : Array Slot) (hX : XH E A B F M G T H) (hS : va_S A s.heap H locs) (hl : lv_has ls 5 [(0, .ref (B 49 0)), (1, .int (zi (bI v1))), (2, .int (zi v2)), (3, .int (zi v3))]), W p l e rm_X0_doFit s m args below meth c H locs 0 0 QQ (F0 m 40 ls [.int (zi t0)]) := by
                intro t0 ht0 H locs ls hX hS hl
                subst ht0
                refine lv_istore_n (lv' := [(1, .int (zi (bI (v1 ∧ (¬ ((M 22 v2) = (M 22 v3))))))), (0, .ref (B 49 0)), (2, .int (zi v2)), (3, .int (zi v3))]) C.x C.b dX0_doFit_40 rfl hl (by decide) rfl (fun ls hl => ?_)
                refine r_iinc (lv' := [(3, .int (zi (v3 + 1))), (1, .int (zi (bI (v1 ∧ (¬ ((M 22 v2) = (M 22 v3))))))), (0, .ref (B 49 0)), (2, .int (zi v2))]) C dX0_doFit_41 hl (k := 3) rfl (by decide) rfl (fun ls hl => ?_)
                refine lv_goto (tgt := 11) C.x C.b dX0_doFit_44 (by decide) ?_
                exact ih11 (v1 ∧ (¬ ((M 22 v2) = (M 22 v3)))) (bI (v1 ∧ (¬ ((M 22 v2) = (M 22 v3))))) rfl (v3 + 1) (by omega) (ba_st (P := fun b => ¬ M 22 v2 = M 22 b) (by omega) hw) (by omega) H locs ls hX hS (lv_sub hl [2, 1, 3, 0] rfl)
              refine r_if_eq_b (tgt := 39) C dX0_doFit_17 (by decide) (fun c_9 => ?_) (fun c_9 => ?_)
              · refine r_const C dX0_doFit_39 ?_
                exact J40_8 0 ((bI_f (fun q => c_9 q.1)).symm) H locs ls hX hS hl
              · refine lv_aload_n C.x C.b dX0_doFit_20 rfl (lv_at hl 0 rfl) ?_
                refine x_ga C hX 22 (by decide) rfl q758 (fun _ h => h) dX0_doFit_21 ?_
                refine lv_iload_n C.x C.b dX0_doFit_24 rfl (lv_at hl 2 rfl) ?_
                refine x_li1 C hX 22 rfl (by decide) rfl (show 0 ≤ v2 ∧ v2 < 4 from (by omega)) (by decide) (M 22 v2) rfl dX0_doFit_25 (fun r25 => ?_)
                have r25 : 0 ≤ M 22 v2 ∧ M 22 v2 ≤ 7 := r25 (0, 7) rfl
                refine lv_aload_n C.x C.b dX0_doFit_26 rfl (lv_at hl 0 rfl) ?_
                refine x_ga C hX 22 (by decide) rfl q758 (fun _ h => h) dX0_doFit_27 ?_
                refine lv_iload_n C.x C.b dX0_doFit_30 rfl (lv_at hl 3 rfl) ?_
                refine x_li1 C hX 22 rfl (by decide) rfl (show 0 ≤ v3 ∧ v3 < 4 from (by omega)) (by decide) (M 22 v3) rfl dX0_doFit_31 (fun r31 => ?_)
                have r31 : 0 ≤ M 22 v3 ∧ M 22 v3 ≤ 7 := r31 (0, 7) rfl
                refine r_icmp_eq (tgt := 39) C (by omega) (by omega) dX0_doFit_32 (by decide) (fun c_10 => ?_) (fun c_10 => ?_)
                · refine r_const C dX0_doFit_39 ?_
                  exact J40_8 0 ((bI_f (fun q => (fun q => q c_10) q.2)).symm) H locs ls hX hS hl
                · refine r_const C dX0_doFit_35 ?_
                  refine lv_goto (tgt := 40) C.x C.b dX0_doFit_36 (by decide) ?_
                  exact J40_8 1 ((bI_t ⟨c_9, c_10⟩).symm) H locs ls hX hS hl
        exact L11 _ v1 (bI v1) rfl 0 (by omega) (hu.trans ba_0) (Nat.lt_succ_self _) H locs ls hX hS (lv_sub hl [1, 2, 3, 0] rfl)
  exact L4 _ True 1 bI_T.symm 0 (by omega) bl_0 (Nat.lt_succ_self _) H locs ls hX hS (lv_sub hl [2, 1, 0] rfl)

theorem hd_X0_values : yX0_values.cls = RX0 ∧ yX0_values.cls ≠ "java/lang/invoke/MethodHandle" ∧ yX0_values.cls ≠ "java/lang/invoke/VarHandle" ∧ (parseMethodDescriptor yX0_values.desc).map (fun d => d.parameters.length) = some 1 := by decide +kernel
abbrev rm_X0_values : Room := { frames := 2, cells := 0, slots := 0, locals := 45 }
set_option maxHeartbeats 8000000 in
theorem met_X0_values (l : Launch) (E : us_E) (A : Nat → Prop) (B : Nat → Int → Nat) (F : Nat → Int) (M : Nat → Int → Int) (G : Nat → Int → Option Nat) (T : x_T) (w : Int) (hw : -2147483648 ≤ w ∧ w < 2147483648) : cMet l yX0_values cX0_values 4 (some .int) rm_X0_values A E [.ref (B 49 0), .int (zi w)] (fun H => XH E A B F M G T H) (qi A (fun r H => ∃ m22 : Int → Int, (r = sel (0 ≤ w ∧ w ≤ 4) (valS (M 19) (M 20) (F 21) w) (-1)) ∧ XH E A B F (va_up M 22 m22) G T H)) := by
  refine cMet.of (by decide) (Nat.le_of_ble_eq_true rfl) (fun p e s m args below meth c C hnm hX hS ls hl => ?_)
  have C : Cx p s m args meth c A RX0 cX0_values 4 (some .int) E := C
  have hX : XH E A B F M G T s.heap := hX
  have hl : lv_has ls 4 [(0, .ref (B 49 0)), (1, .int (zi w))] := hl
  generalize hH : s.heap = H at hX
  have hS : va_S A s.heap H [] := by rw [← hH]; exact hS
  generalize hlocs : ([] : List Loc) = locs at hS ⊢
  obtain ⟨QQ, hQQ⟩ : ∃ zQQ, MQ below (qi A (fun r H => ∃ m22 : Int → Int, (r = sel (0 ≤ w ∧ w ≤ 4) (valS (M 19) (M 20) (F 21) w) (-1)) ∧ XH E A B F (va_up M 22 m22) G T H)) args s (rm_X0_values).cells (rm_X0_values).slots A = zQQ := ⟨_, rfl⟩
  rw [hQQ]
  have rF21 : 0 ≤ F 21 ∧ F 21 ≤ 8 := hX.2.1 21 (0, 8) rfl
  refine lv_iload_n C.x C.b dX0_values_0 rfl (lv_at hl 1 rfl) ?_
  refine r_i2l C (by omega) dX0_values_1 ?_
  refine r_lconst C 0 rfl dX0_values_2 ?_
  refine r_ldc2 C 4 (by decide) q286 dX0_values_3 ?_
  refine r_callSi (As := [.long (zl w), .long (zl 0), .long (zl 4)]) (rest := []) (cells' := 0) (slots' := 0) C (met_X0_isIn l E A H w 0 4 (show -9223372036854775808 ≤ w ∧ w < 9223372036854775808 from (by omega)) (show -9223372036854775808 ≤ (0 : Int) ∧ (0 : Int) < 9223372036854775808 from (by omega)) (show -9223372036854775808 ≤ (4 : Int) ∧ (4 : Int) < 9223372036854775808 from (by omega))) (lw_S q117 q118 q86 q119) hd_X0_isIn rfl (by decide) rfl hS hl.1 rfl (Nat.le_of_ble_eq_true rfl) dX0_values_6 rfl rfl ⟨Nat.le_of_ble_eq_true rfl, Nat.le_of_ble_eq_true rfl⟩ (fun rr H locs hp hS => ?_)
  obtain ⟨hrr, hH⟩ := hp
  have hrr : rr = bI ((0 : Int) ≤ w ∧ w ≤ (4 : Int)) := hrr
  subst hrr
  have hX : XH E A B F M G T H := by rw [hH]; exact hX
  refine r_if_ne_b (tgt := 14) C dX0_values_9 (by decide) (fun c_1 => ?_) (fun c_1 => ?_)
  · refine r_const C dX0_values_14 ?_
    refine lv_istore_n (lv' := [(2, .int (zi 0)), (0, .ref (B 49 0)), (1, .int (zi w))]) C.x C.b dX0_values_15 rfl hl (by decide) rfl (fun ls hl => ?_)
    refine r_const C dX0_values_16 ?_
    refine lv_istore_n (lv' := [(3, .int (zi 0)), (2, .int (zi 0)), (0, .ref (B 49 0)), (1, .int (zi w))]) C.x C.b dX0_values_17 rfl hl (by decide) rfl (fun ls hl => ?_)
    have L18 : ∀ (fu : Nat) (v2 : Int) (v3 : Int) (m22 : Int → Int) (h3 : 0 ≤ v3 ∧ v3 ≤ 4096) (hn : v2 = isum (fun z => bI (fitc (M 19) (M 20) (F 21) z)) v3 ∨ 0 < w) (hno : 0 < w → ∀ z : Int, 0 ≤ z → z < v3 → ¬ fitc (M 19) (M 20) (F 21) z) (hm : Int.toNat (4096 - v3) < fu) (H : Heap) (locs : List Loc) (ls : Array Slot) (hX : XH E A B F (va_up M 22 m22) G T H) (hS : va_S A s.heap H locs) (hl : lv_has ls 4 [(0, .ref (B 49 0)), (1, .int (zi w)), (2, .int (zi v2)), (3, .int (zi v3))]), W p l e rm_X0_values s m args below meth c H locs 0 0 QQ (F0 m 18 ls []) := by
      intro fu
      induction fu with
      | zero => intro v2 v3 m22 h3 hn hno hm; exact absurd hm (Nat.not_lt_zero _)
      | succ fu ih18 =>
        intro v2 v3 m22 h3 hn hno hm H locs ls hX hS hl
        refine lv_iload_n C.x C.b dX0_values_18 rfl (lv_at hl 3 rfl) ?_
        refine r_sipush C (by decide) dX0_values_19 ?_
        refine r_icmp_ge (tgt := 63) C (by omega) (by decide) dX0_values_22 (by decide) (fun c_2 => ?_) (fun c_2 => ?_)
        · refine lv_iload_n C.x C.b dX0_values_63 rfl (lv_at hl 1 rfl) ?_
          refine r_if_ne (tgt := 71) C (by omega) dX0_values_64 (by decide) (fun c_3 => ?_) (fun c_3 => ?_)
          · refine r_bipush C (by decide) dX0_values_71 ?_
            rw [← hQQ]
            exact r_iret C hS (Nat.le_of_ble_eq_true rfl) (Nat.le_of_ble_eq_true rfl) dX0_values_73 ⟨m22, (by rw [sel_t (c := 0 ≤ w ∧ w ≤ 4) (by assumption)]; unfold valS; first | (rw [sel_t (c := w = 0) (by omega)]; unfold nfit; rw [← show v3 = 4096 by omega]; exact hn.resolve_right (by omega)) | (rw [sel_f (c := w = 0) (by omega), fst_none (by omega) (fun z a b => hno (by omega) z a (by omega)), sel_t rfl])), hX⟩
          · refine lv_iload_n C.x C.b dX0_values_67 rfl (lv_at hl 2 rfl) ?_
            refine lv_goto (tgt := 73) C.x C.b dX0_values_68 (by decide) ?_
            rw [← hQQ]
            exact r_iret C hS (Nat.le_of_ble_eq_true rfl) (Nat.le_of_ble_eq_true rfl) dX0_values_73 ⟨m22, (by rw [sel_t (c := 0 ≤ w ∧ w ≤ 4) (by assumption)]; unfold valS; first | (rw [sel_t (c := w = 0) (by omega)]; unfold nfit; rw [← show v3 = 4096 by omega]; exact hn.resolve_right (by omega)) | (rw [sel_f (c := w = 0) (by omega), fst_none (by omega) (fun z a b => hno (by omega) z a (by omega)), sel_t rfl])), hX⟩
        · refine lv_aload_n C.x C.b dX0_values_25 rfl (lv_at hl 0 rfl) ?_
          refine lv_iload_n C.x C.b dX0_values_26 rfl (lv_at hl 3 rfl) ?_
          refine r_callVv (As := [.int (zi v3)]) (rest := []) (cells' := 0) (slots' := 0) C (met_X0_pick l E A B F (va_up M 22 m22) G T v3 (show 0 ≤ v3 ∧ v3 < 4096 from (by omega))) (lw_V q287 q289 qs16 q86 q290) hd_X0_pick rfl (by decide) (x_this C hX) hX hS hl.1 rfl (Nat.le_of_ble_eq_true rfl) dX0_values_27 rfl rfl ⟨Nat.le_of_ble_eq_true rfl, Nat.le_of_ble_eq_true rfl⟩ (fun H locs hp hS => ?_)
          obtain ⟨vv, hv, hX⟩ := hp
          replace hv : ∀ k : Int, 0 ≤ k → k < 4 → vv k = vc v3 k := hv
          have hX : XH E A B F (va_up M 22 vv) G T H := hX.to rfl rfl (up_up _ _ _ _) rfl rfl
          have hfi := fitc_i (it := M 19) (to := M 20) (am := F 21) (m := vv) (c := v3) hv
          refine lv_aload_n C.x C.b dX0_values_30 rfl (lv_at hl 0 rfl) ?_
          refine r_callVi (As := []) (rest := []) (cells' := 0) (slots' := 0) C (met_X0_doFit l E A B F (va_up M 22 vv) G T) (lw_V q291 q293 qs17 q86 q294) hd_X0_doFit rfl (by decide) (x_this C hX) hX hS hl.1 rfl (Nat.le_of_ble_eq_true rfl) dX0_values_31 rfl rfl ⟨Nat.le_of_ble_eq_true rfl, Nat.le_of_ble_eq_true rfl⟩ (fun rr H locs hp hS => ?_)
          obtain ⟨hrr, hX⟩ := hp
          have hrr : rr = bI (Unl (vv) ∧ Adds (vv) ((M 19)) ((M 20)) ((F 21))) := hrr
          subst hrr
          refine r_if_eq_b (tgt := 57) C dX0_values_34 (by decide) (fun c_4 => ?_) (fun c_4 => ?_)
          · refine r_iinc (lv' := [(3, .int (zi (v3 + 1))), (0, .ref (B 49 0)), (1, .int (zi w)), (2, .int (zi v2))]) C dX0_values_57 hl (k := 3) rfl (by decide) rfl (fun ls hl => ?_)
            refine lv_goto (tgt := 18) C.x C.b dX0_values_60 (by decide) ?_
            exact ih18 v2 (v3 + 1) vv (by omega) (by rcases hn with q | q; (first | exact Or.inl (nf_yes h3.1 q (hfi.1 (by assumption))) | exact Or.inl (nf_no h3.1 q (fun y => absurd (hfi.2 y) (by assumption)))); exact Or.inr q) (fun q z a b => by first | exact absurd q (by omega) | (by_cases e : z = v3; (rw [e]; exact fun y => absurd (hfi.2 y) (by assumption)); exact hno q z a (by omega))) (by omega) H locs ls hX hS (lv_sub hl [1, 2, 3, 0] rfl)
          · refine lv_iload_n C.x C.b dX0_values_37 rfl (lv_at hl 1 rfl) ?_
            refine r_if_le (tgt := 54) C (by omega) dX0_values_38 (by decide) (fun c_5 => ?_) (fun c_5 => ?_)
            · refine r_iinc (lv' := [(2, .int (zi (v2 + 1))), (0, .ref (B 49 0)), (1, .int (zi w)), (3, .int (zi v3))]) C dX0_values_54 hl (k := 2) rfl (by decide) rfl (fun ls hl => ?_)
              refine r_iinc (lv' := [(3, .int (zi (v3 + 1))), (2, .int (zi (v2 + 1))), (0, .ref (B 49 0)), (1, .int (zi w))]) C dX0_values_57 hl (k := 3) rfl (by decide) rfl (fun ls hl => ?_)
              refine lv_goto (tgt := 18) C.x C.b dX0_values_60 (by decide) ?_
              exact ih18 (v2 + 1) (v3 + 1) vv (by omega) (by rcases hn with q | q; (first | exact Or.inl (nf_yes h3.1 q (hfi.1 (by assumption))) | exact Or.inl (nf_no h3.1 q (fun y => absurd (hfi.2 y) (by assumption)))); exact Or.inr q) (fun q z a b => by first | exact absurd q (by omega) | (by_cases e : z = v3; (rw [e]; exact fun y => absurd (hfi.2 y) (by assumption)); exact hno q z a (by omega))) (by omega) H locs ls hX hS (lv_sub hl [2, 3, 1, 0] rfl)
            · refine x_LIST C hS q295 dX0_values_41 ?_
              refine lv_aload_n C.x C.b dX0_values_44 rfl (lv_at hl 0 rfl) ?_
              refine x_ga C hX 22 (by decide) rfl q758 (fun _ h => h) dX0_values_45 ?_
              refine lv_iload_n C.x C.b dX0_values_48 rfl (lv_at hl 1 rfl) ?_
              refine r_const C dX0_values_49 ?_
              refine r_isub C dX0_values_50 ?_
              refine x_li1 C hX 22 rfl (by decide) rfl (show 0 ≤ (w - 1) ∧ (w - 1) < 4 from (by omega)) (by decide) (vv (w - 1)) rfl dX0_values_51 (fun r51 => ?_)
              have r51 : 0 ≤ vv (w - 1) ∧ vv (w - 1) ≤ 7 := r51 (0, 7) rfl
              have hv1 := hv (w - 1) (by omega) (by omega)
              have hvr := vc_r v3 (w - 1)
              refine x_ltab C hS (show 0 ≤ (vv (w - 1)) ∧ (vv (w - 1)) < 8 from (by omega)) dX0_values_52 (fun _ => ?_)
              have hfa := fst_at (P := fitc (M 19) (M 20) (F 21)) (n := 4096) h3.1 (by omega) (hfi.1 (by assumption)) (hno (by omega))
              rw [← hQQ]
              exact r_iret C hS (Nat.le_of_ble_eq_true rfl) (Nat.le_of_ble_eq_true rfl) dX0_values_53 ⟨vv, (by rw [sel_t (c := 0 ≤ w ∧ w ≤ 4) (by assumption)]; unfold valS; rw [sel_f (c := w = 0) (by omega), hfa, sel_f (by omega), hv1]), hX⟩
    exact L18 _ 0 0 (M 22) (by omega) (Or.inl rfl) (fun _ z a b => absurd a (by omega)) (Nat.lt_succ_self _) H locs ls (hX.to rfl rfl ((up_id M (k := 22) (a := (M 22)) rfl).symm.trans rfl) rfl rfl) hS (lv_sub hl [2, 3, 1, 0] rfl)
  · refine r_const C dX0_values_12 ?_
    rw [← hQQ]
    exact r_iret C hS (Nat.le_of_ble_eq_true rfl) (Nat.le_of_ble_eq_true rfl) dX0_values_13 ⟨(M 22), (Eq.symm (sel_f (by assumption))), (hX.to rfl rfl ((up_id M (k := 22) (a := (M 22)) rfl).symm.trans rfl) rfl rfl)⟩

theorem hd_X0_sure : yX0_sure.cls = RX0 ∧ yX0_sure.cls ≠ "java/lang/invoke/MethodHandle" ∧ yX0_sure.cls ≠ "java/lang/invoke/VarHandle" ∧ (parseMethodDescriptor yX0_sure.desc).map (fun d => d.parameters.length) = some 1 := by decide +kernel
abbrev rm_X0_sure : Room := { frames := 2, cells := 0, slots := 0, locals := 45 }
set_option maxHeartbeats 8000000 in
theorem met_X0_sure (l : Launch) (E : us_E) (A : Nat → Prop) (B : Nat → Int → Nat) (F : Nat → Int) (M : Nat → Int → Int) (G : Nat → Int → Option Nat) (T : x_T) (k : Int) (hk : -2147483648 ≤ k ∧ k < 2147483648) : cMet l yX0_sure cX0_sure 4 (some .int) rm_X0_sure A E [.ref (B 49 0), .int (zi k)] (fun H => XH E A B F M G T H) (qi A (fun r H => ∃ m22 : Int → Int, (r = sel (0 ≤ k ∧ k ≤ 3) (sureS (M 19) (M 20) (F 21) k) (-1)) ∧ XH E A B F (va_up M 22 m22) G T H)) := by
  refine cMet.of (by decide) (Nat.le_of_ble_eq_true rfl) (fun p e s m args below meth c C hnm hX hS ls hl => ?_)
  have C : Cx p s m args meth c A RX0 cX0_sure 4 (some .int) E := C
  have hX : XH E A B F M G T s.heap := hX
  have hl : lv_has ls 4 [(0, .ref (B 49 0)), (1, .int (zi k))] := hl
  generalize hH : s.heap = H at hX
  have hS : va_S A s.heap H [] := by rw [← hH]; exact hS
  generalize hlocs : ([] : List Loc) = locs at hS ⊢
  obtain ⟨QQ, hQQ⟩ : ∃ zQQ, MQ below (qi A (fun r H => ∃ m22 : Int → Int, (r = sel (0 ≤ k ∧ k ≤ 3) (sureS (M 19) (M 20) (F 21) k) (-1)) ∧ XH E A B F (va_up M 22 m22) G T H)) args s (rm_X0_sure).cells (rm_X0_sure).slots A = zQQ := ⟨_, rfl⟩
  rw [hQQ]
  have rF21 : 0 ≤ F 21 ∧ F 21 ≤ 8 := hX.2.1 21 (0, 8) rfl
  refine lv_iload_n C.x C.b dX0_sure_0 rfl (lv_at hl 1 rfl) ?_
  refine r_i2l C (by omega) dX0_sure_1 ?_
  refine r_lconst C 0 rfl dX0_sure_2 ?_
  refine r_ldc2 C 3 (by decide) q152 dX0_sure_3 ?_
  refine r_callSi (As := [.long (zl k), .long (zl 0), .long (zl 3)]) (rest := []) (cells' := 0) (slots' := 0) C (met_X0_isIn l E A H k 0 3 (show -9223372036854775808 ≤ k ∧ k < 9223372036854775808 from (by omega)) (show -9223372036854775808 ≤ (0 : Int) ∧ (0 : Int) < 9223372036854775808 from (by omega)) (show -9223372036854775808 ≤ (3 : Int) ∧ (3 : Int) < 9223372036854775808 from (by omega))) (lw_S q117 q118 q86 q119) hd_X0_isIn rfl (by decide) rfl hS hl.1 rfl (Nat.le_of_ble_eq_true rfl) dX0_sure_6 rfl rfl ⟨Nat.le_of_ble_eq_true rfl, Nat.le_of_ble_eq_true rfl⟩ (fun rr H locs hp hS => ?_)
  obtain ⟨hrr, hH⟩ := hp
  have hrr : rr = bI ((0 : Int) ≤ k ∧ k ≤ (3 : Int)) := hrr
  subst hrr
  have hX : XH E A B F M G T H := by rw [hH]; exact hX
  refine r_if_ne_b (tgt := 14) C dX0_sure_9 (by decide) (fun c_1 => ?_) (fun c_1 => ?_)
  · refine r_const C dX0_sure_14 ?_
    refine lv_istore_n (lv' := [(2, .int (zi 0)), (0, .ref (B 49 0)), (1, .int (zi k))]) C.x C.b dX0_sure_15 rfl hl (by decide) rfl (fun ls hl => ?_)
    refine r_const C dX0_sure_16 ?_
    refine lv_istore_n (lv' := [(3, .int (zi 0)), (2, .int (zi 0)), (0, .ref (B 49 0)), (1, .int (zi k))]) C.x C.b dX0_sure_17 rfl hl (by decide) rfl (fun ls hl => ?_)
    have L18 : ∀ (fu : Nat) (v2 : Int) (v3 : Int) (m22 : Int → Int) (h3 : 0 ≤ v3 ∧ v3 ≤ 4096) (h2r : 0 ≤ v2 ∧ v2 < 256) (hb : ∀ b : Int, 0 ≤ b → (Bt v2 b ↔ ∃ z, 0 ≤ z ∧ z < v3 ∧ fitc (M 19) (M 20) (F 21) z ∧ vc z k = b)) (hm : Int.toNat (4096 - v3) < fu) (H : Heap) (locs : List Loc) (ls : Array Slot) (hX : XH E A B F (va_up M 22 m22) G T H) (hS : va_S A s.heap H locs) (hl : lv_has ls 4 [(0, .ref (B 49 0)), (1, .int (zi k)), (2, .int (zi v2)), (3, .int (zi v3))]), W p l e rm_X0_sure s m args below meth c H locs 0 0 QQ (F0 m 18 ls []) := by
      intro fu
      induction fu with
      | zero => intro v2 v3 m22 h3 h2r hb hm; exact absurd hm (Nat.not_lt_zero _)
      | succ fu ih18 =>
        intro v2 v3 m22 h3 h2r hb hm H locs ls hX hS hl
        refine lv_iload_n C.x C.b dX0_sure_18 rfl (lv_at hl 3 rfl) ?_
        refine r_sipush C (by decide) dX0_sure_19 ?_
        refine r_icmp_ge (tgt := 58) C (by omega) (by decide) dX0_sure_22 (by decide) (fun c_2 => ?_) (fun c_2 => ?_)
        · have e3 : v3 = 4096 := by omega
          rw [e3] at hb
          refine lv_iload_n C.x C.b dX0_sure_58 rfl (lv_at hl 2 rfl) ?_
          refine r_callSi (As := [.int (zi v2)]) (rest := []) (cells' := 0) (slots' := 0) C (met_J0_bitCount l E A H v2 (show 0 ≤ v2 ∧ v2 < 16777216 from (by omega))) (lw_S q142 q143 q89 q144) hd_J0_bitCount rfl (by decide) rfl hS hl.1 rfl (Nat.le_of_ble_eq_true rfl) dX0_sure_59 rfl rfl ⟨Nat.le_of_ble_eq_true rfl, Nat.le_of_ble_eq_true rfl⟩ (fun rr H locs hp hS => ?_)
          obtain ⟨hbc, hrr, hH⟩ := hp
          have hrr : rr = bits v2 := hrr
          subst hrr
          have hX : XH E A B F (va_up M 22 m22) G T H := by rw [hH]; exact hX
          replace hbc : 0 ≤ bits v2 ∧ bits v2 ≤ 24 := hbc
          rw [← hQQ]
          exact r_iret C hS (Nat.le_of_ble_eq_true rfl) (Nat.le_of_ble_eq_true rfl) dX0_sure_62 ⟨m22, (by rw [sel_t (by assumption)]; exact bits_P (by omega) (by omega) (fun b a _ => hb b a) (fun b a q => by obtain ⟨z, _, _, _, e⟩ := (hb b (by omega)).1 q; have := vc_r z k; omega)), hX⟩
        · refine lv_aload_n C.x C.b dX0_sure_25 rfl (lv_at hl 0 rfl) ?_
          refine lv_iload_n C.x C.b dX0_sure_26 rfl (lv_at hl 3 rfl) ?_
          refine r_callVv (As := [.int (zi v3)]) (rest := []) (cells' := 0) (slots' := 0) C (met_X0_pick l E A B F (va_up M 22 m22) G T v3 (show 0 ≤ v3 ∧ v3 < 4096 from (by omega))) (lw_V q287 q289 qs16 q86 q290) hd_X0_pick rfl (by decide) (x_this C hX) hX hS hl.1 rfl (Nat.le_of_ble_eq_true rfl) dX0_sure_27 rfl rfl ⟨Nat.le_of_ble_eq_true rfl, Nat.le_of_ble_eq_true rfl⟩ (fun H locs hp hS => ?_)
          obtain ⟨vv, hv, hX⟩ := hp
          replace hv : ∀ k : Int, 0 ≤ k → k < 4 → vv k = vc v3 k := hv
          have hX : XH E A B F (va_up M 22 vv) G T H := hX.to rfl rfl (up_up _ _ _ _) rfl rfl
          have hfi := fitc_i (it := M 19) (to := M 20) (am := F 21) (m := vv) (c := v3) hv
          have hvk := hv k (by omega) (by omega)
          have hvr := vc_r v3 k
          have hp7 := p2_7 (k := vv k) (by omega)
          refine lv_iload_n C.x C.b dX0_sure_30 rfl (lv_at hl 2 rfl) ?_
          refine lv_aload_n C.x C.b dX0_sure_31 rfl (lv_at hl 0 rfl) ?_
          refine r_callVi (As := []) (rest := [.int (zi v2)]) (cells' := 0) (slots' := 0) C (met_X0_doFit l E A B F (va_up M 22 vv) G T) (lw_V q291 q293 qs17 q86 q294) hd_X0_doFit rfl (by decide) (x_this C hX) hX hS hl.1 rfl (Nat.le_of_ble_eq_true rfl) dX0_sure_32 rfl rfl ⟨Nat.le_of_ble_eq_true rfl, Nat.le_of_ble_eq_true rfl⟩ (fun rr H locs hp hS => ?_)
          obtain ⟨hrr, hX⟩ := hp
          have hrr : rr = bI (Unl (vv) ∧ Adds (vv) ((M 19)) ((M 20)) ((F 21))) := hrr
          subst hrr
          have J50_3 : ∀ (t1 : Int) (ht1 : t1 = sel (Unl (vv) ∧ Adds (vv) ((M 19)) ((M 20)) ((F 21))) (1 * 2 ^ (vv k).toNat) 0) (H : Heap) (locs : List Loc) (ls : Array Slot) (hX : XH E A B F (va_up M 22 vv) G T H) (hS : va_S A s.heap H locs) (hl : lv_has ls 4 [(0, .ref (B 49 0)), (1, .int (zi k)), (2, .int (zi v2)), (3, .int (zi v3))]), W p l e rm_X0_sure s m args below meth c H locs 0 0 QQ (F0 m 50 ls [.int (zi t1), .int (zi v2)]) := by
            intro t1 ht1 H locs ls hX hS hl
            subst ht1
            have hrt1 : (0 : Int) ≤ ((sel (Unl (vv) ∧ Adds (vv) ((M 19)) ((M 20)) ((F 21))) (1 * 2 ^ (vv k).toNat) 0) : Int) ∧ ((sel (Unl (vv) ∧ Adds (vv) ((M 19)) ((M 20)) ((F 21))) (1 * 2 ^ (vv k).toNat) 0) : Int) ≤ 128 := by
              exact (sel_rg (fun qq => (by omega)) (fun qq => (by omega)))
            refine r_ior (v := oo v2 (sel (Unl (vv) ∧ Adds (vv) ((M 19)) ((M 20)) ((F 21))) (1 * 2 ^ (vv k).toNat) 0)) C (zi_or (by omega) (by omega)) dX0_sure_50 ?_
            refine lv_istore_n (lv' := [(2, .int (zi (oo v2 (sel (Unl (vv) ∧ Adds (vv) ((M 19)) ((M 20)) ((F 21))) (1 * 2 ^ (vv k).toNat) 0)))), (0, .ref (B 49 0)), (1, .int (zi k)), (3, .int (zi v3))]) C.x C.b dX0_sure_51 rfl hl (by decide) rfl (fun ls hl => ?_)
            refine r_iinc (lv' := [(3, .int (zi (v3 + 1))), (2, .int (zi (oo v2 (sel (Unl (vv) ∧ Adds (vv) ((M 19)) ((M 20)) ((F 21))) (1 * 2 ^ (vv k).toNat) 0)))), (0, .ref (B 49 0)), (1, .int (zi k))]) C dX0_sure_52 hl (k := 3) rfl (by decide) rfl (fun ls hl => ?_)
            refine lv_goto (tgt := 18) C.x C.b dX0_sure_55 (by decide) ?_
            exact ih18 (oo v2 (sel (Unl (vv) ∧ Adds (vv) ((M 19)) ((M 20)) ((F 21))) (1 * 2 ^ (vv k).toNat) 0)) (v3 + 1) vv (by omega) (oo_8 h2r ⟨hrt1.1, by omega⟩) (sure_st (g := fun z => vc z k) h3.1 h2r.1 (vc_r v3 k).1 hb (by rw [sel_c hfi, ← hvk]) hrt1.1) (by omega) H locs ls hX hS (lv_sub hl [2, 3, 1, 0] rfl)
          refine r_if_eq_b (tgt := 49) C dX0_sure_35 (by decide) (fun c_4 => ?_) (fun c_4 => ?_)
          · refine r_const C dX0_sure_49 ?_
            exact J50_3 0 ((sel_f c_4).symm) H locs ls hX hS hl
          · refine r_const C dX0_sure_38 ?_
            refine lv_aload_n C.x C.b dX0_sure_39 rfl (lv_at hl 0 rfl) ?_
            refine x_ga C hX 22 (by decide) rfl q758 (fun _ h => h) dX0_sure_40 ?_
            refine lv_iload_n C.x C.b dX0_sure_43 rfl (lv_at hl 1 rfl) ?_
            refine x_li1 C hX 22 rfl (by decide) rfl (show 0 ≤ k ∧ k < 4 from (by omega)) (by decide) (vv k) rfl dX0_sure_44 (fun r44 => ?_)
            have r44 : 0 ≤ vv k ∧ vv k ≤ 7 := r44 (0, 7) rfl
            refine r_ishl C (by omega) (by omega) rfl dX0_sure_45 ?_
            refine lv_goto (tgt := 50) C.x C.b dX0_sure_46 (by decide) ?_
            exact J50_3 (1 * 2 ^ (vv k).toNat) ((sel_t c_4).symm) H locs ls hX hS hl
    exact L18 _ 0 0 (M 22) (by omega) (by omega) (fun b _ => ⟨fun q => absurd q (Bt_z b), fun ⟨z, a, b, _⟩ => absurd a (by omega)⟩) (Nat.lt_succ_self _) H locs ls (hX.to rfl rfl ((up_id M (k := 22) (a := (M 22)) rfl).symm.trans rfl) rfl rfl) hS (lv_sub hl [2, 3, 1, 0] rfl)
  · refine r_const C dX0_sure_12 ?_
    rw [← hQQ]
    exact r_iret C hS (Nat.le_of_ble_eq_true rfl) (Nat.le_of_ble_eq_true rfl) dX0_sure_13 ⟨(M 22), (Eq.symm (sel_f (by assumption))), (hX.to rfl rfl ((up_id M (k := 22) (a := (M 22)) rfl).symm.trans rfl) rfl rfl)⟩
