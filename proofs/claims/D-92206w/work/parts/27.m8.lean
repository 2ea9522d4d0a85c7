set_option maxRecDepth 100000

theorem hd_X2_alikeTo : yX2_alikeTo.cls = RX2 ∧ yX2_alikeTo.cls ≠ "java/lang/invoke/MethodHandle" ∧ yX2_alikeTo.cls ≠ "java/lang/invoke/VarHandle" ∧ (parseMethodDescriptor yX2_alikeTo.desc).map (fun d => d.parameters.length) = some 2 := by decide +kernel
abbrev rm_X2_alikeTo : Room := { frames := 2, cells := 0, slots := 0, locals := 45 }
set_option maxHeartbeats 8000000 in
theorem met_X2_alikeTo (l : Launch) (E : us_E) (A : Nat → Prop) (ad : Nat → Nat) (F : Nat → Int) (M : Nat → Int → Int) (w : Int) (v : Int) (hwf : ∀ k : Int, 0 ≤ k → k < F 7 → 0 ≤ M 9 k ∧ 0 ≤ M 10 k ∧ M 9 k + M 10 k ≤ 24) (hw : 0 ≤ w ∧ w < F 7 ∧ 0 ≤ v ∧ v < F 7 ∧ M 10 v = M 10 w) : cMet l yX2_alikeTo cX2_alikeTo 4 (some .int) rm_X2_alikeTo A E [.ref (ad 63), .int (zi w), .int (zi v)] (fun H => MH E A ad F M H) (qi A (fun r H => AlTo (M 3) (M 6) (M 8) (M 9) w v (M 10 w) r ∧ MH E A ad F M H)) := by
  refine cMet.of (by decide) (Nat.le_of_ble_eq_true rfl) (fun p e s m args below meth c C hnm hX hS ls hl => ?_)
  have C : Cx p s m args meth c A RX2 cX2_alikeTo 4 (some .int) E := C
  have hX : MH E A ad F M s.heap := hX
  have hl : lv_has ls 4 [(0, .ref (ad 63)), (1, .int (zi w)), (2, .int (zi v))] := hl
  generalize hH : s.heap = H at hX
  have hS : va_S A s.heap H [] := by rw [← hH]; exact hS
  generalize hlocs : ([] : List Loc) = locs at hS ⊢
  have rF7 : 0 ≤ F 7 ∧ F 7 ≤ 104 := hX.2.1 7 (0, 104) rfl
  have hww := hwf w hw.1 hw.2.1
  have hwv := hwf v hw.2.2.1 hw.2.2.2.1
  refine r_const C dX2_alikeTo_0 ?_
  refine lv_istore_n (lv' := [(3, .int (zi 0)), (0, .ref (ad 63)), (1, .int (zi w)), (2, .int (zi v))]) C.x C.b dX2_alikeTo_1 rfl hl (by decide) rfl (fun ls hl => ?_)
  have L2 : ∀ (fu : Nat) (v3 : Int) (h3 : 0 ≤ v3 ∧ v3 ≤ M 10 w) (he : weq (M 3) (M 6) (M 8) (M 9) w v v3) (hm : Int.toNat (M 10 w - v3) < fu) (H : Heap) (locs : List Loc) (ls : Array Slot) (hX : MH E A ad F M H) (hS : va_S A s.heap H locs) (hl : lv_has ls 4 [(0, .ref (ad 63)), (1, .int (zi w)), (2, .int (zi v)), (3, .int (zi v3))]), W p l e rm_X2_alikeTo s m args below meth c H locs 0 0 (MQ below (qi A (fun r H => AlTo (M 3) (M 6) (M 8) (M 9) w v (M 10 w) r ∧ MH E A ad F M H)) args s (rm_X2_alikeTo).cells (rm_X2_alikeTo).slots A) (F0 m 2 ls []) := by
    intro fu
    induction fu with
    | zero => intro v3 h3 he hm; exact absurd hm (Nat.not_lt_zero _)
    | succ fu ih2 =>
      intro v3 h3 he hm H locs ls hX hS hl
      refine lv_iload_n C.x C.b dX2_alikeTo_2 rfl (lv_at hl 3 rfl) ?_
      refine lv_aload_n C.x C.b dX2_alikeTo_3 rfl (lv_at hl 0 rfl) ?_
      refine mg_10 C hX dX2_alikeTo_4 ?_
      refine lv_iload_n C.x C.b dX2_alikeTo_7 rfl (lv_at hl 1 rfl) ?_
      refine ml_10 C hX (by omega) (M 10) rfl dX2_alikeTo_8 (fun r8 => ?_)
      refine r_icmp_ge (tgt := 33) C (by omega) (by omega) dX2_alikeTo_9 (by decide) (fun c_1 => ?_) (fun c_1 => ?_)
      · refine lv_iload_n C.x C.b dX2_alikeTo_33 rfl (lv_at hl 3 rfl) ?_
        exact r_iret C hS (Nat.le_of_ble_eq_true rfl) (Nat.le_of_ble_eq_true rfl) dX2_alikeTo_34 ⟨⟨h3, he, fun q => by first | assumption | (exfalso; omega)⟩, hX⟩
      · refine lv_aload_n C.x C.b dX2_alikeTo_12 rfl (lv_at hl 0 rfl) ?_
        refine lv_iload_n C.x C.b dX2_alikeTo_13 rfl (lv_at hl 1 rfl) ?_
        refine lv_iload_n C.x C.b dX2_alikeTo_14 rfl (lv_at hl 3 rfl) ?_
        refine r_callVi (As := [.int (zi w), .int (zi v3)]) (rest := []) (cells' := 0) (slots' := 0) C (met_X2_wordAt l E A ad F M w v3 (show 0 ≤ w ∧ w < 104 from (by omega)) (show 0 ≤ (M 9) w + v3 ∧ (M 9) w + v3 < 24 ∧ -100 ≤ v3 from (by omega))) (lw_V q1301 q1303 qs53 q88 q1304) hd_X2_wordAt rfl (by decide) (m_recv C hX) hX hS hl.1 rfl (Nat.le_of_ble_eq_true rfl) dX2_alikeTo_15 rfl rfl ⟨Nat.le_of_ble_eq_true rfl, Nat.le_of_ble_eq_true rfl⟩ (fun rr H locs hp hS => ?_)
        obtain ⟨hat, hrr, hX⟩ := hp
        have hrr : rr = sa ((M 3)) ((M 6) (24 * (M 8) w + ((M 9) w + v3))) := hrr
        subst hrr
        have hat : -2 ≤ sa ((M 3)) ((M 6) (24 * (M 8) w + ((M 9) w + v3))) ∧ sa ((M 3)) ((M 6) (24 * (M 8) w + ((M 9) w + v3))) ≤ 23 := hat
        refine lv_aload_n C.x C.b dX2_alikeTo_18 rfl (lv_at hl 0 rfl) ?_
        refine lv_iload_n C.x C.b dX2_alikeTo_19 rfl (lv_at hl 2 rfl) ?_
        refine lv_iload_n C.x C.b dX2_alikeTo_20 rfl (lv_at hl 3 rfl) ?_
        refine r_callVi (As := [.int (zi v), .int (zi v3)]) (rest := [.int (zi (sa ((M 3)) ((M 6) (24 * (M 8) w + ((M 9) w + v3)))))]) (cells' := 0) (slots' := 0) C (met_X2_wordAt l E A ad F M v v3 (show 0 ≤ v ∧ v < 104 from (by omega)) (show 0 ≤ (M 9) v + v3 ∧ (M 9) v + v3 < 24 ∧ -100 ≤ v3 from (by omega))) (lw_V q1301 q1303 qs53 q88 q1304) hd_X2_wordAt rfl (by decide) (m_recv C hX) hX hS hl.1 rfl (Nat.le_of_ble_eq_true rfl) dX2_alikeTo_21 rfl rfl ⟨Nat.le_of_ble_eq_true rfl, Nat.le_of_ble_eq_true rfl⟩ (fun rr H locs hp hS => ?_)
        obtain ⟨hat, hrr, hX⟩ := hp
        have hrr : rr = sa ((M 3)) ((M 6) (24 * (M 8) v + ((M 9) v + v3))) := hrr
        subst hrr
        have hat : -2 ≤ sa ((M 3)) ((M 6) (24 * (M 8) v + ((M 9) v + v3))) ∧ sa ((M 3)) ((M 6) (24 * (M 8) v + ((M 9) v + v3))) ≤ 23 := hat
        refine r_icmp_ne (tgt := 33) C (by omega) (by omega) dX2_alikeTo_24 (by decide) (fun c_2 => ?_) (fun c_2 => ?_)
        · refine lv_iload_n C.x C.b dX2_alikeTo_33 rfl (lv_at hl 3 rfl) ?_
          exact r_iret C hS (Nat.le_of_ble_eq_true rfl) (Nat.le_of_ble_eq_true rfl) dX2_alikeTo_34 ⟨⟨h3, he, fun q => by first | assumption | (exfalso; omega)⟩, hX⟩
        · refine r_iinc (lv' := [(3, .int (zi (v3 + 1))), (0, .ref (ad 63)), (1, .int (zi w)), (2, .int (zi v))]) C dX2_alikeTo_27 hl (k := 3) rfl (by decide) rfl (fun ls hl => ?_)
          refine lv_goto (tgt := 2) C.x C.b dX2_alikeTo_30 (by decide) ?_
          exact ih2 (v3 + 1) (by omega) ((bl_s (P := fun j => cw (M 3) (M 6) (M 8) (M 9) w j = cw (M 3) (M 6) (M 8) (M 9) v j) h3.1).2 ⟨he, by assumption⟩) (by omega) H locs ls hX hS (lv_sub hl [1, 2, 3, 0] rfl)
  exact L2 _ 0 (by omega) (fun j a b => absurd a (by omega)) (Nat.lt_succ_self _) H locs ls hX hS (lv_sub hl [1, 2, 3, 0] rfl)

theorem hd_X2_isFirstOfItsRow : yX2_isFirstOfItsRow.cls = RX2 ∧ yX2_isFirstOfItsRow.cls ≠ "java/lang/invoke/MethodHandle" ∧ yX2_isFirstOfItsRow.cls ≠ "java/lang/invoke/VarHandle" ∧ (parseMethodDescriptor yX2_isFirstOfItsRow.desc).map (fun d => d.parameters.length) = some 1 := by decide +kernel
abbrev rm_X2_isFirstOfItsRow : Room := { frames := 3, cells := 0, slots := 0, locals := 68 }
set_option maxHeartbeats 8000000 in
theorem met_X2_isFirstOfItsRow (l : Launch) (E : us_E) (A : Nat → Prop) (ad : Nat → Nat) (F : Nat → Int) (M : Nat → Int → Int) (w : Int) (hwf : ∀ k : Int, 0 ≤ k → k < F 7 → 0 ≤ M 9 k ∧ 0 ≤ M 10 k ∧ M 9 k + M 10 k ≤ 24) (hw : 0 ≤ w ∧ w < F 7) : cMet l yX2_isFirstOfItsRow cX2_isFirstOfItsRow 4 (some .boolean) rm_X2_isFirstOfItsRow A E [.ref (ad 63), .int (zi w)] (fun H => MH E A ad F M H) (qi A (fun r H => (r = bI (FRw (M 3) (M 6) (M 8) (M 9) (M 10) (M 11) w)) ∧ MH E A ad F M H)) := by
  refine cMet.of (by decide) (Nat.le_of_ble_eq_true rfl) (fun p e s m args below meth c C hnm hX hS ls hl => ?_)
  have C : Cx p s m args meth c A RX2 cX2_isFirstOfItsRow 4 (some .boolean) E := C
  have hX : MH E A ad F M s.heap := hX
  have hl : lv_has ls 4 [(0, .ref (ad 63)), (1, .int (zi w))] := hl
  generalize hH : s.heap = H at hX
  have hS : va_S A s.heap H [] := by rw [← hH]; exact hS
  generalize hlocs : ([] : List Loc) = locs at hS ⊢
  have rF7 : 0 ≤ F 7 ∧ F 7 ≤ 104 := hX.2.1 7 (0, 104) rfl
  refine r_const C dX2_isFirstOfItsRow_0 ?_
  refine lv_istore_n (lv' := [(2, .int (zi 1)), (0, .ref (ad 63)), (1, .int (zi w))]) C.x C.b dX2_isFirstOfItsRow_1 rfl hl (by decide) rfl (fun ls hl => ?_)
  refine r_const C dX2_isFirstOfItsRow_2 ?_
  refine lv_istore_n (lv' := [(3, .int (zi 0)), (2, .int (zi 1)), (0, .ref (ad 63)), (1, .int (zi w))]) C.x C.b dX2_isFirstOfItsRow_3 rfl hl (by decide) rfl (fun ls hl => ?_)
  have L4 : ∀ (fu : Nat) (v2 : Prop) (xv2 : Int) (hv2 : xv2 = bI v2) (v3 : Int) (h3 : 0 ≤ v3 ∧ v3 ≤ w) (hb : v2 ↔ ∀ v : Int, 0 ≤ v → v < v3 → (M 11 v = 0 ∨ ¬ M 10 v = M 10 w ∨ ¬ weq (M 3) (M 6) (M 8) (M 9) w v (M 10 w))) (hm : Int.toNat (w - v3) < fu) (H : Heap) (locs : List Loc) (ls : Array Slot) (hX : MH E A ad F M H) (hS : va_S A s.heap H locs) (hl : lv_has ls 4 [(0, .ref (ad 63)), (1, .int (zi w)), (2, .int (zi xv2)), (3, .int (zi v3))]), W p l e rm_X2_isFirstOfItsRow s m args below meth c H locs 0 0 (MQ below (qi A (fun r H => (r = bI (FRw (M 3) (M 6) (M 8) (M 9) (M 10) (M 11) w)) ∧ MH E A ad F M H)) args s (rm_X2_isFirstOfItsRow).cells (rm_X2_isFirstOfItsRow).slots A) (F0 m 4 ls []) := by
    intro fu
    induction fu with
    | zero => intro v2 xv2 hv2 v3 h3 hb hm; exact absurd hm (Nat.not_lt_zero _)
    | succ fu ih4 =>
      intro v2 xv2 hv2 v3 h3 hb hm H locs ls hX hS hl
      subst hv2
      refine lv_iload_n C.x C.b dX2_isFirstOfItsRow_4 rfl (lv_at hl 3 rfl) ?_
      refine lv_iload_n C.x C.b dX2_isFirstOfItsRow_5 rfl (lv_at hl 1 rfl) ?_
      refine r_icmp_ge (tgt := 64) C (by omega) (by omega) dX2_isFirstOfItsRow_6 (by decide) (fun c_1 => ?_) (fun c_1 => ?_)
      · refine lv_iload_n C.x C.b dX2_isFirstOfItsRow_64 rfl (lv_at hl 2 rfl) ?_
        exact r_zret C (bI_e _) hS (Nat.le_of_ble_eq_true rfl) (Nat.le_of_ble_eq_true rfl) dX2_isFirstOfItsRow_65 ⟨(bI_c (by rw [hb]; first | (rw [show v3 = w by omega]; exact Iff.rfl) | exact ⟨fun q => absurd (hb.2 q) (by assumption), fun q => absurd (hb.2 (fun v a b => q v a (by omega))) (by assumption)⟩)), hX⟩
      · refine lv_iload_n C.x C.b dX2_isFirstOfItsRow_9 rfl (lv_at hl 2 rfl) ?_
        refine r_if_eq_b (tgt := 64) C dX2_isFirstOfItsRow_10 (by decide) (fun c_2 => ?_) (fun c_2 => ?_)
        · refine lv_iload_n C.x C.b dX2_isFirstOfItsRow_64 rfl (lv_at hl 2 rfl) ?_
          exact r_zret C (bI_e _) hS (Nat.le_of_ble_eq_true rfl) (Nat.le_of_ble_eq_true rfl) dX2_isFirstOfItsRow_65 ⟨(bI_c (by rw [hb]; first | (rw [show v3 = w by omega]; exact Iff.rfl) | exact ⟨fun q => absurd (hb.2 q) (by assumption), fun q => absurd (hb.2 (fun v a b => q v a (by omega))) (by assumption)⟩)), hX⟩
        · have hb3 := bl_s (P := fun v => (M 11 v = 0 ∨ ¬ M 10 v = M 10 w ∨ ¬ weq (M 3) (M 6) (M 8) (M 9) w v (M 10 w))) h3.1
          have hv2 := hb.1 (by assumption)
          have r11 : 0 ≤ M 11 v3 ∧ M 11 v3 ≤ 1 := hX.2.2 11 (0, 1) rfl _
          refine lv_aload_n C.x C.b dX2_isFirstOfItsRow_13 rfl (lv_at hl 0 rfl) ?_
          refine mg_11 C hX dX2_isFirstOfItsRow_14 ?_
          refine lv_iload_n C.x C.b dX2_isFirstOfItsRow_17 rfl (lv_at hl 3 rfl) ?_
          refine ml_11 C hX (by omega) (M 11) rfl dX2_isFirstOfItsRow_18 (fun r18 => ?_)
          refine r_if_eq (tgt := 52) C (by omega) dX2_isFirstOfItsRow_19 (by decide) (fun c_3 => ?_) (fun c_3 => ?_)
          · refine r_const C dX2_isFirstOfItsRow_52 ?_
            refine lv_goto (tgt := 57) C.x C.b dX2_isFirstOfItsRow_53 (by decide) ?_
            first
            | have hst : True ↔ ∀ v : Int, 0 ≤ v → v < v3 + 1 → (M 11 v = 0 ∨ ¬ M 10 v = M 10 w ∨ ¬ weq (M 3) (M 6) (M 8) (M 9) w v (M 10 w)) := ⟨fun _ => hb3.2 ⟨hv2, by first | exact Or.inl (by omega) | exact Or.inr (Or.inl (by omega)) | exact Or.inr (Or.inr (hal2.1 (by omega)))⟩, fun _ => trivial⟩
            | have hst : False ↔ ∀ v : Int, 0 ≤ v → v < v3 + 1 → (M 11 v = 0 ∨ ¬ M 10 v = M 10 w ∨ ¬ weq (M 3) (M 6) (M 8) (M 9) w v (M 10 w)) := ⟨False.elim, fun q => ((hb3.1 q).2).elim (fun z => by omega) (fun z => z.elim (fun y => y (by omega)) (fun y => absurd (hal2.2 y) (by omega)))⟩
            refine lv_istore_n (lv' := [(2, .int (zi 1)), (0, .ref (ad 63)), (1, .int (zi w)), (3, .int (zi v3))]) C.x C.b dX2_isFirstOfItsRow_57 rfl hl (by decide) rfl (fun ls hl => ?_)
            refine r_iinc (lv' := [(3, .int (zi (v3 + 1))), (2, .int (zi 1)), (0, .ref (ad 63)), (1, .int (zi w))]) C dX2_isFirstOfItsRow_58 hl (k := 3) rfl (by decide) rfl (fun ls hl => ?_)
            refine lv_goto (tgt := 4) C.x C.b dX2_isFirstOfItsRow_61 (by decide) ?_
            exact ih4 True 1 bI_T.symm (v3 + 1) (by omega) hst (by omega) H locs ls hX hS (lv_sub hl [2, 3, 1, 0] rfl)
          · refine lv_aload_n C.x C.b dX2_isFirstOfItsRow_22 rfl (lv_at hl 0 rfl) ?_
            refine mg_10 C hX dX2_isFirstOfItsRow_23 ?_
            refine lv_iload_n C.x C.b dX2_isFirstOfItsRow_26 rfl (lv_at hl 3 rfl) ?_
            refine ml_10 C hX (by omega) (M 10) rfl dX2_isFirstOfItsRow_27 (fun r27 => ?_)
            refine lv_aload_n C.x C.b dX2_isFirstOfItsRow_28 rfl (lv_at hl 0 rfl) ?_
            refine mg_10 C hX dX2_isFirstOfItsRow_29 ?_
            refine lv_iload_n C.x C.b dX2_isFirstOfItsRow_32 rfl (lv_at hl 1 rfl) ?_
            refine ml_10 C hX (by omega) (M 10) rfl dX2_isFirstOfItsRow_33 (fun r33 => ?_)
            refine r_icmp_ne (tgt := 52) C (by omega) (by omega) dX2_isFirstOfItsRow_34 (by decide) (fun c_4 => ?_) (fun c_4 => ?_)
            · refine r_const C dX2_isFirstOfItsRow_52 ?_
              refine lv_goto (tgt := 57) C.x C.b dX2_isFirstOfItsRow_53 (by decide) ?_
              first
              | have hst : True ↔ ∀ v : Int, 0 ≤ v → v < v3 + 1 → (M 11 v = 0 ∨ ¬ M 10 v = M 10 w ∨ ¬ weq (M 3) (M 6) (M 8) (M 9) w v (M 10 w)) := ⟨fun _ => hb3.2 ⟨hv2, by first | exact Or.inl (by omega) | exact Or.inr (Or.inl (by omega)) | exact Or.inr (Or.inr (hal2.1 (by omega)))⟩, fun _ => trivial⟩
              | have hst : False ↔ ∀ v : Int, 0 ≤ v → v < v3 + 1 → (M 11 v = 0 ∨ ¬ M 10 v = M 10 w ∨ ¬ weq (M 3) (M 6) (M 8) (M 9) w v (M 10 w)) := ⟨False.elim, fun q => ((hb3.1 q).2).elim (fun z => by omega) (fun z => z.elim (fun y => y (by omega)) (fun y => absurd (hal2.2 y) (by omega)))⟩
              refine lv_istore_n (lv' := [(2, .int (zi 1)), (0, .ref (ad 63)), (1, .int (zi w)), (3, .int (zi v3))]) C.x C.b dX2_isFirstOfItsRow_57 rfl hl (by decide) rfl (fun ls hl => ?_)
              refine r_iinc (lv' := [(3, .int (zi (v3 + 1))), (2, .int (zi 1)), (0, .ref (ad 63)), (1, .int (zi w))]) C dX2_isFirstOfItsRow_58 hl (k := 3) rfl (by decide) rfl (fun ls hl => ?_)
              refine lv_goto (tgt := 4) C.x C.b dX2_isFirstOfItsRow_61 (by decide) ?_
              exact ih4 True 1 bI_T.symm (v3 + 1) (by omega) hst (by omega) H locs ls hX hS (lv_sub hl [2, 3, 1, 0] rfl)
            · refine lv_aload_n C.x C.b dX2_isFirstOfItsRow_37 rfl (lv_at hl 0 rfl) ?_
              refine lv_iload_n C.x C.b dX2_isFirstOfItsRow_38 rfl (lv_at hl 1 rfl) ?_
              refine lv_iload_n C.x C.b dX2_isFirstOfItsRow_39 rfl (lv_at hl 3 rfl) ?_
              refine r_callVi (As := [.int (zi w), .int (zi v3)]) (rest := []) (cells' := 0) (slots' := 0) C (met_X2_alikeTo l E A ad F M w v3 (show ∀ k : Int, 0 ≤ k → k < (F 7) → 0 ≤ (M 9) k ∧ 0 ≤ (M 10) k ∧ (M 9) k + (M 10) k ≤ 24 from (by omega)) (show 0 ≤ w ∧ w < (F 7) ∧ 0 ≤ v3 ∧ v3 < (F 7) ∧ (M 10) v3 = (M 10) w from (by omega))) (lw_V q1313 q1315 qs55 q88 q1316) hd_X2_alikeTo rfl (by decide) (m_recv C hX) hX hS hl.1 rfl (Nat.le_of_ble_eq_true rfl) dX2_isFirstOfItsRow_40 rfl rfl ⟨Nat.le_of_ble_eq_true rfl, Nat.le_of_ble_eq_true rfl⟩ (fun rr H locs hp hS => ?_)
              obtain ⟨r_5, hrr⟩ : ∃ z, z = rr := ⟨_, rfl⟩
              rw [← hrr] at hp ⊢
              obtain ⟨hal, hX⟩ := hp
              have hal : AlTo ((M 3)) ((M 6)) ((M 8)) ((M 9)) w v3 ((M 10) w) r_5 := hal
              have hal2 := hal.all
              have halr := hal.1
              refine lv_aload_n C.x C.b dX2_isFirstOfItsRow_43 rfl (lv_at hl 0 rfl) ?_
              refine mg_10 C hX dX2_isFirstOfItsRow_44 ?_
              refine lv_iload_n C.x C.b dX2_isFirstOfItsRow_47 rfl (lv_at hl 1 rfl) ?_
              refine ml_10 C hX (by omega) (M 10) rfl dX2_isFirstOfItsRow_48 (fun _ => ?_)
              refine r_icmp_ge (tgt := 56) C (by omega) (by omega) dX2_isFirstOfItsRow_49 (by decide) (fun c_6 => ?_) (fun c_6 => ?_)
              · refine r_const C dX2_isFirstOfItsRow_56 ?_
                first
                | have hst : True ↔ ∀ v : Int, 0 ≤ v → v < v3 + 1 → (M 11 v = 0 ∨ ¬ M 10 v = M 10 w ∨ ¬ weq (M 3) (M 6) (M 8) (M 9) w v (M 10 w)) := ⟨fun _ => hb3.2 ⟨hv2, by first | exact Or.inl (by omega) | exact Or.inr (Or.inl (by omega)) | exact Or.inr (Or.inr (hal2.1 (by omega)))⟩, fun _ => trivial⟩
                | have hst : False ↔ ∀ v : Int, 0 ≤ v → v < v3 + 1 → (M 11 v = 0 ∨ ¬ M 10 v = M 10 w ∨ ¬ weq (M 3) (M 6) (M 8) (M 9) w v (M 10 w)) := ⟨False.elim, fun q => ((hb3.1 q).2).elim (fun z => by omega) (fun z => z.elim (fun y => y (by omega)) (fun y => absurd (hal2.2 y) (by omega)))⟩
                refine lv_istore_n (lv' := [(2, .int (zi 0)), (0, .ref (ad 63)), (1, .int (zi w)), (3, .int (zi v3))]) C.x C.b dX2_isFirstOfItsRow_57 rfl hl (by decide) rfl (fun ls hl => ?_)
                refine r_iinc (lv' := [(3, .int (zi (v3 + 1))), (2, .int (zi 0)), (0, .ref (ad 63)), (1, .int (zi w))]) C dX2_isFirstOfItsRow_58 hl (k := 3) rfl (by decide) rfl (fun ls hl => ?_)
                refine lv_goto (tgt := 4) C.x C.b dX2_isFirstOfItsRow_61 (by decide) ?_
                exact ih4 False 0 bI_F.symm (v3 + 1) (by omega) hst (by omega) H locs ls hX hS (lv_sub hl [2, 3, 1, 0] rfl)
              · refine r_const C dX2_isFirstOfItsRow_52 ?_
                refine lv_goto (tgt := 57) C.x C.b dX2_isFirstOfItsRow_53 (by decide) ?_
                first
                | have hst : True ↔ ∀ v : Int, 0 ≤ v → v < v3 + 1 → (M 11 v = 0 ∨ ¬ M 10 v = M 10 w ∨ ¬ weq (M 3) (M 6) (M 8) (M 9) w v (M 10 w)) := ⟨fun _ => hb3.2 ⟨hv2, by first | exact Or.inl (by omega) | exact Or.inr (Or.inl (by omega)) | exact Or.inr (Or.inr (hal2.1 (by omega)))⟩, fun _ => trivial⟩
                | have hst : False ↔ ∀ v : Int, 0 ≤ v → v < v3 + 1 → (M 11 v = 0 ∨ ¬ M 10 v = M 10 w ∨ ¬ weq (M 3) (M 6) (M 8) (M 9) w v (M 10 w)) := ⟨False.elim, fun q => ((hb3.1 q).2).elim (fun z => by omega) (fun z => z.elim (fun y => y (by omega)) (fun y => absurd (hal2.2 y) (by omega)))⟩
                refine lv_istore_n (lv' := [(2, .int (zi 1)), (0, .ref (ad 63)), (1, .int (zi w)), (3, .int (zi v3))]) C.x C.b dX2_isFirstOfItsRow_57 rfl hl (by decide) rfl (fun ls hl => ?_)
                refine r_iinc (lv' := [(3, .int (zi (v3 + 1))), (2, .int (zi 1)), (0, .ref (ad 63)), (1, .int (zi w))]) C dX2_isFirstOfItsRow_58 hl (k := 3) rfl (by decide) rfl (fun ls hl => ?_)
                refine lv_goto (tgt := 4) C.x C.b dX2_isFirstOfItsRow_61 (by decide) ?_
                exact ih4 True 1 bI_T.symm (v3 + 1) (by omega) hst (by omega) H locs ls hX hS (lv_sub hl [2, 3, 1, 0] rfl)
  exact L4 _ True 1 bI_T.symm 0 (by omega) bl_0 (Nat.lt_succ_self _) H locs ls hX hS (lv_sub hl [2, 3, 1, 0] rfl)

theorem hd_X2_findAkins : yX2_findAkins.cls = RX2 ∧ yX2_findAkins.cls ≠ "java/lang/invoke/MethodHandle" ∧ yX2_findAkins.cls ≠ "java/lang/invoke/VarHandle" ∧ (parseMethodDescriptor yX2_findAkins.desc).map (fun d => d.parameters.length) = some 0 := by decide +kernel
abbrev rm_X2_findAkins : Room := { frames := 4, cells := 0, slots := 0, locals := 91 }
set_option maxHeartbeats 8000000 in
theorem met_X2_findAkins (l : Launch) (E : us_E) (A : Nat → Prop) (ad : Nat → Nat) (F : Nat → Int) (M : Nat → Int → Int) : cMet l yX2_findAkins cX2_findAkins 6 none rm_X2_findAkins A E [.ref (ad 63)] (fun H => MH E A ad F M H) (qv A (fun H => ∃ f7 : Int, ∃ m3 : Int → Int, ∃ m8 : Int → Int, ∃ m9 : Int → Int, ∃ m10 : Int → Int, ∃ m11 : Int → Int, ∃ m14 : Int → Int, SgOK (F 0) (M 1) (F 2) m3 ∧ (f7 = wk (mtc (M 6)) (M 5) (F 4) 0) ∧ WR (mtc (M 6)) (M 5) m8 m9 m10 m11 (F 4) 0 ∧ (∀ a b : Int, 0 ≤ a → a < 24 → 0 ≤ b → b < 24 → m14 (24 * a + b) = akS m3 (mtc (M 6)) (M 5) (F 4) a b) ∧ MH E A ad (va_up F 7 f7) (va_up (va_up (va_up (va_up (va_up (va_up M 3 m3) 8 m8) 9 m9) 10 m10) 11 m11) 14 m14) H)) := by
  refine cMet.of (by decide) (Nat.le_of_ble_eq_true rfl) (fun p e s m args below meth c C hnm hX hS ls hl => ?_)
  have C : Cx p s m args meth c A RX2 cX2_findAkins 6 none E := C
  have hX : MH E A ad F M s.heap := hX
  have hl : lv_has ls 6 [(0, .ref (ad 63))] := hl
  generalize hH : s.heap = H at hX
  have hS : va_S A s.heap H [] := by rw [← hH]; exact hS
  generalize hlocs : ([] : List Loc) = locs at hS ⊢
  have rF0 : 0 ≤ F 0 ∧ F 0 ≤ 24 := hX.2.1 0 (0, 24) rfl
  have rF2 : 0 ≤ F 2 ∧ F 2 ≤ 12 := hX.2.1 2 (0, 12) rfl
  have rF4 : 0 ≤ F 4 ∧ F 4 ≤ 8 := hX.2.1 4 (0, 8) rfl
  have rF7 : 0 ≤ F 7 ∧ F 7 ≤ 104 := hX.2.1 7 (0, 104) rfl
  have h24 : ∀ t, 0 ≤ M 5 t ∧ M 5 t ≤ 24 := fun t => hX.2.2 5 (0, 24) rfl t
  have hcl : ∀ q, -2 ≤ M 6 q ∧ M 6 q ≤ 23 := fun q => hX.2.2 6 (-2, 23) rfl q
  refine lv_aload_n C.x C.b dX2_findAkins_0 rfl (lv_at hl 0 rfl) ?_
  refine r_callVv (As := []) (rest := []) (cells' := 0) (slots' := 0) C (met_X2_findWords l E A ad F M) (lw_V q1255 q1257 qs46 q88 q1258) hd_X2_findWords rfl (by decide) (m_recv C hX) hX hS hl.1 rfl (Nat.le_of_ble_eq_true rfl) dX2_findAkins_1 rfl rfl ⟨Nat.le_of_ble_eq_true rfl, Nat.le_of_ble_eq_true rfl⟩ (fun H locs hp hS => ?_)
  obtain ⟨wn, sg, w8, w9, w10, w11, hsg, hwk, hwr, hX⟩ := hp
  have hsg : SgOK ((F 0)) ((M 1)) ((F 2)) sg := hsg
  have hwk : wn = wk (mtc ((M 6))) ((M 5)) ((F 4)) 0 := hwk
  have hwr : WR (mtc ((M 6))) ((M 5)) w8 w9 w10 w11 ((F 4)) 0 := hwr
  have hX : MH E A ad (va_up F 7 wn) (va_up (va_up (va_up (va_up (va_up M 3 sg) 8 w8) 9 w9) 10 w10) 11 w11) H := hX.to rfl ((congrArg (fun z => va_up z 11 w11) ((congrArg (fun z => va_up z 10 w10) ((congrArg (fun z => va_up z 9 w9) ((congrArg (fun z => va_up z 8 w8) rfl).trans rfl)).trans rfl)).trans rfl)).trans rfl)
  have hwkr := wk_r (tc := (mtc (M 6))) h24 rF4.1 (i := 0) (by omega)
  refine r_const C dX2_findAkins_4 ?_
  refine lv_istore_n (lv' := [(1, .int (zi 0)), (0, .ref (ad 63))]) C.x C.b dX2_findAkins_5 rfl hl (by decide) rfl (fun ls hl => ?_)
  have L6 : ∀ (fu : Nat) (v1 : Int) (m14 : Int → Int) (h1 : 0 ≤ v1 ∧ v1 ≤ 576) (h0 : ∀ j : Int, 0 ≤ j → j < v1 → m14 j = 0) (hm : Int.toNat (576 - v1) < fu) (H : Heap) (locs : List Loc) (ls : Array Slot) (hX : MH E A ad (va_up F 7 wn) (va_up (va_up (va_up (va_up (va_up (va_up M 3 sg) 8 w8) 9 w9) 10 w10) 11 w11) 14 m14) H) (hS : va_S A s.heap H locs) (hl : lv_has ls 6 [(0, .ref (ad 63)), (1, .int (zi v1))]), W p l e rm_X2_findAkins s m args below meth c H locs 0 0 (MQ below (qv A (fun H => ∃ f7 : Int, ∃ m3 : Int → Int, ∃ m8 : Int → Int, ∃ m9 : Int → Int, ∃ m10 : Int → Int, ∃ m11 : Int → Int, ∃ m14 : Int → Int, SgOK (F 0) (M 1) (F 2) m3 ∧ (f7 = wk (mtc (M 6)) (M 5) (F 4) 0) ∧ WR (mtc (M 6)) (M 5) m8 m9 m10 m11 (F 4) 0 ∧ (∀ a b : Int, 0 ≤ a → a < 24 → 0 ≤ b → b < 24 → m14 (24 * a + b) = akS m3 (mtc (M 6)) (M 5) (F 4) a b) ∧ MH E A ad (va_up F 7 f7) (va_up (va_up (va_up (va_up (va_up (va_up M 3 m3) 8 m8) 9 m9) 10 m10) 11 m11) 14 m14) H)) args s (rm_X2_findAkins).cells (rm_X2_findAkins).slots A) (F0 m 6 ls []) := by
    intro fu
    induction fu with
    | zero => intro v1 m14 h1 h0 hm; exact absurd hm (Nat.not_lt_zero _)
    | succ fu ih6 =>
      intro v1 m14 h1 h0 hm H locs ls hX hS hl
      refine lv_iload_n C.x C.b dX2_findAkins_6 rfl (lv_at hl 1 rfl) ?_
      refine r_sipush C (by decide) dX2_findAkins_7 ?_
      refine r_icmp_ge (tgt := 26) C (by omega) (by decide) dX2_findAkins_10 (by decide) (fun c_1 => ?_) (fun c_1 => ?_)
      · refine r_const C dX2_findAkins_26 ?_
        refine lv_istore_n (lv' := [(1, .int (zi 0)), (0, .ref (ad 63))]) C.x C.b dX2_findAkins_27 rfl hl (by decide) rfl (fun ls hl => ?_)
        have L28 : ∀ (fu : Nat) (v1 : Int) (m14 : Int → Int) (h1 : 0 ≤ v1 ∧ v1 ≤ wn) (ha : ∀ a b : Int, 0 ≤ a → a < 24 → 0 ≤ b → b < 24 → m14 (24 * a + b) = isum (fun w => isum (fun v => gw sg (M 6) w8 w9 w10 w11 a b w v) w) v1) (hm : Int.toNat (wn - v1) < fu) (H : Heap) (locs : List Loc) (ls : Array Slot) (hX : MH E A ad (va_up F 7 wn) (va_up (va_up (va_up (va_up (va_up (va_up M 3 sg) 8 w8) 9 w9) 10 w10) 11 w11) 14 m14) H) (hS : va_S A s.heap H locs) (hl : lv_has ls 6 [(0, .ref (ad 63)), (1, .int (zi v1))]), W p l e rm_X2_findAkins s m args below meth c H locs 0 0 (MQ below (qv A (fun H => ∃ f7 : Int, ∃ m3 : Int → Int, ∃ m8 : Int → Int, ∃ m9 : Int → Int, ∃ m10 : Int → Int, ∃ m11 : Int → Int, ∃ m14 : Int → Int, SgOK (F 0) (M 1) (F 2) m3 ∧ (f7 = wk (mtc (M 6)) (M 5) (F 4) 0) ∧ WR (mtc (M 6)) (M 5) m8 m9 m10 m11 (F 4) 0 ∧ (∀ a b : Int, 0 ≤ a → a < 24 → 0 ≤ b → b < 24 → m14 (24 * a + b) = akS m3 (mtc (M 6)) (M 5) (F 4) a b) ∧ MH E A ad (va_up F 7 f7) (va_up (va_up (va_up (va_up (va_up (va_up M 3 m3) 8 m8) 9 m9) 10 m10) 11 m11) 14 m14) H)) args s (rm_X2_findAkins).cells (rm_X2_findAkins).slots A) (F0 m 28 ls []) := by
          intro fu
          induction fu with
          | zero => intro v1 m14 h1 ha hm; exact absurd hm (Nat.not_lt_zero _)
          | succ fu ih28 =>
            intro v1 m14 h1 ha hm H locs ls hX hS hl
            refine lv_iload_n C.x C.b dX2_findAkins_28 rfl (lv_at hl 1 rfl) ?_
            refine lv_aload_n C.x C.b dX2_findAkins_29 rfl (lv_at hl 0 rfl) ?_
            refine mg_7 C hX wn rfl dX2_findAkins_30 (fun r30 => ?_)
            refine r_icmp_ge (tgt := 177) C (by omega) (by omega) dX2_findAkins_33 (by decide) (fun c_2 => ?_) (fun c_2 => ?_)
            · have h01 : ∀ w, w11 w = 0 ∨ w11 w = 1 := fun w => by
                have z : 0 ≤ w11 w ∧ w11 w ≤ 1 := hX.2.2 11 (0, 1) rfl w
                omega
              exact r_vret C hS (Nat.le_of_ble_eq_true rfl) (Nat.le_of_ble_eq_true rfl) dX2_findAkins_177 ⟨wn, sg, w8, w9, w10, w11, m14, hsg, hwk, hwr, (fun a b q1 q2 q3 q4 => by rw [ha a b q1 q2 q3 q4, show v1 = wn by omega, hwk]; exact ak_words (fun a => (h24 a).1) rF4.1 hwr h01), hX⟩
            · refine r_const C dX2_findAkins_36 ?_
              refine lv_istore_n (lv' := [(2, .int (zi 0)), (0, .ref (ad 63)), (1, .int (zi v1))]) C.x C.b dX2_findAkins_37 rfl hl (by decide) rfl (fun ls hl => ?_)
              have L38 : ∀ (fu : Nat) (v2 : Int) (m14 : Int → Int) (h2 : 0 ≤ v2 ∧ v2 ≤ v1) (hb : ∀ a b : Int, 0 ≤ a → a < 24 → 0 ≤ b → b < 24 → m14 (24 * a + b) = isum (fun w => isum (fun v => gw sg (M 6) w8 w9 w10 w11 a b w v) w) v1 + isum (fun v => gw sg (M 6) w8 w9 w10 w11 a b v1 v) v2) (hm : Int.toNat (v1 - v2) < fu) (H : Heap) (locs : List Loc) (ls : Array Slot) (hX : MH E A ad (va_up F 7 wn) (va_up (va_up (va_up (va_up (va_up (va_up M 3 sg) 8 w8) 9 w9) 10 w10) 11 w11) 14 m14) H) (hS : va_S A s.heap H locs) (hl : lv_has ls 6 [(0, .ref (ad 63)), (1, .int (zi v1)), (2, .int (zi v2))]), W p l e rm_X2_findAkins s m args below meth c H locs 0 0 (MQ below (qv A (fun H => ∃ f7 : Int, ∃ m3 : Int → Int, ∃ m8 : Int → Int, ∃ m9 : Int → Int, ∃ m10 : Int → Int, ∃ m11 : Int → Int, ∃ m14 : Int → Int, SgOK (F 0) (M 1) (F 2) m3 ∧ (f7 = wk (mtc (M 6)) (M 5) (F 4) 0) ∧ WR (mtc (M 6)) (M 5) m8 m9 m10 m11 (F 4) 0 ∧ (∀ a b : Int, 0 ≤ a → a < 24 → 0 ≤ b → b < 24 → m14 (24 * a + b) = akS m3 (mtc (M 6)) (M 5) (F 4) a b) ∧ MH E A ad (va_up F 7 f7) (va_up (va_up (va_up (va_up (va_up (va_up M 3 m3) 8 m8) 9 m9) 10 m10) 11 m11) 14 m14) H)) args s (rm_X2_findAkins).cells (rm_X2_findAkins).slots A) (F0 m 38 ls []) := by
                intro fu
                induction fu with
                | zero => intro v2 m14 h2 hb hm; exact absurd hm (Nat.not_lt_zero _)
                | succ fu ih38 =>
                  intro v2 m14 h2 hb hm H locs ls hX hS hl
                  refine lv_iload_n C.x C.b dX2_findAkins_38 rfl (lv_at hl 2 rfl) ?_
                  refine lv_iload_n C.x C.b dX2_findAkins_39 rfl (lv_at hl 1 rfl) ?_
                  refine r_icmp_ge (tgt := 171) C (by omega) (by omega) dX2_findAkins_40 (by decide) (fun c_3 => ?_) (fun c_3 => ?_)
                  · refine r_iinc (lv' := [(1, .int (zi (v1 + 1))), (0, .ref (ad 63)), (2, .int (zi v2))]) C dX2_findAkins_171 hl (k := 1) rfl (by decide) rfl (fun ls hl => ?_)
                    refine lv_goto (tgt := 28) C.x C.b dX2_findAkins_174 (by decide) ?_
                    exact ih28 (v1 + 1) m14 (by omega) (fun a b q1 q2 q3 q4 => by rw [isum_s h1.1, hb a b q1 q2 q3 q4, show v2 = v1 by omega]) (by omega) H locs ls hX hS (lv_sub hl [1, 0] rfl)
                  · refine lv_aload_n C.x C.b dX2_findAkins_43 rfl (lv_at hl 0 rfl) ?_
                    refine mg_10 C hX dX2_findAkins_44 ?_
                    refine lv_iload_n C.x C.b dX2_findAkins_47 rfl (lv_at hl 1 rfl) ?_
                    refine ml_10 C hX (by omega) w10 rfl dX2_findAkins_48 (fun r48 => ?_)
                    refine lv_istore_n (lv' := [(3, .int (zi (w10 v1))), (0, .ref (ad 63)), (1, .int (zi v1)), (2, .int (zi v2))]) C.x C.b dX2_findAkins_49 rfl hl (by decide) rfl (fun ls hl => ?_)
                    have r11 : 0 ≤ w11 v1 ∧ w11 v1 ≤ 1 := hX.2.2 11 (0, 1) rfl _
                    have r11b : 0 ≤ w11 v2 ∧ w11 v2 ≤ 1 := hX.2.2 11 (0, 1) rfl _
                    have hwf1 := (WR.wf h24 rF4.1 hwr hwk) v1 (by omega) (by omega)
                    have hwf2 := (WR.wf h24 rF4.1 hwr hwk) v2 (by omega) (by omega)
                    have hno : ¬ Pw sg (M 6) w8 w9 w10 w11 v1 v2 → ∀ a b : Int, 0 ≤ a → a < 24 → 0 ≤ b → b < 24 → m14 (24 * a + b) = isum (fun w => isum (fun v => gw sg (M 6) w8 w9 w10 w11 a b w v) w) v1 + isum (fun v => gw sg (M 6) w8 w9 w10 w11 a b v1 v) (v2 + 1) := fun z a b q1 q2 q3 q4 => by rw [isum_s h2.1, gw_f z, Int.add_zero]; exact hb a b q1 q2 q3 q4
                    refine lv_aload_n C.x C.b dX2_findAkins_50 rfl (lv_at hl 1 rfl) ?_
                    refine mg_11 C hX dX2_findAkins_51 ?_
                    refine lv_iload_n C.x C.b dX2_findAkins_54 rfl (lv_at hl 2 rfl) ?_
                    refine ml_11 C hX (by omega) w11 rfl dX2_findAkins_55 (fun r55 => ?_)
                    refine r_if_eq (tgt := 165) C (by omega) dX2_findAkins_56 (by decide) (fun c_4 => ?_) (fun c_4 => ?_)
                    · refine r_iinc (lv' := [(2, .int (zi (v2 + 1))), (3, .int (zi (w10 v1))), (0, .ref (ad 63)), (1, .int (zi v1))]) C dX2_findAkins_165 hl (k := 3) rfl (by decide) rfl (fun ls hl => ?_)
                      refine lv_goto (tgt := 38) C.x C.b dX2_findAkins_168 (by decide) ?_
                      exact ih38 (v2 + 1) m14 (by omega) (by first | exact hst | exact hno (fun z => by first | exact absurd z.1.1 (by omega) | exact absurd z.1.2.1 (by omega) | exact absurd z.1.2.2.1 (by omega) | exact absurd z.1.2.2.2 (by omega) | exact absurd ((hal.but z.1.2.2.2).2 z.2.1) (by omega) | exact absurd z.2.2.1 (by assumption) | exact absurd z.2.2.2 (by assumption))) (by omega) H locs ls hX hS (lv_sub hl [2, 3, 0] rfl)
                    · refine lv_aload_n C.x C.b dX2_findAkins_59 rfl (lv_at hl 1 rfl) ?_
                      refine mg_11 C hX dX2_findAkins_60 ?_
                      refine lv_iload_n C.x C.b dX2_findAkins_63 rfl (lv_at hl 3 rfl) ?_
                      refine ml_11 C hX (by omega) w11 rfl dX2_findAkins_64 (fun r64 => ?_)
                      refine r_if_eq (tgt := 165) C (by omega) dX2_findAkins_65 (by decide) (fun c_5 => ?_) (fun c_5 => ?_)
                      · refine r_iinc (lv' := [(2, .int (zi (v2 + 1))), (3, .int (zi (w10 v1))), (0, .ref (ad 63)), (1, .int (zi v1))]) C dX2_findAkins_165 hl (k := 3) rfl (by decide) rfl (fun ls hl => ?_)
                        refine lv_goto (tgt := 38) C.x C.b dX2_findAkins_168 (by decide) ?_
                        exact ih38 (v2 + 1) m14 (by omega) (by first | exact hst | exact hno (fun z => by first | exact absurd z.1.1 (by omega) | exact absurd z.1.2.1 (by omega) | exact absurd z.1.2.2.1 (by omega) | exact absurd z.1.2.2.2 (by omega) | exact absurd ((hal.but z.1.2.2.2).2 z.2.1) (by omega) | exact absurd z.2.2.1 (by assumption) | exact absurd z.2.2.2 (by assumption))) (by omega) H locs ls hX hS (lv_sub hl [2, 3, 0] rfl)
                      · refine lv_aload_n C.x C.b dX2_findAkins_68 rfl (lv_at hl 1 rfl) ?_
                        refine mg_10 C hX dX2_findAkins_69 ?_
                        refine lv_iload_n C.x C.b dX2_findAkins_72 rfl (lv_at hl 3 rfl) ?_
                        refine ml_10 C hX (by omega) w10 rfl dX2_findAkins_73 (fun r73 => ?_)
                        refine lv_iload_n C.x C.b dX2_findAkins_74 rfl (lv_at hl 0 rfl) ?_
                        refine r_icmp_ne (tgt := 165) C (by omega) (by omega) dX2_findAkins_75 (by decide) (fun c_6 => ?_) (fun c_6 => ?_)
                        · refine r_iinc (lv' := [(2, .int (zi (v2 + 1))), (3, .int (zi (w10 v1))), (0, .ref (ad 63)), (1, .int (zi v1))]) C dX2_findAkins_165 hl (k := 3) rfl (by decide) rfl (fun ls hl => ?_)
                          refine lv_goto (tgt := 38) C.x C.b dX2_findAkins_168 (by decide) ?_
                          exact ih38 (v2 + 1) m14 (by omega) (by first | exact hst | exact hno (fun z => by first | exact absurd z.1.1 (by omega) | exact absurd z.1.2.1 (by omega) | exact absurd z.1.2.2.1 (by omega) | exact absurd z.1.2.2.2 (by omega) | exact absurd ((hal.but z.1.2.2.2).2 z.2.1) (by omega) | exact absurd z.2.2.1 (by assumption) | exact absurd z.2.2.2 (by assumption))) (by omega) H locs ls hX hS (lv_sub hl [2, 3, 0] rfl)
                        · refine lv_iload_n C.x C.b dX2_findAkins_78 rfl (lv_at hl 0 rfl) ?_
                          refine r_const C dX2_findAkins_79 ?_
                          refine r_icmp_le (tgt := 165) C (by omega) (by decide) dX2_findAkins_80 (by decide) (fun c_7 => ?_) (fun c_7 => ?_)
                          · refine r_iinc (lv' := [(2, .int (zi (v2 + 1))), (3, .int (zi (w10 v1))), (0, .ref (ad 63)), (1, .int (zi v1))]) C dX2_findAkins_165 hl (k := 3) rfl (by decide) rfl (fun ls hl => ?_)
                            refine lv_goto (tgt := 38) C.x C.b dX2_findAkins_168 (by decide) ?_
                            exact ih38 (v2 + 1) m14 (by omega) (by first | exact hst | exact hno (fun z => by first | exact absurd z.1.1 (by omega) | exact absurd z.1.2.1 (by omega) | exact absurd z.1.2.2.1 (by omega) | exact absurd z.1.2.2.2 (by omega) | exact absurd ((hal.but z.1.2.2.2).2 z.2.1) (by omega) | exact absurd z.2.2.1 (by assumption) | exact absurd z.2.2.2 (by assumption))) (by omega) H locs ls hX hS (lv_sub hl [2, 3, 0] rfl)
                          · refine lv_aload_n C.x C.b dX2_findAkins_83 rfl (lv_at hl 1 rfl) ?_
                            refine lv_iload_n C.x C.b dX2_findAkins_84 rfl (lv_at hl 2 rfl) ?_
                            refine lv_iload_n C.x C.b dX2_findAkins_85 rfl (lv_at hl 3 rfl) ?_
                            refine r_callVi (As := [.int (zi v1), .int (zi v2)]) (rest := []) (cells' := 0) (slots' := 0) C (met_X2_alikeTo l E A ad (va_up F 7 wn) (va_up (va_up (va_up (va_up (va_up (va_up M 3 sg) 8 w8) 9 w9) 10 w10) 11 w11) 14 m14) v1 v2 (show ∀ k : Int, 0 ≤ k → k < wn → 0 ≤ w9 k ∧ 0 ≤ w10 k ∧ w9 k + w10 k ≤ 24 from (WR.wf h24 rF4.1 hwr hwk)) (show 0 ≤ v1 ∧ v1 < wn ∧ 0 ≤ v2 ∧ v2 < wn ∧ w10 v2 = w10 v1 from (by omega))) (lw_V q1313 q1315 qs55 q88 q1316) hd_X2_alikeTo rfl (by decide) (m_recv C hX) hX hS hl.1 rfl (Nat.le_of_ble_eq_true rfl) dX2_findAkins_86 rfl rfl ⟨Nat.le_of_ble_eq_true rfl, Nat.le_of_ble_eq_true rfl⟩ (fun rr H locs hp hS => ?_)
                            obtain ⟨r_8, hrr⟩ : ∃ z, z = rr := ⟨_, rfl⟩
                            rw [← hrr] at hp ⊢
                            obtain ⟨hal, hX⟩ := hp
                            have hal : AlTo (sg) ((M 6)) (w8) (w9) v1 v2 (w10 v1) r_8 := hal
                            have halr := hal.1
                            refine lv_iload_n C.x C.b dX2_findAkins_89 rfl (lv_at hl 0 rfl) ?_
                            refine r_const C dX2_findAkins_90 ?_
                            refine r_isub C dX2_findAkins_91 ?_
                            refine r_icmp_ne (tgt := 165) C (by omega) (by omega) dX2_findAkins_92 (by decide) (fun c_9 => ?_) (fun c_9 => ?_)
                            · refine r_iinc (lv' := [(2, .int (zi (v2 + 1))), (3, .int (zi (w10 v1))), (0, .ref (ad 63)), (1, .int (zi v1))]) C dX2_findAkins_165 hl (k := 3) rfl (by decide) rfl (fun ls hl => ?_)
                              refine lv_goto (tgt := 38) C.x C.b dX2_findAkins_168 (by decide) ?_
                              exact ih38 (v2 + 1) m14 (by omega) (by first | exact hst | exact hno (fun z => by first | exact absurd z.1.1 (by omega) | exact absurd z.1.2.1 (by omega) | exact absurd z.1.2.2.1 (by omega) | exact absurd z.1.2.2.2 (by omega) | exact absurd ((hal.but z.1.2.2.2).2 z.2.1) (by omega) | exact absurd z.2.2.1 (by assumption) | exact absurd z.2.2.2 (by assumption))) (by omega) H locs ls hX hS (lv_sub hl [2, 3, 0] rfl)
                            · refine lv_aload_n C.x C.b dX2_findAkins_95 rfl (lv_at hl 1 rfl) ?_
                              refine lv_iload_n C.x C.b dX2_findAkins_96 rfl (lv_at hl 2 rfl) ?_
                              refine r_callVi (As := [.int (zi v1)]) (rest := []) (cells' := 0) (slots' := 0) C (met_X2_isFirstOfItsRow l E A ad (va_up F 7 wn) (va_up (va_up (va_up (va_up (va_up (va_up M 3 sg) 8 w8) 9 w9) 10 w10) 11 w11) 14 m14) v1 (show ∀ k : Int, 0 ≤ k → k < wn → 0 ≤ w9 k ∧ 0 ≤ w10 k ∧ w9 k + w10 k ≤ 24 from (WR.wf h24 rF4.1 hwr hwk)) (show 0 ≤ v1 ∧ v1 < wn from (by omega))) (lw_V q1317 q1319 qs56 q88 q1320) hd_X2_isFirstOfItsRow rfl (by decide) (m_recv C hX) hX hS hl.1 rfl (Nat.le_of_ble_eq_true rfl) dX2_findAkins_97 rfl rfl ⟨Nat.le_of_ble_eq_true rfl, Nat.le_of_ble_eq_true rfl⟩ (fun rr H locs hp hS => ?_)
                              obtain ⟨hrr, hX⟩ := hp
                              have hrr : rr = bI (FRw (sg) ((M 6)) (w8) (w9) (w10) (w11) v1) := hrr
                              subst hrr
                              refine r_if_eq_b (tgt := 165) C dX2_findAkins_100 (by decide) (fun c_10 => ?_) (fun c_10 => ?_)
                              · refine r_iinc (lv' := [(2, .int (zi (v2 + 1))), (3, .int (zi (w10 v1))), (0, .ref (ad 63)), (1, .int (zi v1))]) C dX2_findAkins_165 hl (k := 3) rfl (by decide) rfl (fun ls hl => ?_)
                                refine lv_goto (tgt := 38) C.x C.b dX2_findAkins_168 (by decide) ?_
                                exact ih38 (v2 + 1) m14 (by omega) (by first | exact hst | exact hno (fun z => by first | exact absurd z.1.1 (by omega) | exact absurd z.1.2.1 (by omega) | exact absurd z.1.2.2.1 (by omega) | exact absurd z.1.2.2.2 (by omega) | exact absurd ((hal.but z.1.2.2.2).2 z.2.1) (by omega) | exact absurd z.2.2.1 (by assumption) | exact absurd z.2.2.2 (by assumption))) (by omega) H locs ls hX hS (lv_sub hl [2, 3, 0] rfl)
                              · refine lv_aload_n C.x C.b dX2_findAkins_103 rfl (lv_at hl 1 rfl) ?_
                                refine lv_iload_n C.x C.b dX2_findAkins_104 rfl (lv_at hl 3 rfl) ?_
                                refine r_callVi (As := [.int (zi v2)]) (rest := []) (cells' := 0) (slots' := 0) C (met_X2_isFirstOfItsRow l E A ad (va_up F 7 wn) (va_up (va_up (va_up (va_up (va_up (va_up M 3 sg) 8 w8) 9 w9) 10 w10) 11 w11) 14 m14) v2 (show ∀ k : Int, 0 ≤ k → k < wn → 0 ≤ w9 k ∧ 0 ≤ w10 k ∧ w9 k + w10 k ≤ 24 from (WR.wf h24 rF4.1 hwr hwk)) (show 0 ≤ v2 ∧ v2 < wn from (by omega))) (lw_V q1317 q1319 qs56 q88 q1320) hd_X2_isFirstOfItsRow rfl (by decide) (m_recv C hX) hX hS hl.1 rfl (Nat.le_of_ble_eq_true rfl) dX2_findAkins_105 rfl rfl ⟨Nat.le_of_ble_eq_true rfl, Nat.le_of_ble_eq_true rfl⟩ (fun rr H locs hp hS => ?_)
                                obtain ⟨hrr, hX⟩ := hp
                                have hrr : rr = bI (FRw (sg) ((M 6)) (w8) (w9) (w10) (w11) v2) := hrr
                                subst hrr
                                refine r_if_eq_b (tgt := 165) C dX2_findAkins_108 (by decide) (fun c_11 => ?_) (fun c_11 => ?_)
                                · refine r_iinc (lv' := [(2, .int (zi (v2 + 1))), (3, .int (zi (w10 v1))), (0, .ref (ad 63)), (1, .int (zi v1))]) C dX2_findAkins_165 hl (k := 3) rfl (by decide) rfl (fun ls hl => ?_)
                                  refine lv_goto (tgt := 38) C.x C.b dX2_findAkins_168 (by decide) ?_
                                  exact ih38 (v2 + 1) m14 (by omega) (by first | exact hst | exact hno (fun z => by first | exact absurd z.1.1 (by omega) | exact absurd z.1.2.1 (by omega) | exact absurd z.1.2.2.1 (by omega) | exact absurd z.1.2.2.2 (by omega) | exact absurd ((hal.but z.1.2.2.2).2 z.2.1) (by omega) | exact absurd z.2.2.1 (by assumption) | exact absurd z.2.2.2 (by assumption))) (by omega) H locs ls hX hS (lv_sub hl [2, 3, 0] rfl)
                                · have hP : Pw sg (M 6) w8 w9 w10 w11 v1 v2 := ⟨⟨by omega, by omega, by omega, by omega⟩, (hal.but (by omega)).1 (by omega), by assumption, by assumption⟩
                                  have hc1 := hwr.cell h24 rF4.1 hwk (fun q => (hcl q).1) (w := v1) (j := w10 v1 - 1) (by omega) (by omega) hP.1.1 (by omega)
                                  have hc2 := hwr.cell h24 rF4.1 hwk (fun q => (hcl q).1) (w := v2) (j := w10 v1 - 1) (by omega) (by omega) hP.1.2.1 (by omega)
                                  have hs1 := sa_n (sg := sg) (c := M 6 (24 * w8 v1 + (w9 v1 + (w10 v1 - 1)))) (hX.2.2 3 (0, 23) rfl _).1
                                  have hs2 := sa_n (sg := sg) (c := M 6 (24 * w8 v2 + (w9 v2 + (w10 v1 - 1)))) (hX.2.2 3 (0, 23) rfl _).1
                                  refine lv_aload_n C.x C.b dX2_findAkins_111 rfl (lv_at hl 1 rfl) ?_
                                  refine lv_iload_n C.x C.b dX2_findAkins_112 rfl (lv_at hl 2 rfl) ?_
                                  refine lv_iload_n C.x C.b dX2_findAkins_113 rfl (lv_at hl 0 rfl) ?_
                                  refine r_const C dX2_findAkins_114 ?_
                                  refine r_isub C dX2_findAkins_115 ?_
                                  refine r_callVi (As := [.int (zi v1), .int (zi ((w10 v1) - 1))]) (rest := []) (cells' := 0) (slots' := 0) C (met_X2_wordAt l E A ad (va_up F 7 wn) (va_up (va_up (va_up (va_up (va_up (va_up M 3 sg) 8 w8) 9 w9) 10 w10) 11 w11) 14 m14) v1 ((w10 v1) - 1) (show 0 ≤ v1 ∧ v1 < 104 from (by omega)) (show 0 ≤ w9 v1 + ((w10 v1) - 1) ∧ w9 v1 + ((w10 v1) - 1) < 24 ∧ -100 ≤ ((w10 v1) - 1) from (by omega))) (lw_V q1301 q1303 qs53 q88 q1304) hd_X2_wordAt rfl (by decide) (m_recv C hX) hX hS hl.1 rfl (Nat.le_of_ble_eq_true rfl) dX2_findAkins_116 rfl rfl ⟨Nat.le_of_ble_eq_true rfl, Nat.le_of_ble_eq_true rfl⟩ (fun rr H locs hp hS => ?_)
                                  obtain ⟨hat, hrr, hX⟩ := hp
                                  have hrr : rr = sa (sg) ((M 6) (24 * w8 v1 + (w9 v1 + ((w10 v1) - 1)))) := hrr
                                  subst hrr
                                  have hat : -2 ≤ sa (sg) ((M 6) (24 * w8 v1 + (w9 v1 + ((w10 v1) - 1)))) ∧ sa (sg) ((M 6) (24 * w8 v1 + (w9 v1 + ((w10 v1) - 1)))) ≤ 23 := hat
                                  refine lv_istore (lv' := [(4, .int (zi (sa (sg) ((M 6) (24 * w8 v1 + (w9 v1 + ((w10 v1) - 1))))))), (3, .int (zi (w10 v1))), (0, .ref (ad 63)), (1, .int (zi v1)), (2, .int (zi v2))]) C.x C.b dX2_findAkins_119 hl (by decide) rfl (fun ls hl => ?_)
                                  refine lv_aload_n C.x C.b dX2_findAkins_121 rfl (lv_at hl 2 rfl) ?_
                                  refine lv_iload_n C.x C.b dX2_findAkins_122 rfl (lv_at hl 4 rfl) ?_
                                  refine lv_iload_n C.x C.b dX2_findAkins_123 rfl (lv_at hl 1 rfl) ?_
                                  refine r_const C dX2_findAkins_124 ?_
                                  refine r_isub C dX2_findAkins_125 ?_
                                  refine r_callVi (As := [.int (zi v2), .int (zi ((w10 v1) - 1))]) (rest := []) (cells' := 0) (slots' := 0) C (met_X2_wordAt l E A ad (va_up F 7 wn) (va_up (va_up (va_up (va_up (va_up (va_up M 3 sg) 8 w8) 9 w9) 10 w10) 11 w11) 14 m14) v2 ((w10 v1) - 1) (show 0 ≤ v2 ∧ v2 < 104 from (by omega)) (show 0 ≤ w9 v2 + ((w10 v1) - 1) ∧ w9 v2 + ((w10 v1) - 1) < 24 ∧ -100 ≤ ((w10 v1) - 1) from (by omega))) (lw_V q1301 q1303 qs53 q88 q1304) hd_X2_wordAt rfl (by decide) (m_recv C hX) hX hS hl.1 rfl (Nat.le_of_ble_eq_true rfl) dX2_findAkins_126 rfl rfl ⟨Nat.le_of_ble_eq_true rfl, Nat.le_of_ble_eq_true rfl⟩ (fun rr H locs hp hS => ?_)
                                  obtain ⟨hat, hrr, hX⟩ := hp
                                  have hrr : rr = sa (sg) ((M 6) (24 * w8 v2 + (w9 v2 + ((w10 v1) - 1)))) := hrr
                                  subst hrr
                                  have hat : -2 ≤ sa (sg) ((M 6) (24 * w8 v2 + (w9 v2 + ((w10 v1) - 1)))) ∧ sa (sg) ((M 6) (24 * w8 v2 + (w9 v2 + ((w10 v1) - 1)))) ≤ 23 := hat
                                  refine lv_istore (lv' := [(5, .int (zi (sa (sg) ((M 6) (24 * w8 v2 + (w9 v2 + ((w10 v1) - 1))))))), (4, .int (zi (sa (sg) ((M 6) (24 * w8 v1 + (w9 v1 + ((w10 v1) - 1))))))), (3, .int (zi (w10 v1))), (0, .ref (ad 63)), (1, .int (zi v1)), (2, .int (zi v2))]) C.x C.b dX2_findAkins_129 hl (by decide) rfl (fun ls hl => ?_)
                                  have hst : ∀ a b : Int, 0 ≤ a → a < 24 → 0 ≤ b → b < 24 → (fup (fup m14 (24 * sa sg (M 6 (24 * w8 v1 + (w9 v1 + (w10 v1 - 1)))) + sa sg (M 6 (24 * w8 v2 + (w9 v2 + (w10 v1 - 1))))) (m14 (24 * sa sg (M 6 (24 * w8 v1 + (w9 v1 + (w10 v1 - 1)))) + sa sg (M 6 (24 * w8 v2 + (w9 v2 + (w10 v1 - 1))))) + 1)) (24 * sa sg (M 6 (24 * w8 v2 + (w9 v2 + (w10 v1 - 1)))) + sa sg (M 6 (24 * w8 v1 + (w9 v1 + (w10 v1 - 1))))) (fup m14 (24 * sa sg (M 6 (24 * w8 v1 + (w9 v1 + (w10 v1 - 1)))) + sa sg (M 6 (24 * w8 v2 + (w9 v2 + (w10 v1 - 1))))) (m14 (24 * sa sg (M 6 (24 * w8 v1 + (w9 v1 + (w10 v1 - 1)))) + sa sg (M 6 (24 * w8 v2 + (w9 v2 + (w10 v1 - 1))))) + 1) (24 * sa sg (M 6 (24 * w8 v2 + (w9 v2 + (w10 v1 - 1)))) + sa sg (M 6 (24 * w8 v1 + (w9 v1 + (w10 v1 - 1))))) + 1)) (24 * a + b) = isum (fun w => isum (fun v => gw sg (M 6) w8 w9 w10 w11 a b w v) w) v1 + isum (fun v => gw sg (M 6) w8 w9 w10 w11 a b v1 v) (v2 + 1) := fun a b q1 q2 q3 q4 => by
                                    rw [ak_up (m := m14) (a := sa sg (M 6 (24 * w8 v1 + (w9 v1 + (w10 v1 - 1))))) (b := sa sg (M 6 (24 * w8 v2 + (w9 v2 + (w10 v1 - 1))))) (by omega) (by omega) ⟨q1, q2⟩ ⟨q3, q4⟩ hP.2.1.2, hb a b q1 q2 q3 q4, isum_s h2.1, gw_t hP, Int.add_assoc]
                                    rfl
                                  refine lv_aload_n C.x C.b dX2_findAkins_131 rfl (lv_at hl 3 rfl) ?_
                                  refine mg_14 C hX dX2_findAkins_132 ?_
                                  refine r_bipush C (by decide) dX2_findAkins_135 ?_
                                  refine lv_iload C.x C.b dX2_findAkins_137 (lv_at hl 1 rfl) ?_
                                  refine r_imul C dX2_findAkins_139 ?_
                                  refine lv_iload C.x C.b dX2_findAkins_140 (lv_at hl 0 rfl) ?_
                                  refine r_iadd C dX2_findAkins_142 ?_
                                  refine lv_dup2_11 C.x C.b dX2_findAkins_143 rfl rfl ?_
                                  refine ml_14 C hX (by omega) m14 rfl dX2_findAkins_144 ?_
                                  refine r_const C dX2_findAkins_145 ?_
                                  refine r_iadd C dX2_findAkins_146 ?_
                                  refine ms_14 C hX hS (by omega) m14 rfl (M' := (va_up (va_up (va_up (va_up (va_up (va_up M 3 sg) 8 w8) 9 w9) 10 w10) 11 w11) 14 (fup m14 ((24 * (sa (sg) ((M 6) (24 * w8 v1 + (w9 v1 + ((w10 v1) - 1)))))) + (sa (sg) ((M 6) (24 * w8 v2 + (w9 v2 + ((w10 v1) - 1)))))) ((m14 ((24 * (sa (sg) ((M 6) (24 * w8 v1 + (w9 v1 + ((w10 v1) - 1)))))) + (sa (sg) ((M 6) (24 * w8 v2 + (w9 v2 + ((w10 v1) - 1))))))) + 1)))) (up_up _ _ _ _) dX2_findAkins_147 (fun H locs hX hS => ?_)
                                  refine lv_aload_n C.x C.b dX2_findAkins_148 rfl (lv_at hl 3 rfl) ?_
                                  refine mg_14 C hX dX2_findAkins_149 ?_
                                  refine r_bipush C (by decide) dX2_findAkins_152 ?_
                                  refine lv_iload C.x C.b dX2_findAkins_154 (lv_at hl 0 rfl) ?_
                                  refine r_imul C dX2_findAkins_156 ?_
                                  refine lv_iload C.x C.b dX2_findAkins_157 (lv_at hl 1 rfl) ?_
                                  refine r_iadd C dX2_findAkins_159 ?_
                                  refine lv_dup2_11 C.x C.b dX2_findAkins_160 rfl rfl ?_
                                  refine ml_14 C hX (by omega) (fup m14 ((24 * (sa (sg) ((M 6) (24 * w8 v1 + (w9 v1 + ((w10 v1) - 1)))))) + (sa (sg) ((M 6) (24 * w8 v2 + (w9 v2 + ((w10 v1) - 1)))))) ((m14 ((24 * (sa (sg) ((M 6) (24 * w8 v1 + (w9 v1 + ((w10 v1) - 1)))))) + (sa (sg) ((M 6) (24 * w8 v2 + (w9 v2 + ((w10 v1) - 1))))))) + 1)) rfl dX2_findAkins_161 ?_
                                  refine r_const C dX2_findAkins_162 ?_
                                  refine r_iadd C dX2_findAkins_163 ?_
                                  refine ms_14 C hX hS (by omega) (fup m14 ((24 * (sa (sg) ((M 6) (24 * w8 v1 + (w9 v1 + ((w10 v1) - 1)))))) + (sa (sg) ((M 6) (24 * w8 v2 + (w9 v2 + ((w10 v1) - 1)))))) ((m14 ((24 * (sa (sg) ((M 6) (24 * w8 v1 + (w9 v1 + ((w10 v1) - 1)))))) + (sa (sg) ((M 6) (24 * w8 v2 + (w9 v2 + ((w10 v1) - 1))))))) + 1)) rfl (M' := (va_up (va_up (va_up (va_up (va_up (va_up M 3 sg) 8 w8) 9 w9) 10 w10) 11 w11) 14 (fup (fup m14 ((24 * (sa (sg) ((M 6) (24 * w8 v1 + (w9 v1 + ((w10 v1) - 1)))))) + (sa (sg) ((M 6) (24 * w8 v2 + (w9 v2 + ((w10 v1) - 1)))))) ((m14 ((24 * (sa (sg) ((M 6) (24 * w8 v1 + (w9 v1 + ((w10 v1) - 1)))))) + (sa (sg) ((M 6) (24 * w8 v2 + (w9 v2 + ((w10 v1) - 1))))))) + 1)) ((24 * (sa (sg) ((M 6) (24 * w8 v2 + (w9 v2 + ((w10 v1) - 1)))))) + (sa (sg) ((M 6) (24 * w8 v1 + (w9 v1 + ((w10 v1) - 1)))))) (((fup m14 ((24 * (sa (sg) ((M 6) (24 * w8 v1 + (w9 v1 + ((w10 v1) - 1)))))) + (sa (sg) ((M 6) (24 * w8 v2 + (w9 v2 + ((w10 v1) - 1)))))) ((m14 ((24 * (sa (sg) ((M 6) (24 * w8 v1 + (w9 v1 + ((w10 v1) - 1)))))) + (sa (sg) ((M 6) (24 * w8 v2 + (w9 v2 + ((w10 v1) - 1))))))) + 1)) ((24 * (sa (sg) ((M 6) (24 * w8 v2 + (w9 v2 + ((w10 v1) - 1)))))) + (sa (sg) ((M 6) (24 * w8 v1 + (w9 v1 + ((w10 v1) - 1))))))) + 1)))) (up_up _ _ _ _) dX2_findAkins_164 (fun H locs hX hS => ?_)
                                  refine r_iinc (lv' := [(2, .int (zi (v2 + 1))), (5, .int (zi (sa (sg) ((M 6) (24 * w8 v2 + (w9 v2 + ((w10 v1) - 1))))))), (4, .int (zi (sa (sg) ((M 6) (24 * w8 v1 + (w9 v1 + ((w10 v1) - 1))))))), (3, .int (zi (w10 v1))), (0, .ref (ad 63)), (1, .int (zi v1))]) C dX2_findAkins_165 hl (k := 5) rfl (by decide) rfl (fun ls hl => ?_)
                                  refine lv_goto (tgt := 38) C.x C.b dX2_findAkins_168 (by decide) ?_
                                  exact ih38 (v2 + 1) (fup (fup m14 ((24 * (sa (sg) ((M 6) (24 * w8 v1 + (w9 v1 + ((w10 v1) - 1)))))) + (sa (sg) ((M 6) (24 * w8 v2 + (w9 v2 + ((w10 v1) - 1)))))) ((m14 ((24 * (sa (sg) ((M 6) (24 * w8 v1 + (w9 v1 + ((w10 v1) - 1)))))) + (sa (sg) ((M 6) (24 * w8 v2 + (w9 v2 + ((w10 v1) - 1))))))) + 1)) ((24 * (sa (sg) ((M 6) (24 * w8 v2 + (w9 v2 + ((w10 v1) - 1)))))) + (sa (sg) ((M 6) (24 * w8 v1 + (w9 v1 + ((w10 v1) - 1)))))) (((fup m14 ((24 * (sa (sg) ((M 6) (24 * w8 v1 + (w9 v1 + ((w10 v1) - 1)))))) + (sa (sg) ((M 6) (24 * w8 v2 + (w9 v2 + ((w10 v1) - 1)))))) ((m14 ((24 * (sa (sg) ((M 6) (24 * w8 v1 + (w9 v1 + ((w10 v1) - 1)))))) + (sa (sg) ((M 6) (24 * w8 v2 + (w9 v2 + ((w10 v1) - 1))))))) + 1)) ((24 * (sa (sg) ((M 6) (24 * w8 v2 + (w9 v2 + ((w10 v1) - 1)))))) + (sa (sg) ((M 6) (24 * w8 v1 + (w9 v1 + ((w10 v1) - 1))))))) + 1)) (by omega) (by first | exact hst | exact hno (fun z => by first | exact absurd z.1.1 (by omega) | exact absurd z.1.2.1 (by omega) | exact absurd z.1.2.2.1 (by omega) | exact absurd z.1.2.2.2 (by omega) | exact absurd ((hal.but z.1.2.2.2).2 z.2.1) (by omega) | exact absurd z.2.2.1 (by assumption) | exact absurd z.2.2.2 (by assumption))) (by omega) H locs ls hX hS (lv_sub hl [4, 5, 0] rfl)
              exact L38 _ 0 m14 (by omega) (fun a b q1 q2 q3 q4 => (ha a b q1 q2 q3 q4).trans (Int.add_zero _).symm) (Nat.lt_succ_self _) H locs ls hX hS (lv_sub hl [1, 2, 0] rfl)
        exact L28 _ 0 m14 (by omega) (fun a b q1 q2 q3 q4 => h0 _ (by omega) (by omega)) (Nat.lt_succ_self _) H locs ls hX hS (lv_sub hl [1, 0] rfl)
      · refine lv_aload_n C.x C.b dX2_findAkins_13 rfl (lv_at hl 0 rfl) ?_
        refine mg_14 C hX dX2_findAkins_14 ?_
        refine lv_iload_n C.x C.b dX2_findAkins_17 rfl (lv_at hl 1 rfl) ?_
        refine r_const C dX2_findAkins_18 ?_
        refine ms_14 C hX hS (by omega) m14 rfl (M' := (va_up (va_up (va_up (va_up (va_up (va_up M 3 sg) 8 w8) 9 w9) 10 w10) 11 w11) 14 (fup m14 v1 0))) (up_up _ _ _ _) dX2_findAkins_19 (fun H locs hX hS => ?_)
        refine r_iinc (lv' := [(1, .int (zi (v1 + 1))), (0, .ref (ad 63))]) C dX2_findAkins_20 hl (k := 1) rfl (by decide) rfl (fun ls hl => ?_)
        refine lv_goto (tgt := 6) C.x C.b dX2_findAkins_23 (by decide) ?_
        exact ih6 (v1 + 1) (fup m14 v1 0) (by omega) (fup_st (P := fun j x => x = 0) h0 rfl) (by omega) H locs ls hX hS (lv_sub hl [1, 0] rfl)
  exact L6 _ 0 (M 14) (by omega) (fun j a b => absurd a (by omega)) (Nat.lt_succ_self _) H locs ls (hX.to rfl ((up_id (va_up (va_up (va_up (va_up (va_up M 3 sg) 8 w8) 9 w9) 10 w10) 11 w11) (k := 14) (a := (M 14)) rfl).symm.trans rfl)) hS (lv_sub hl [1, 0] rfl)

theorem hd_X2_akin : yX2_akin.cls = RX2 ∧ yX2_akin.cls ≠ "java/lang/invoke/MethodHandle" ∧ yX2_akin.cls ≠ "java/lang/invoke/VarHandle" ∧ (parseMethodDescriptor yX2_akin.desc).map (fun d => d.parameters.length) = some 2 := by decide +kernel
abbrev rm_X2_akin : Room := { frames := 5, cells := 0, slots := 0, locals := 116 }
set_option maxHeartbeats 8000000 in
theorem met_X2_akin (l : Launch) (E : us_E) (A : Nat → Prop) (ad : Nat → Nat) (F : Nat → Int) (M : Nat → Int → Int) (a : Int) (b : Int) (ha : -2147483648 ≤ a ∧ a < 2147483648) (hb : -2147483648 ≤ b ∧ b < 2147483648) : cMet l yX2_akin cX2_akin 3 (some .int) rm_X2_akin A E [.ref (ad 63), .int (zi a), .int (zi b)] (fun H => MH E A ad F M H) (qi A (fun r H => ∃ f7 : Int, ∃ m3 : Int → Int, ∃ m8 : Int → Int, ∃ m9 : Int → Int, ∃ m10 : Int → Int, ∃ m11 : Int → Int, ∃ m14 : Int → Int, SgOK (F 0) (M 1) (F 2) m3 ∧ (r = sel ((isS (F 0) (M 1) (F 2) a ∧ isS (F 0) (M 1) (F 2) b) ∧ ¬ a = b) (akS m3 (mtc (M 6)) (M 5) (F 4) a b) (-1)) ∧ MH E A ad (va_up F 7 f7) (va_up (va_up (va_up (va_up (va_up (va_up M 3 m3) 8 m8) 9 m9) 10 m10) 11 m11) 14 m14) H)) := by
  refine cMet.of (by decide) (Nat.le_of_ble_eq_true rfl) (fun p e s m args below meth c C hnm hX hS ls hl => ?_)
  have C : Cx p s m args meth c A RX2 cX2_akin 3 (some .int) E := C
  have hX : MH E A ad F M s.heap := hX
  have hl : lv_has ls 3 [(0, .ref (ad 63)), (1, .int (zi a)), (2, .int (zi b))] := hl
  generalize hH : s.heap = H at hX
  have hS : va_S A s.heap H [] := by rw [← hH]; exact hS
  generalize hlocs : ([] : List Loc) = locs at hS ⊢
  have rF0 : 0 ≤ F 0 ∧ F 0 ≤ 24 := hX.2.1 0 (0, 24) rfl
  have rF2 : 0 ≤ F 2 ∧ F 2 ≤ 12 := hX.2.1 2 (0, 12) rfl
  have rF4 : 0 ≤ F 4 ∧ F 4 ≤ 8 := hX.2.1 4 (0, 8) rfl
  have rF7 : 0 ≤ F 7 ∧ F 7 ≤ 104 := hX.2.1 7 (0, 104) rfl
  refine lv_aload_n C.x C.b dX2_akin_0 rfl (lv_at hl 0 rfl) ?_
  refine lv_iload_n C.x C.b dX2_akin_1 rfl (lv_at hl 1 rfl) ?_
  refine r_callVi (As := [.int (zi a)]) (rest := []) (cells' := 0) (slots' := 0) C (met_X2_isSign l E A ad F M a (show -2147483648 ≤ a ∧ a < 2147483648 from (by omega))) (lw_V q1267 q1269 qs48 q88 q1270) hd_X2_isSign rfl (by decide) (m_recv C hX) hX hS hl.1 rfl (Nat.le_of_ble_eq_true rfl) dX2_akin_2 rfl rfl ⟨Nat.le_of_ble_eq_true rfl, Nat.le_of_ble_eq_true rfl⟩ (fun rr H locs hp hS => ?_)
  obtain ⟨s1, hs1, hrr, hX⟩ := hp
  have hrr : rr = bI (isS ((F 0)) ((M 1)) ((F 2)) a) := hrr
  subst hrr
  have hs1 : SgOK ((F 0)) ((M 1)) ((F 2)) s1 := hs1
  have hX : MH E A ad F (va_up M 3 s1) H := hX.to rfl rfl
  refine r_if_eq_b (tgt := 21) C dX2_akin_5 (by decide) (fun c_1 => ?_) (fun c_1 => ?_)
  · refine r_const C dX2_akin_21 ?_
    exact r_iret C hS (Nat.le_of_ble_eq_true rfl) (Nat.le_of_ble_eq_true rfl) dX2_akin_22 ⟨(F 7), s1, (M 8), (M 9), (M 10), (M 11), (M 14), (by assumption), (by first | exact Eq.symm (sel_f (fun q => absurd q.1.1 (by assumption))) | exact Eq.symm (sel_f (fun q => absurd q.1.2 (by assumption))) | exact Eq.symm (sel_f (fun q => absurd (by assumption) q.2))), (hX.to ((up_id F (k := 7) (a := (F 7)) rfl).symm.trans rfl) ((((((up_id (va_up M 3 s1) (k := 8) (a := (M 8)) rfl).symm.trans rfl).trans ((up_id (va_up (va_up M 3 s1) 8 (M 8)) (k := 9) (a := (M 9)) rfl).symm.trans rfl)).trans ((up_id (va_up (va_up (va_up M 3 s1) 8 (M 8)) 9 (M 9)) (k := 10) (a := (M 10)) rfl).symm.trans rfl)).trans ((up_id (va_up (va_up (va_up (va_up M 3 s1) 8 (M 8)) 9 (M 9)) 10 (M 10)) (k := 11) (a := (M 11)) rfl).symm.trans rfl)).trans ((up_id (va_up (va_up (va_up (va_up (va_up M 3 s1) 8 (M 8)) 9 (M 9)) 10 (M 10)) 11 (M 11)) (k := 14) (a := (M 14)) rfl).symm.trans rfl)))⟩
  · refine lv_aload_n C.x C.b dX2_akin_8 rfl (lv_at hl 0 rfl) ?_
    refine lv_iload_n C.x C.b dX2_akin_9 rfl (lv_at hl 2 rfl) ?_
    refine r_callVi (As := [.int (zi b)]) (rest := []) (cells' := 0) (slots' := 0) C (met_X2_isSign l E A ad F (va_up M 3 s1) b (show -2147483648 ≤ b ∧ b < 2147483648 from (by omega))) (lw_V q1267 q1269 qs48 q88 q1270) hd_X2_isSign rfl (by decide) (m_recv C hX) hX hS hl.1 rfl (Nat.le_of_ble_eq_true rfl) dX2_akin_10 rfl rfl ⟨Nat.le_of_ble_eq_true rfl, Nat.le_of_ble_eq_true rfl⟩ (fun rr H locs hp hS => ?_)
    obtain ⟨s2, hs2, hrr, hX⟩ := hp
    have hrr : rr = bI (isS ((F 0)) ((M 1)) ((F 2)) b) := hrr
    subst hrr
    have hs2 : SgOK ((F 0)) ((M 1)) ((F 2)) s2 := hs2
    have hX : MH E A ad F (va_up M 3 s2) H := hX.to rfl (up_up _ _ _ _)
    refine r_if_eq_b (tgt := 21) C dX2_akin_13 (by decide) (fun c_2 => ?_) (fun c_2 => ?_)
    · refine r_const C dX2_akin_21 ?_
      exact r_iret C hS (Nat.le_of_ble_eq_true rfl) (Nat.le_of_ble_eq_true rfl) dX2_akin_22 ⟨(F 7), s2, (M 8), (M 9), (M 10), (M 11), (M 14), (by assumption), (by first | exact Eq.symm (sel_f (fun q => absurd q.1.1 (by assumption))) | exact Eq.symm (sel_f (fun q => absurd q.1.2 (by assumption))) | exact Eq.symm (sel_f (fun q => absurd (by assumption) q.2))), (hX.to ((up_id F (k := 7) (a := (F 7)) rfl).symm.trans rfl) ((((((up_id (va_up M 3 s2) (k := 8) (a := (M 8)) rfl).symm.trans rfl).trans ((up_id (va_up (va_up M 3 s2) 8 (M 8)) (k := 9) (a := (M 9)) rfl).symm.trans rfl)).trans ((up_id (va_up (va_up (va_up M 3 s2) 8 (M 8)) 9 (M 9)) (k := 10) (a := (M 10)) rfl).symm.trans rfl)).trans ((up_id (va_up (va_up (va_up (va_up M 3 s2) 8 (M 8)) 9 (M 9)) 10 (M 10)) (k := 11) (a := (M 11)) rfl).symm.trans rfl)).trans ((up_id (va_up (va_up (va_up (va_up (va_up M 3 s2) 8 (M 8)) 9 (M 9)) 10 (M 10)) 11 (M 11)) (k := 14) (a := (M 14)) rfl).symm.trans rfl)))⟩
    · refine lv_iload_n C.x C.b dX2_akin_16 rfl (lv_at hl 1 rfl) ?_
      refine lv_iload_n C.x C.b dX2_akin_17 rfl (lv_at hl 2 rfl) ?_
      refine r_icmp_ne (tgt := 23) C (by omega) (by omega) dX2_akin_18 (by decide) (fun c_3 => ?_) (fun c_3 => ?_)
      · have hia : isS (F 0) (M 1) (F 2) a := by assumption
        have hib : isS (F 0) (M 1) (F 2) b := by assumption
        have ha0 := hia.1
        have hb0 := hib.1
        refine lv_aload_n C.x C.b dX2_akin_23 rfl (lv_at hl 0 rfl) ?_
        refine r_callVv (As := []) (rest := []) (cells' := 0) (slots' := 0) C (met_X2_findAkins l E A ad F (va_up M 3 s2)) (lw_V q1309 q1311 qs54 q88 q1312) hd_X2_findAkins rfl (by decide) (m_recv C hX) hX hS hl.1 rfl (Nat.le_of_ble_eq_true rfl) dX2_akin_24 rfl rfl ⟨Nat.le_of_ble_eq_true rfl, Nat.le_of_ble_eq_true rfl⟩ (fun H locs hp hS => ?_)
        obtain ⟨f7_4, sg, m8_5, m9_6, m10_7, m11_8, ak, hsg, hwk, hwr, hak, hX⟩ := hp
        have hsg : SgOK ((F 0)) ((M 1)) ((F 2)) sg := hsg
        have hwk : f7_4 = wk (mtc ((M 6))) ((M 5)) ((F 4)) 0 := hwk
        have hwr : WR (mtc ((M 6))) ((M 5)) m8_5 m9_6 m10_7 m11_8 ((F 4)) 0 := hwr
        have hak : ∀ a b : Int, 0 ≤ a → a < 24 → 0 ≤ b → b < 24 → ak (24 * a + b) = akS sg (mtc ((M 6))) ((M 5)) ((F 4)) a b := hak
        have hX : MH E A ad (va_up F 7 f7_4) (va_up (va_up (va_up (va_up (va_up (va_up M 3 sg) 8 m8_5) 9 m9_6) 10 m10_7) 11 m11_8) 14 ak) H := hX.to rfl ((congrArg (fun z => va_up z 14 ak) ((congrArg (fun z => va_up z 11 m11_8) ((congrArg (fun z => va_up z 10 m10_7) ((congrArg (fun z => va_up z 9 m9_6) ((congrArg (fun z => va_up z 8 m8_5) (up_up _ _ _ _)).trans rfl)).trans rfl)).trans rfl)).trans rfl)).trans rfl)
        refine lv_aload_n C.x C.b dX2_akin_27 rfl (lv_at hl 0 rfl) ?_
        refine mg_14 C hX dX2_akin_28 ?_
        refine r_bipush C (by decide) dX2_akin_31 ?_
        refine lv_iload_n C.x C.b dX2_akin_33 rfl (lv_at hl 1 rfl) ?_
        refine r_imul C dX2_akin_34 ?_
        refine lv_iload_n C.x C.b dX2_akin_35 rfl (lv_at hl 2 rfl) ?_
        refine r_iadd C dX2_akin_36 ?_
        refine ml_14 C hX (by omega) ak rfl dX2_akin_37 ?_
        exact r_iret C hS (Nat.le_of_ble_eq_true rfl) (Nat.le_of_ble_eq_true rfl) dX2_akin_38 ⟨f7_4, sg, m8_5, m9_6, m10_7, m11_8, ak, (by first | rfl | assumption | exact (sel_t (by omega)).symm | exact (sel_f (by omega)).symm | omega), (by rw [sel_t ⟨⟨hia, hib⟩, by assumption⟩]; exact hak a b (by omega) (by omega) (by omega) (by omega)), hX⟩
      · refine r_const C dX2_akin_21 ?_
        exact r_iret C hS (Nat.le_of_ble_eq_true rfl) (Nat.le_of_ble_eq_true rfl) dX2_akin_22 ⟨(F 7), s2, (M 8), (M 9), (M 10), (M 11), (M 14), (by assumption), (by first | exact Eq.symm (sel_f (fun q => absurd q.1.1 (by assumption))) | exact Eq.symm (sel_f (fun q => absurd q.1.2 (by assumption))) | exact Eq.symm (sel_f (fun q => absurd (by assumption) q.2))), (hX.to ((up_id F (k := 7) (a := (F 7)) rfl).symm.trans rfl) ((((((up_id (va_up M 3 s2) (k := 8) (a := (M 8)) rfl).symm.trans rfl).trans ((up_id (va_up (va_up M 3 s2) 8 (M 8)) (k := 9) (a := (M 9)) rfl).symm.trans rfl)).trans ((up_id (va_up (va_up (va_up M 3 s2) 8 (M 8)) 9 (M 9)) (k := 10) (a := (M 10)) rfl).symm.trans rfl)).trans ((up_id (va_up (va_up (va_up (va_up M 3 s2) 8 (M 8)) 9 (M 9)) 10 (M 10)) (k := 11) (a := (M 11)) rfl).symm.trans rfl)).trans ((up_id (va_up (va_up (va_up (va_up (va_up M 3 s2) 8 (M 8)) 9 (M 9)) 10 (M 10)) 11 (M 11)) (k := 14) (a := (M 14)) rfl).symm.trans rfl)))⟩

theorem hd_X2_apart : yX2_apart.cls = RX2 ∧ yX2_apart.cls ≠ "java/lang/invoke/MethodHandle" ∧ yX2_apart.cls ≠ "java/lang/invoke/VarHandle" ∧ (parseMethodDescriptor yX2_apart.desc).map (fun d => d.parameters.length) = some 3 := by decide +kernel
abbrev rm_X2_apart : Room := { frames := 2, cells := 0, slots := 0, locals := 46 }
set_option maxHeartbeats 8000000 in
theorem met_X2_apart (l : Launch) (E : us_E) (A : Nat → Prop) (ad : Nat → Nat) (F : Nat → Int) (M : Nat → Int → Int) (a : Int) (b : Int) (v : Int) (ha : -2147483648 ≤ a ∧ a < 2147483648) (hb : -2147483648 ≤ b ∧ b < 2147483648) (hv : -2147483648 ≤ v ∧ v < 2147483648) : cMet l yX2_apart cX2_apart 5 (some .int) rm_X2_apart A E [.ref (ad 63), .int (zi a), .int (zi b), .int (zi v)] (fun H => MH E A ad F M H) (qi A (fun r H => ∃ m13 : Int → Int, (m13 = sel (((0 ≤ a ∧ a < F 0) ∧ (0 ≤ b ∧ b < F 0) ∧ ¬ a = b) ∧ (0 ≤ v ∧ v ≤ 9)) (fup (fup (M 13) (24 * a + b) v) (24 * b + a) v) (M 13)) ∧ (r = sel (((0 ≤ a ∧ a < F 0) ∧ (0 ≤ b ∧ b < F 0) ∧ ¬ a = b) ∧ (0 ≤ v ∧ v ≤ 9)) (M 13 (24 * a + b)) (-1)) ∧ MH E A ad F (va_up M 13 m13) H)) := by
  refine cMet.of (by decide) (Nat.le_of_ble_eq_true rfl) (fun p e s m args below meth c C hnm hX hS ls hl => ?_)
  have C : Cx p s m args meth c A RX2 cX2_apart 5 (some .int) E := C
  have hX : MH E A ad F M s.heap := hX
  have hl : lv_has ls 5 [(0, .ref (ad 63)), (1, .int (zi a)), (2, .int (zi b)), (3, .int (zi v))] := hl
  generalize hH : s.heap = H at hX
  have hS : va_S A s.heap H [] := by rw [← hH]; exact hS
  generalize hlocs : ([] : List Loc) = locs at hS ⊢
  have rF0 : 0 ≤ F 0 ∧ F 0 ≤ 24 := hX.2.1 0 (0, 24) rfl
  refine lv_aload_n C.x C.b dX2_apart_0 rfl (lv_at hl 0 rfl) ?_
  refine lv_iload_n C.x C.b dX2_apart_1 rfl (lv_at hl 1 rfl) ?_
  refine r_callVi (As := [.int (zi a)]) (rest := []) (cells' := 0) (slots' := 0) C (met_X2_isForm l E A ad F M a (show -2147483648 ≤ a ∧ a < 2147483648 from (by omega))) (lw_V q1228 q1230 qs43 q88 q1231) hd_X2_isForm rfl (by decide) (m_recv C hX) hX hS hl.1 rfl (Nat.le_of_ble_eq_true rfl) dX2_apart_2 rfl rfl ⟨Nat.le_of_ble_eq_true rfl, Nat.le_of_ble_eq_true rfl⟩ (fun rr H locs hp hS => ?_)
  obtain ⟨hrr, hX⟩ := hp
  have hrr : rr = bI (0 ≤ a ∧ a < (F 0)) := hrr
  subst hrr
  refine r_if_eq_b (tgt := 33) C dX2_apart_5 (by decide) (fun c_1 => ?_) (fun c_1 => ?_)
  · refine r_const C dX2_apart_33 ?_
    exact r_iret C hS (Nat.le_of_ble_eq_true rfl) (Nat.le_of_ble_eq_true rfl) dX2_apart_34 ⟨(M 13), (by first | exact Eq.symm (sel_f (fun q => absurd q.1.1 (by assumption))) | exact Eq.symm (sel_f (fun q => absurd q.1.2.1 (by assumption))) | exact Eq.symm (sel_f (fun q => absurd (by assumption) q.1.2.2)) | exact Eq.symm (sel_f (fun q => absurd q.2 (by assumption)))), (by first | exact Eq.symm (sel_f (fun q => absurd q.1.1 (by assumption))) | exact Eq.symm (sel_f (fun q => absurd q.1.2.1 (by assumption))) | exact Eq.symm (sel_f (fun q => absurd (by assumption) q.1.2.2)) | exact Eq.symm (sel_f (fun q => absurd q.2 (by assumption)))), (hX.to rfl ((up_id M (k := 13) (a := (M 13)) rfl).symm.trans rfl))⟩
  · refine lv_aload_n C.x C.b dX2_apart_8 rfl (lv_at hl 0 rfl) ?_
    refine lv_iload_n C.x C.b dX2_apart_9 rfl (lv_at hl 2 rfl) ?_
    refine r_callVi (As := [.int (zi b)]) (rest := []) (cells' := 0) (slots' := 0) C (met_X2_isForm l E A ad F M b (show -2147483648 ≤ b ∧ b < 2147483648 from (by omega))) (lw_V q1228 q1230 qs43 q88 q1231) hd_X2_isForm rfl (by decide) (m_recv C hX) hX hS hl.1 rfl (Nat.le_of_ble_eq_true rfl) dX2_apart_10 rfl rfl ⟨Nat.le_of_ble_eq_true rfl, Nat.le_of_ble_eq_true rfl⟩ (fun rr H locs hp hS => ?_)
    obtain ⟨hrr, hX⟩ := hp
    have hrr : rr = bI (0 ≤ b ∧ b < (F 0)) := hrr
    subst hrr
    refine r_if_eq_b (tgt := 33) C dX2_apart_13 (by decide) (fun c_2 => ?_) (fun c_2 => ?_)
    · refine r_const C dX2_apart_33 ?_
      exact r_iret C hS (Nat.le_of_ble_eq_true rfl) (Nat.le_of_ble_eq_true rfl) dX2_apart_34 ⟨(M 13), (by first | exact Eq.symm (sel_f (fun q => absurd q.1.1 (by assumption))) | exact Eq.symm (sel_f (fun q => absurd q.1.2.1 (by assumption))) | exact Eq.symm (sel_f (fun q => absurd (by assumption) q.1.2.2)) | exact Eq.symm (sel_f (fun q => absurd q.2 (by assumption)))), (by first | exact Eq.symm (sel_f (fun q => absurd q.1.1 (by assumption))) | exact Eq.symm (sel_f (fun q => absurd q.1.2.1 (by assumption))) | exact Eq.symm (sel_f (fun q => absurd (by assumption) q.1.2.2)) | exact Eq.symm (sel_f (fun q => absurd q.2 (by assumption)))), (hX.to rfl ((up_id M (k := 13) (a := (M 13)) rfl).symm.trans rfl))⟩
    · refine lv_iload_n C.x C.b dX2_apart_16 rfl (lv_at hl 1 rfl) ?_
      refine lv_iload_n C.x C.b dX2_apart_17 rfl (lv_at hl 2 rfl) ?_
      refine r_icmp_eq (tgt := 33) C (by omega) (by omega) dX2_apart_18 (by decide) (fun c_3 => ?_) (fun c_3 => ?_)
      · refine r_const C dX2_apart_33 ?_
        exact r_iret C hS (Nat.le_of_ble_eq_true rfl) (Nat.le_of_ble_eq_true rfl) dX2_apart_34 ⟨(M 13), (by first | exact Eq.symm (sel_f (fun q => absurd q.1.1 (by assumption))) | exact Eq.symm (sel_f (fun q => absurd q.1.2.1 (by assumption))) | exact Eq.symm (sel_f (fun q => absurd (by assumption) q.1.2.2)) | exact Eq.symm (sel_f (fun q => absurd q.2 (by assumption)))), (by first | exact Eq.symm (sel_f (fun q => absurd q.1.1 (by assumption))) | exact Eq.symm (sel_f (fun q => absurd q.1.2.1 (by assumption))) | exact Eq.symm (sel_f (fun q => absurd (by assumption) q.1.2.2)) | exact Eq.symm (sel_f (fun q => absurd q.2 (by assumption)))), (hX.to rfl ((up_id M (k := 13) (a := (M 13)) rfl).symm.trans rfl))⟩
      · refine lv_iload_n C.x C.b dX2_apart_21 rfl (lv_at hl 3 rfl) ?_
        refine r_i2l C (by omega) dX2_apart_22 ?_
        refine r_lconst C 0 rfl dX2_apart_23 ?_
        refine r_ldc2 C 9 (by decide) q1325 dX2_apart_24 ?_
        refine r_callSi (As := [.long (zl v), .long (zl 0), .long (zl 9)]) (rest := []) (cells' := 0) (slots' := 0) C (met_X2_in l E A ad H v 0 9 (show -9223372036854775808 ≤ v ∧ v < 9223372036854775808 from (by omega)) (show -9223372036854775808 ≤ 0 ∧ 0 < 9223372036854775808 from (by omega)) (show -9223372036854775808 ≤ 9 ∧ 9 < 9223372036854775808 from (by omega))) (lw_S q1209 q1210 q88 q1211) hd_X2_in rfl (by decide) rfl hS hl.1 rfl (Nat.le_of_ble_eq_true rfl) dX2_apart_27 rfl rfl ⟨Nat.le_of_ble_eq_true rfl, Nat.le_of_ble_eq_true rfl⟩ (fun rr H locs hp hS => ?_)
        obtain ⟨hrr, hH⟩ := hp
        have hrr : rr = bI (0 ≤ v ∧ v ≤ 9) := hrr
        subst hrr
        have hX : MH E A ad F M H := by rw [hH]; exact hX
        refine r_if_ne_b (tgt := 35) C dX2_apart_30 (by decide) (fun c_4 => ?_) (fun c_4 => ?_)
        · refine lv_aload_n C.x C.b dX2_apart_35 rfl (lv_at hl 0 rfl) ?_
          refine mg_13 C hX dX2_apart_36 ?_
          refine r_bipush C (by decide) dX2_apart_39 ?_
          refine lv_iload_n C.x C.b dX2_apart_41 rfl (lv_at hl 1 rfl) ?_
          refine r_imul C dX2_apart_42 ?_
          refine lv_iload_n C.x C.b dX2_apart_43 rfl (lv_at hl 2 rfl) ?_
          refine r_iadd C dX2_apart_44 ?_
          refine ml_13 C hX (by omega) (M 13) rfl dX2_apart_45 (fun r45 => ?_)
          refine lv_istore (lv' := [(4, .int (zi (M 13 ((24 * a) + b)))), (0, .ref (ad 63)), (1, .int (zi a)), (2, .int (zi b)), (3, .int (zi v))]) C.x C.b dX2_apart_46 hl (by decide) rfl (fun ls hl => ?_)
          refine lv_aload_n C.x C.b dX2_apart_48 rfl (lv_at hl 1 rfl) ?_
          refine mg_13 C hX dX2_apart_49 ?_
          refine r_bipush C (by decide) dX2_apart_52 ?_
          refine lv_iload_n C.x C.b dX2_apart_54 rfl (lv_at hl 2 rfl) ?_
          refine r_imul C dX2_apart_55 ?_
          refine lv_iload_n C.x C.b dX2_apart_56 rfl (lv_at hl 3 rfl) ?_
          refine r_iadd C dX2_apart_57 ?_
          refine lv_iload_n C.x C.b dX2_apart_58 rfl (lv_at hl 4 rfl) ?_
          refine ms_13 C hX hS (by omega) (by omega) (M 13) rfl (M' := (va_up M 13 (fup (M 13) ((24 * a) + b) v))) rfl dX2_apart_59 (fun H locs hX hS => ?_)
          refine lv_aload_n C.x C.b dX2_apart_60 rfl (lv_at hl 1 rfl) ?_
          refine mg_13 C hX dX2_apart_61 ?_
          refine r_bipush C (by decide) dX2_apart_64 ?_
          refine lv_iload_n C.x C.b dX2_apart_66 rfl (lv_at hl 3 rfl) ?_
          refine r_imul C dX2_apart_67 ?_
          refine lv_iload_n C.x C.b dX2_apart_68 rfl (lv_at hl 2 rfl) ?_
          refine r_iadd C dX2_apart_69 ?_
          refine lv_iload_n C.x C.b dX2_apart_70 rfl (lv_at hl 4 rfl) ?_
          refine ms_13 C hX hS (by omega) (by omega) (fup (M 13) ((24 * a) + b) v) rfl (M' := (va_up M 13 (fup (fup (M 13) ((24 * a) + b) v) ((24 * b) + a) v))) (up_up _ _ _ _) dX2_apart_71 (fun H locs hX hS => ?_)
          refine lv_iload C.x C.b dX2_apart_72 (lv_at hl 0 rfl) ?_
          exact r_iret C hS (Nat.le_of_ble_eq_true rfl) (Nat.le_of_ble_eq_true rfl) dX2_apart_74 ⟨(fup (fup (M 13) ((24 * a) + b) v) ((24 * b) + a) v), (Eq.symm (sel_t ⟨⟨by assumption, by assumption, by assumption⟩, by assumption⟩)), (Eq.symm (sel_t ⟨⟨by assumption, by assumption, by assumption⟩, by assumption⟩)), hX⟩
        · refine r_const C dX2_apart_33 ?_
          exact r_iret C hS (Nat.le_of_ble_eq_true rfl) (Nat.le_of_ble_eq_true rfl) dX2_apart_34 ⟨(M 13), (by first | exact Eq.symm (sel_f (fun q => absurd q.1.1 (by assumption))) | exact Eq.symm (sel_f (fun q => absurd q.1.2.1 (by assumption))) | exact Eq.symm (sel_f (fun q => absurd (by assumption) q.1.2.2)) | exact Eq.symm (sel_f (fun q => absurd q.2 (by assumption)))), (by first | exact Eq.symm (sel_f (fun q => absurd q.1.1 (by assumption))) | exact Eq.symm (sel_f (fun q => absurd q.1.2.1 (by assumption))) | exact Eq.symm (sel_f (fun q => absurd (by assumption) q.1.2.2)) | exact Eq.symm (sel_f (fun q => absurd q.2 (by assumption)))), (hX.to rfl ((up_id M (k := 13) (a := (M 13)) rfl).symm.trans rfl))⟩

theorem hd_X2_apartOf : yX2_apartOf.cls = RX2 ∧ yX2_apartOf.cls ≠ "java/lang/invoke/MethodHandle" ∧ yX2_apartOf.cls ≠ "java/lang/invoke/VarHandle" ∧ (parseMethodDescriptor yX2_apartOf.desc).map (fun d => d.parameters.length) = some 2 := by decide +kernel
abbrev rm_X2_apartOf : Room := { frames := 0, cells := 0, slots := 0, locals := 0 }
set_option maxHeartbeats 8000000 in
theorem met_X2_apartOf (l : Launch) (E : us_E) (A : Nat → Prop) (ad : Nat → Nat) (F : Nat → Int) (M : Nat → Int → Int) (x : Int) (u : Int) (hx : -2147483648 ≤ x ∧ x < 2147483648) (hu : -2147483648 ≤ u ∧ u < 2147483648) : cMet l yX2_apartOf cX2_apartOf 7 (some .int) rm_X2_apartOf A E [.ref (ad 63), .int (zi x), .int (zi u)] (fun H => MH E A ad F M H) (qi A (fun r H => (0 ≤ apS (F 0) (M 3) (fun a b => M 13 (24 * a + b)) x u ∧ apS (F 0) (M 3) (fun a b => M 13 (24 * a + b)) x u ≤ 9) ∧ (r = apS (F 0) (M 3) (fun a b => M 13 (24 * a + b)) x u) ∧ MH E A ad F M H)) := by
  refine cMet.of (by decide) (Nat.le_of_ble_eq_true rfl) (fun p e s m args below meth c C hnm hX hS ls hl => ?_)
  have C : Cx p s m args meth c A RX2 cX2_apartOf 7 (some .int) E := C
  have hX : MH E A ad F M s.heap := hX
  have hl : lv_has ls 7 [(0, .ref (ad 63)), (1, .int (zi x)), (2, .int (zi u))] := hl
  generalize hH : s.heap = H at hX
  have hS : va_S A s.heap H [] := by rw [← hH]; exact hS
  generalize hlocs : ([] : List Loc) = locs at hS ⊢
  have rF0 : 0 ≤ F 0 ∧ F 0 ≤ 24 := hX.2.1 0 (0, 24) rfl
  refine r_const C dX2_apartOf_0 ?_
  refine lv_istore_n (lv' := [(3, .int (zi 0)), (0, .ref (ad 63)), (1, .int (zi x)), (2, .int (zi u))]) C.x C.b dX2_apartOf_1 rfl hl (by decide) rfl (fun ls hl => ?_)
  refine r_const C dX2_apartOf_2 ?_
  refine lv_istore (lv' := [(4, .int (zi 0)), (3, .int (zi 0)), (0, .ref (ad 63)), (1, .int (zi x)), (2, .int (zi u))]) C.x C.b dX2_apartOf_3 hl (by decide) rfl (fun ls hl => ?_)
  have L5 : ∀ (fu : Nat) (v3 : Int) (v4 : Int) (h4 : 0 ≤ v4 ∧ v4 ≤ F 0) (hm4 : IsMx (fun v => ∃ a b : Int, 0 ≤ a ∧ 0 ≤ b ∧ b < F 0 ∧ (a < v4 ∨ a = v4 ∧ b < 0) ∧ M 3 a = x ∧ M 3 b = u ∧ v = M 13 (24 * a + b)) v3) (h3 : v3 ≤ 9) (hm : Int.toNat (F 0 - v4) < fu) (H : Heap) (locs : List Loc) (ls : Array Slot) (hX : MH E A ad F M H) (hS : va_S A s.heap H locs) (hl : lv_has ls 7 [(0, .ref (ad 63)), (1, .int (zi x)), (2, .int (zi u)), (3, .int (zi v3)), (4, .int (zi v4))]), W p l e rm_X2_apartOf s m args below meth c H locs 0 0 (MQ below (qi A (fun r H => (0 ≤ apS (F 0) (M 3) (fun a b => M 13 (24 * a + b)) x u ∧ apS (F 0) (M 3) (fun a b => M 13 (24 * a + b)) x u ≤ 9) ∧ (r = apS (F 0) (M 3) (fun a b => M 13 (24 * a + b)) x u) ∧ MH E A ad F M H)) args s (rm_X2_apartOf).cells (rm_X2_apartOf).slots A) (F0 m 5 ls []) := by
    intro fu
    induction fu with
    | zero => intro v3 v4 h4 hm4 h3 hm; exact absurd hm (Nat.not_lt_zero _)
    | succ fu ih5 =>
      intro v3 v4 h4 hm4 h3 hm H locs ls hX hS hl
      refine lv_iload C.x C.b dX2_apartOf_5 (lv_at hl 4 rfl) ?_
      refine lv_aload_n C.x C.b dX2_apartOf_7 rfl (lv_at hl 0 rfl) ?_
      refine mg_0 C hX (F 0) rfl dX2_apartOf_8 (fun _ => ?_)
      refine r_icmp_ge (tgt := 92) C (by omega) (by omega) dX2_apartOf_11 (by decide) (fun c_1 => ?_) (fun c_1 => ?_)
      · refine lv_iload_n C.x C.b dX2_apartOf_92 rfl (lv_at hl 3 rfl) ?_
        have hfin : v3 = apS (F 0) (M 3) (fun a b => M 13 (24 * a + b)) x u := apS_e (hm4.congr (fun v => ⟨fun ⟨a, b, q1, q2, q3, q4, q5⟩ => ⟨a, b, q1, by omega, q2, q3, q5⟩, fun ⟨a, b, q1, q2, q3, q4, q5⟩ => ⟨a, b, q1, q3, q4, by omega, q5⟩⟩))
        have h30 := hm4.2.1
        exact r_iret C hS (Nat.le_of_ble_eq_true rfl) (Nat.le_of_ble_eq_true rfl) dX2_apartOf_93 ⟨(by rw [← hfin]; exact ⟨h30, h3⟩), hfin, hX⟩
      · refine r_const C dX2_apartOf_14 ?_
        refine lv_istore (lv' := [(5, .int (zi 0)), (0, .ref (ad 63)), (1, .int (zi x)), (2, .int (zi u)), (3, .int (zi v3)), (4, .int (zi v4))]) C.x C.b dX2_apartOf_15 hl (by decide) rfl (fun ls hl => ?_)
        have L17 : ∀ (fu : Nat) (v3 : Int) (v5 : Int) (h5 : 0 ≤ v5 ∧ v5 ≤ F 0) (hm5 : IsMx (fun v => ∃ a b : Int, 0 ≤ a ∧ 0 ≤ b ∧ b < F 0 ∧ (a < v4 ∨ a = v4 ∧ b < v5) ∧ M 3 a = x ∧ M 3 b = u ∧ v = M 13 (24 * a + b)) v3) (h3 : v3 ≤ 9) (hm : Int.toNat (F 0 - v5) < fu) (H : Heap) (locs : List Loc) (ls : Array Slot) (hX : MH E A ad F M H) (hS : va_S A s.heap H locs) (hl : lv_has ls 7 [(0, .ref (ad 63)), (1, .int (zi x)), (2, .int (zi u)), (3, .int (zi v3)), (4, .int (zi v4)), (5, .int (zi v5))]), W p l e rm_X2_apartOf s m args below meth c H locs 0 0 (MQ below (qi A (fun r H => (0 ≤ apS (F 0) (M 3) (fun a b => M 13 (24 * a + b)) x u ∧ apS (F 0) (M 3) (fun a b => M 13 (24 * a + b)) x u ≤ 9) ∧ (r = apS (F 0) (M 3) (fun a b => M 13 (24 * a + b)) x u) ∧ MH E A ad F M H)) args s (rm_X2_apartOf).cells (rm_X2_apartOf).slots A) (F0 m 17 ls []) := by
          intro fu
          induction fu with
          | zero => intro v3 v5 h5 hm5 h3 hm; exact absurd hm (Nat.not_lt_zero _)
          | succ fu ih17 =>
            intro v3 v5 h5 hm5 h3 hm H locs ls hX hS hl
            refine lv_iload C.x C.b dX2_apartOf_17 (lv_at hl 5 rfl) ?_
            refine lv_aload_n C.x C.b dX2_apartOf_19 rfl (lv_at hl 0 rfl) ?_
            refine mg_0 C hX (F 0) rfl dX2_apartOf_20 (fun _ => ?_)
            refine r_icmp_ge (tgt := 86) C (by omega) (by omega) dX2_apartOf_23 (by decide) (fun c_2 => ?_) (fun c_2 => ?_)
            · refine r_iinc (lv' := [(4, .int (zi (v4 + 1))), (0, .ref (ad 63)), (1, .int (zi x)), (2, .int (zi u)), (3, .int (zi v3)), (5, .int (zi v5))]) C dX2_apartOf_86 hl (k := 4) rfl (by decide) rfl (fun ls hl => ?_)
              refine lv_goto (tgt := 5) C.x C.b dX2_apartOf_89 (by decide) ?_
              exact ih5 v3 (v4 + 1) (by omega) (hm5.congr (fun v => ⟨fun ⟨a, b, q1, q2, q3, q4, q5⟩ => ⟨a, b, q1, q2, q3, by omega, q5⟩, fun ⟨a, b, q1, q2, q3, q4, q5⟩ => ⟨a, b, q1, q2, q3, by omega, q5⟩⟩)) (by omega) (by omega) H locs ls hX hS (lv_sub hl [1, 2, 3, 4, 0] rfl)
            · have q13 : 0 ≤ M 13 (24 * v4 + v5) ∧ M 13 (24 * v4 + v5) ≤ 9 := hX.2.2 13 (0, 9) rfl _
              have hv3 := hm5.2.1
              have hst0 := hm5.st3 (S' := fun v => ∃ a b : Int, 0 ≤ a ∧ 0 ≤ b ∧ b < F 0 ∧ (a < v4 ∨ a = v4 ∧ b < (v5 + 1)) ∧ M 3 a = x ∧ M 3 b = u ∧ v = M 13 (24 * a + b)) (x := M 13 (24 * v4 + v5)) (c := M 3 v4 = x ∧ M 3 v5 = u) (fun v => ⟨fun ⟨a, b, q1, q2, q3, q4, q5⟩ => (by
                by_cases e : a = v4 ∧ b = v5
                · rw [e.1, e.2] at q5; exact Or.inr ⟨⟨q5.1, q5.2.1⟩, q5.2.2⟩
                · exact Or.inl ⟨a, b, q1, q2, q3, by omega, q5⟩), fun q => q.elim (fun ⟨a, b, q1, q2, q3, q4, q5⟩ => ⟨a, b, q1, q2, q3, by omega, q5⟩) (fun z => ⟨v4, v5, h4.1, h5.1, by omega, by omega, z.1.1, z.1.2, z.2⟩)⟩) q13.1
              have hst : IsMx (fun v => ∃ a b : Int, 0 ≤ a ∧ 0 ≤ b ∧ b < F 0 ∧ (a < v4 ∨ a = v4 ∧ b < (v5 + 1)) ∧ M 3 a = x ∧ M 3 b = u ∧ v = M 13 (24 * a + b)) (sel (v3 < sel (M 3 v4 = x) (sel (M 3 v5 = u) (M 13 (24 * v4 + v5)) 0) 0) (sel (M 3 v4 = x) (sel (M 3 v5 = u) (M 13 (24 * v4 + v5)) 0) 0) v3) := by rw [sel_and]; exact hst0
              have hst8 : 0 ≤ sel (M 3 v4 = x) (sel (M 3 v5 = u) (M 13 (24 * v4 + v5)) 0) 0 ∧ sel (M 3 v4 = x) (sel (M 3 v5 = u) (M 13 (24 * v4 + v5)) 0) 0 ≤ 9 := by rw [sel_and]; exact sel_rg (fun _ => q13) (fun _ => by omega)
              have hst9 : sel (v3 < sel (M 3 v4 = x) (sel (M 3 v5 = u) (M 13 (24 * v4 + v5)) 0) 0) (sel (M 3 v4 = x) (sel (M 3 v5 = u) (M 13 (24 * v4 + v5)) 0) 0) v3 ≤ 9 := (sel_rg (lo := -1) (fun _ => by omega) (fun _ => by omega)).2
              refine lv_aload_n C.x C.b dX2_apartOf_26 rfl (lv_at hl 0 rfl) ?_
              refine mg_3 C hX dX2_apartOf_27 ?_
              refine lv_iload C.x C.b dX2_apartOf_30 (lv_at hl 4 rfl) ?_
              refine ml_3 C hX (by omega) (M 3) rfl dX2_apartOf_32 (fun r32 => ?_)
              refine lv_iload_n C.x C.b dX2_apartOf_33 rfl (lv_at hl 1 rfl) ?_
              have J65_3 : ∀ (t0 : Int) (ht0 : t0 = sel ((M 3 v4) = x) (sel ((M 3 v5) = u) (M 13 ((24 * v4) + v5)) 0) 0) (H : Heap) (locs : List Loc) (ls : Array Slot) (hX : MH E A ad F M H) (hS : va_S A s.heap H locs) (hl : lv_has ls 7 [(0, .ref (ad 63)), (1, .int (zi x)), (2, .int (zi u)), (3, .int (zi v3)), (4, .int (zi v4)), (5, .int (zi v5))]), W p l e rm_X2_apartOf s m args below meth c H locs 0 0 (MQ below (qi A (fun r H => (0 ≤ apS (F 0) (M 3) (fun a b => M 13 (24 * a + b)) x u ∧ apS (F 0) (M 3) (fun a b => M 13 (24 * a + b)) x u ≤ 9) ∧ (r = apS (F 0) (M 3) (fun a b => M 13 (24 * a + b)) x u) ∧ MH E A ad F M H)) args s (rm_X2_apartOf).cells (rm_X2_apartOf).slots A) (F0 m 65 ls [.int (zi t0)]) := by
                intro t0 ht0 H locs ls hX hS hl
                subst ht0
                refine lv_istore (lv' := [(6, .int (zi (sel ((M 3 v4) = x) (sel ((M 3 v5) = u) (M 13 ((24 * v4) + v5)) 0) 0))), (0, .ref (ad 63)), (1, .int (zi x)), (2, .int (zi u)), (3, .int (zi v3)), (4, .int (zi v4)), (5, .int (zi v5))]) C.x C.b dX2_apartOf_65 hl (by decide) rfl (fun ls hl => ?_)
                refine lv_iload C.x C.b dX2_apartOf_67 (lv_at hl 0 rfl) ?_
                refine lv_iload_n C.x C.b dX2_apartOf_69 rfl (lv_at hl 4 rfl) ?_
                have J79_4 : ∀ (t0 : Int) (ht0 : t0 = sel (v3 < (sel ((M 3 v4) = x) (sel ((M 3 v5) = u) (M 13 ((24 * v4) + v5)) 0) 0)) (sel ((M 3 v4) = x) (sel ((M 3 v5) = u) (M 13 ((24 * v4) + v5)) 0) 0) v3) (H : Heap) (locs : List Loc) (ls : Array Slot) (hX : MH E A ad F M H) (hS : va_S A s.heap H locs) (hl : lv_has ls 7 [(6, .int (zi (sel ((M 3 v4) = x) (sel ((M 3 v5) = u) (M 13 ((24 * v4) + v5)) 0) 0))), (0, .ref (ad 63)), (1, .int (zi x)), (2, .int (zi u)), (3, .int (zi v3)), (4, .int (zi v4)), (5, .int (zi v5))]), W p l e rm_X2_apartOf s m args below meth c H locs 0 0 (MQ below (qi A (fun r H => (0 ≤ apS (F 0) (M 3) (fun a b => M 13 (24 * a + b)) x u ∧ apS (F 0) (M 3) (fun a b => M 13 (24 * a + b)) x u ≤ 9) ∧ (r = apS (F 0) (M 3) (fun a b => M 13 (24 * a + b)) x u) ∧ MH E A ad F M H)) args s (rm_X2_apartOf).cells (rm_X2_apartOf).slots A) (F0 m 79 ls [.int (zi t0)]) := by
                  intro t0 ht0 H locs ls hX hS hl
                  subst ht0
                  refine lv_istore_n (lv' := [(3, .int (zi (sel (v3 < (sel ((M 3 v4) = x) (sel ((M 3 v5) = u) (M 13 ((24 * v4) + v5)) 0) 0)) (sel ((M 3 v4) = x) (sel ((M 3 v5) = u) (M 13 ((24 * v4) + v5)) 0) 0) v3))), (6, .int (zi (sel ((M 3 v4) = x) (sel ((M 3 v5) = u) (M 13 ((24 * v4) + v5)) 0) 0))), (0, .ref (ad 63)), (1, .int (zi x)), (2, .int (zi u)), (4, .int (zi v4)), (5, .int (zi v5))]) C.x C.b dX2_apartOf_79 rfl hl (by decide) rfl (fun ls hl => ?_)
                  refine r_iinc (lv' := [(5, .int (zi (v5 + 1))), (3, .int (zi (sel (v3 < (sel ((M 3 v4) = x) (sel ((M 3 v5) = u) (M 13 ((24 * v4) + v5)) 0) 0)) (sel ((M 3 v4) = x) (sel ((M 3 v5) = u) (M 13 ((24 * v4) + v5)) 0) 0) v3))), (6, .int (zi (sel ((M 3 v4) = x) (sel ((M 3 v5) = u) (M 13 ((24 * v4) + v5)) 0) 0))), (0, .ref (ad 63)), (1, .int (zi x)), (2, .int (zi u)), (4, .int (zi v4))]) C dX2_apartOf_80 hl (k := 6) rfl (by decide) rfl (fun ls hl => ?_)
                  refine lv_goto (tgt := 17) C.x C.b dX2_apartOf_83 (by decide) ?_
                  exact ih17 (sel (v3 < (sel ((M 3 v4) = x) (sel ((M 3 v5) = u) (M 13 ((24 * v4) + v5)) 0) 0)) (sel ((M 3 v4) = x) (sel ((M 3 v5) = u) (M 13 ((24 * v4) + v5)) 0) 0) v3) (v5 + 1) (by omega) hst hst9 (by omega) H locs ls hX hS (lv_sub hl [3, 4, 5, 1, 6, 0] rfl)
                refine r_icmp_le (tgt := 78) C (by omega) (by omega) dX2_apartOf_70 (by decide) (fun c_5 => ?_) (fun c_5 => ?_)
                · refine lv_iload_n C.x C.b dX2_apartOf_78 rfl (lv_at hl 4 rfl) ?_
                  exact J79_4 v3 ((sel_f c_5).symm) H locs ls hX hS hl
                · refine lv_iload C.x C.b dX2_apartOf_73 (lv_at hl 0 rfl) ?_
                  refine lv_goto (tgt := 79) C.x C.b dX2_apartOf_75 (by decide) ?_
                  exact J79_4 (sel ((M 3 v4) = x) (sel ((M 3 v5) = u) (M 13 ((24 * v4) + v5)) 0) 0) ((sel_t c_5).symm) H locs ls hX hS hl
              refine r_icmp_ne (tgt := 64) C (by omega) (by omega) dX2_apartOf_34 (by decide) (fun c_6 => ?_) (fun c_6 => ?_)
              · refine r_const C dX2_apartOf_64 ?_
                exact J65_3 0 ((sel_f c_6).symm) H locs ls hX hS hl
              · refine lv_aload_n C.x C.b dX2_apartOf_37 rfl (lv_at hl 0 rfl) ?_
                refine mg_3 C hX dX2_apartOf_38 ?_
                refine lv_iload C.x C.b dX2_apartOf_41 (lv_at hl 5 rfl) ?_
                refine ml_3 C hX (by omega) (M 3) rfl dX2_apartOf_43 (fun r43 => ?_)
                refine lv_iload_n C.x C.b dX2_apartOf_44 rfl (lv_at hl 2 rfl) ?_
                refine r_icmp_ne (tgt := 64) C (by omega) (by omega) dX2_apartOf_45 (by decide) (fun c_7 => ?_) (fun c_7 => ?_)
                · refine r_const C dX2_apartOf_64 ?_
                  exact J65_3 0 (((sel_t c_6).trans (sel_f c_7)).symm) H locs ls hX hS hl
                · refine lv_aload_n C.x C.b dX2_apartOf_48 rfl (lv_at hl 0 rfl) ?_
                  refine mg_13 C hX dX2_apartOf_49 ?_
                  refine r_bipush C (by decide) dX2_apartOf_52 ?_
                  refine lv_iload C.x C.b dX2_apartOf_54 (lv_at hl 4 rfl) ?_
                  refine r_imul C dX2_apartOf_56 ?_
                  refine lv_iload C.x C.b dX2_apartOf_57 (lv_at hl 5 rfl) ?_
                  refine r_iadd C dX2_apartOf_59 ?_
                  refine ml_13 C hX (by omega) (M 13) rfl dX2_apartOf_60 (fun r60 => ?_)
                  refine lv_goto (tgt := 65) C.x C.b dX2_apartOf_61 (by decide) ?_
                  exact J65_3 (M 13 ((24 * v4) + v5)) (((sel_t c_6).trans (sel_t c_7)).symm) H locs ls hX hS hl
        exact L17 _ v3 0 (by omega) hm4 (by omega) (Nat.lt_succ_self _) H locs ls hX hS (lv_sub hl [1, 2, 3, 4, 5, 0] rfl)
  exact L5 _ 0 0 (by omega) ⟨Or.inl rfl, Int.le_refl _, fun v ⟨a, b, q1, q2, q3, q4, q5⟩ => absurd q1 (by omega)⟩ (by omega) (Nat.lt_succ_self _) H locs ls hX hS (lv_sub hl [2, 3, 4, 1, 0] rfl)
