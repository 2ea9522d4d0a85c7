set_option maxRecDepth 100000

theorem hd_X0_newRow : yX0_newRow.cls ≠ "java/lang/invoke/MethodHandle" ∧ yX0_newRow.cls ≠ "java/lang/invoke/VarHandle" ∧ (parseMethodDescriptor yX0_newRow.desc).map (fun d => d.parameters.length) = some 2 := by decide +kernel
abbrev rm_X0_newRow : Room := { frames := 8, cells := 3, slots := 670, locals := 10260 }
set_option maxHeartbeats 8000000 in
theorem met_X0_newRow (l : Launch) (E : us_E) (A : Nat → Prop) (B : Nat → Int → Nat) (F : Nat → Int) (M : Nat → Int → Int) (G : Nat → Int → Option Nat) (T : x_T) (y : Int) (n : Int) (hl0 : l.stackTraces = false) (hy : 0 ≤ y ∧ y ≤ 2) (hn : -2147483648 ≤ n ∧ n ≤ 60) : cMetX l yX0_newRow cX0_newRow 2 (some (.object "java/lang/Object")) rm_X0_newRow A E [.int (zi y), .int (zi n)] (fun H => XH E A B F M G T H) (qr A (fun a H => 0 ≤ n ∧ XH E A B F M G (va_up T 0 (some (a, .inl (E.2 (rty y), n.toNat, .inl (fun j : Nat => zi ((fun _ => 0 : Int → Int) j)))))) H)) (fun qf En H => En = "java/lang/NegativeArraySizeException" ∧ n < 0 ∧ XH E A B F M G T H) := by
  refine cMetX.of (by decide) (Nat.le_of_ble_eq_true rfl) (fun p e s m args below meth c C hnm hnt hX hS ls hl => ?_)
  have C : Cx p s m args meth c A RX0 cX0_newRow 2 (some (.object "java/lang/Object")) E := C
  have hX : XH E A B F M G T s.heap := hX
  have hl : lv_has ls 2 [(0, .int (zi y)), (1, .int (zi n))] := hl
  generalize hH : s.heap = H at hX
  have hS : va_S A s.heap H [] := by rw [← hH]; exact hS
  generalize hlocs : ([] : List Loc) = locs at hS ⊢
  have hret : ∀ (pc : Nat) (atype : ArrayType) (d0 : decode cX0_newRow pc = .ok (.iload_n 1, 1)) (d1 : decode cX0_newRow (pc + 1) = .ok (.newarray atype, 2)) (d3 : decode cX0_newRow (pc + 3) = .ok (.areturn, 1))
      (hnew : 0 ≤ n → (∀ (a : Nat) (H : Heap), XH E A B F M G (va_up T 0 (some (a, .inl (E.2 (rty y), n.toNat, .inl (fun j : Nat => zi ((fun _ => 0 : Int → Int) j)))))) H → va_S A s.heap H locs → W p l e rm_X0_newRow s m args below meth c H locs (0 + 1) (0 + n.toNat) (vq_MQ below (qr A (fun a H => 0 ≤ n ∧ XH E A B F M G (va_up T 0 (some (a, .inl (E.2 (rty y), n.toNat, .inl (fun j : Nat => zi ((fun _ => 0 : Int → Int) j)))))) H)) (qx A (fun qf En H => En = "java/lang/NegativeArraySizeException" ∧ n < 0 ∧ XH E A B F M G T H)) args s rm_X0_newRow.cells rm_X0_newRow.slots A) (F0 m (pc + 1 + 2) ls [.ref a])) → W p l e rm_X0_newRow s m args below meth c H locs 0 0 (vq_MQ below (qr A (fun a H => 0 ≤ n ∧ XH E A B F M G (va_up T 0 (some (a, .inl (E.2 (rty y), n.toNat, .inl (fun j : Nat => zi ((fun _ => 0 : Int → Int) j)))))) H)) (qx A (fun qf En H => En = "java/lang/NegativeArraySizeException" ∧ n < 0 ∧ XH E A B F M G T H)) args s rm_X0_newRow.cells rm_X0_newRow.slots A) (F0 m (pc + 1) ls [.int (zi n)])),
      W p l e rm_X0_newRow s m args below meth c H locs 0 0 (vq_MQ below (qr A (fun a H => 0 ≤ n ∧ XH E A B F M G (va_up T 0 (some (a, .inl (E.2 (rty y), n.toNat, .inl (fun j : Nat => zi ((fun _ => 0 : Int → Int) j)))))) H)) (qx A (fun qf En H => En = "java/lang/NegativeArraySizeException" ∧ n < 0 ∧ XH E A B F M G T H)) args s rm_X0_newRow.cells rm_X0_newRow.slots A) (F0 m pc ls []) := by
    intro pc atype d0 d1 d3 hnew
    refine lv_iload_n C.x C.b d0 rfl (lv_at hl 1 rfl) ?_
    by_cases q : 0 ≤ n
    · exact hnew q (fun a H hX hS => r_aret C (Or.inl ⟨_, rfl⟩) hS (by decide) (show 0 + n.toNat ≤ 670 by omega) d3 ⟨q, hX⟩)
    · refine x_nza C hX hS hl0 hl.1 ⟨hn.1, by omega⟩ (Nat.le_of_ble_eq_true rfl) (Nat.le_of_ble_eq_true rfl) (Nat.le_of_ble_eq_true rfl) (Nat.le_of_ble_eq_true rfl) d1 (fun q9 ce H hX hS hx1 hx2 hx3 => ?_)
      exact r_xout C hnt hS (Nat.le_of_ble_eq_true rfl) (Nat.le_of_ble_eq_true rfl) hx1 hx2 hx3 ⟨rfl, by omega, hX⟩
  refine lv_iload_n C.x C.b dX0_newRow_0 rfl (lv_at hl 0 rfl) ?_
  rcases (show y = 0 ∨ y = 1 ∨ y = 2 by omega) with hy0 | hy0 | hy0
  · subst hy0
    refine lv_lookup (off := 27) (tgt := 28) C.x C.b dX0_newRow_1 (by decide) (by decide +kernel) (by decide) ?_
    exact hret 28 _ dX0_newRow_28 dX0_newRow_29 dX0_newRow_31 (fun q kk => x_newb C hX hS 0 (by decide) (show 0 ≤ n ∧ n ≤ 1000 by omega) q600 (by decide) (show 0 + n.toNat ≤ 670 by omega) dX0_newRow_29 kk)
  · subst hy0
    refine lv_lookup (off := 31) (tgt := 32) C.x C.b dX0_newRow_1 (by decide) (by decide +kernel) (by decide) ?_
    exact hret 32 _ dX0_newRow_32 dX0_newRow_33 dX0_newRow_35 (fun q kk => x_news C hX hS 0 (by decide) (show 0 ≤ n ∧ n ≤ 1000 by omega) q921 (by decide) (show 0 + n.toNat ≤ 670 by omega) dX0_newRow_33 kk)
  · subst hy0
    refine lv_lookup (off := 35) (tgt := 36) C.x C.b dX0_newRow_1 (by decide) (by decide +kernel) (by decide) ?_
    exact hret 36 _ dX0_newRow_36 dX0_newRow_37 dX0_newRow_39 (fun q kk => x_newi C hX hS 0 (by decide) (show 0 ≤ n ∧ n ≤ 1000 by omega) q325 (by decide) (show 0 + n.toNat ≤ 670 by omega) dX0_newRow_37 kk)

theorem hd_X0_sheet : yX0_sheet.cls = RX0 ∧ yX0_sheet.cls ≠ "java/lang/invoke/MethodHandle" ∧ yX0_sheet.cls ≠ "java/lang/invoke/VarHandle" ∧ (parseMethodDescriptor yX0_sheet.desc).map (fun d => d.parameters.length) = some 3 := by decide +kernel
abbrev rm_X0_sheet : Room := { frames := 9, cells := 3, slots := 670, locals := 10300 }
set_option maxHeartbeats 8000000 in
theorem met_X0_sheet (l : Launch) (E : us_E) (A : Nat → Prop) (B : Nat → Int → Nat) (F : Nat → Int) (M : Nat → Int → Int) (G : Nat → Int → Option Nat) (T : x_T) (k : Int) (y : Int) (n : Int) (hl0 : l.stackTraces = false) (hk : -2147483648 ≤ k ∧ k < 2147483648) (hy : -2147483648 ≤ y ∧ y < 2147483648) (hn : -2147483648 ≤ n ∧ n < 2147483648) (hT0 : T 0 = none) : cMetH l yX0_sheet cX0_sheet 5 (some .int) [((32 : Nat), (57 : Nat), (58 : Nat), (419 : Nat))] rm_X0_sheet A E [.ref (B 49 0), .int (zi k), .int (zi y), .int (zi n)] (fun H => XH E A B F M G T H) (qi A (fun r H => ∃ b61 : Int → Nat, ∃ m61 : Int → Int, ∃ m203 : Int → Int, ∃ m204 : Int → Int, (((((0 ≤ k ∧ k ≤ 3) ∧ (0 ≤ y ∧ y ≤ 2)) ∧ ¬ 60 < n) ∧ ¬ n < 0) → m203 = fup (M 203) k y ∧ m204 = fup (M 204) k n ∧ m61 = spw 60 (M 61) k (fun _ => 0)) ∧ (¬ ((((0 ≤ k ∧ k ≤ 3) ∧ (0 ≤ y ∧ y ≤ 2)) ∧ ¬ 60 < n) ∧ ¬ n < 0) → m203 = M 203 ∧ m204 = M 204 ∧ m61 = M 61) ∧ (r = sel (((0 ≤ k ∧ k ≤ 3) ∧ (0 ≤ y ∧ y ≤ 2)) ∧ ¬ 60 < n) (sel (n < 0) (-14) 1) (-1)) ∧ XH E A (va_up B 61 b61) F (va_up (va_up (va_up M 61 m61) 203 m203) 204 m204) G T H)) := by
  refine cMetH.of (by decide) (Nat.le_of_ble_eq_true rfl) (fun p e s m args below meth c C hnm htab hX hS ls hl => ?_)
  have C : Cx p s m args meth c A RX0 cX0_sheet 5 (some .int) E := C
  have hX : XH E A B F M G T s.heap := hX
  have hl : lv_has ls 5 [(0, .ref (B 49 0)), (1, .int (zi k)), (2, .int (zi y)), (3, .int (zi n))] := hl
  generalize hH : s.heap = H at hX
  have hS : va_S A s.heap H [] := by rw [← hH]; exact hS
  generalize hlocs : ([] : List Loc) = locs at hS ⊢
  obtain ⟨QQ, hQQ⟩ : ∃ zQQ, MQ below (qi A (fun r H => ∃ b61 : Int → Nat, ∃ m61 : Int → Int, ∃ m203 : Int → Int, ∃ m204 : Int → Int, (((((0 ≤ k ∧ k ≤ 3) ∧ (0 ≤ y ∧ y ≤ 2)) ∧ ¬ 60 < n) ∧ ¬ n < 0) → m203 = fup (M 203) k y ∧ m204 = fup (M 204) k n ∧ m61 = spw 60 (M 61) k (fun _ => 0)) ∧ (¬ ((((0 ≤ k ∧ k ≤ 3) ∧ (0 ≤ y ∧ y ≤ 2)) ∧ ¬ 60 < n) ∧ ¬ n < 0) → m203 = M 203 ∧ m204 = M 204 ∧ m61 = M 61) ∧ (r = sel (((0 ≤ k ∧ k ≤ 3) ∧ (0 ≤ y ∧ y ≤ 2)) ∧ ¬ 60 < n) (sel (n < 0) (-14) 1) (-1)) ∧ XH E A (va_up B 61 b61) F (va_up (va_up (va_up M 61 m61) 203 m203) 204 m204) G T H)) args s (rm_X0_sheet).cells (rm_X0_sheet).slots A = zQQ := ⟨_, rfl⟩
  rw [hQQ]
  have hX : XH E A B F M G (va_up T 0 none) H := hX.to rfl rfl rfl rfl (up_id (T) (k := 0) hT0).symm
  refine lv_iload_n C.x C.b dX0_sheet_0 rfl (lv_at hl 1 rfl) ?_
  refine r_i2l C (by omega) dX0_sheet_1 ?_
  refine r_lconst C 0 rfl dX0_sheet_2 ?_
  refine r_ldc2 C 3 (by decide) q152 dX0_sheet_3 ?_
  refine r_callSi (As := [.long (zl k), .long (zl 0), .long (zl 3)]) (rest := []) (cells' := 0) (slots' := 0) C (met_X0_isIn l E A H k 0 3 (show -9223372036854775808 ≤ k ∧ k < 9223372036854775808 from (by omega)) (show -9223372036854775808 ≤ (0 : Int) ∧ (0 : Int) < 9223372036854775808 from (by omega)) (show -9223372036854775808 ≤ (3 : Int) ∧ (3 : Int) < 9223372036854775808 from (by omega))) (lw_S q117 q118 q86 q119) hd_X0_isIn rfl (by decide) rfl hS hl.1 rfl (Nat.le_of_ble_eq_true rfl) dX0_sheet_6 rfl rfl ⟨Nat.le_of_ble_eq_true rfl, Nat.le_of_ble_eq_true rfl⟩ (fun rr H locs hp hS => ?_)
  obtain ⟨hrr, hH⟩ := hp
  have hrr : rr = bI ((0 : Int) ≤ k ∧ k ≤ (3 : Int)) := hrr
  subst hrr
  have hX : XH E A B F M G (va_up T 0 none) H := by rw [hH]; exact hX
  refine r_if_eq_b (tgt := 30) C dX0_sheet_9 (by decide) (fun c_1 => ?_) (fun c_1 => ?_)
  · refine r_const C dX0_sheet_30 ?_
    have hX : XH E A B F M G T H := hX.to rfl rfl rfl rfl (congrArg (fun z : x_T => z) (up_id T (k := 0) hT0))
    rw [← hQQ]
    exact r_iret C hS (Nat.le_of_ble_eq_true rfl) (Nat.le_of_ble_eq_true rfl) dX0_sheet_31 ⟨(B 61), (M 61), (M 203), (M 204), (fun q => by exfalso; omega), (fun _ => ⟨rfl, rfl, rfl⟩), (by first | exact Eq.symm (sel_f (fun q => absurd q.1.1 (by omega))) | exact Eq.symm (sel_f (fun q => absurd q.1.2 (by omega))) | exact Eq.symm (sel_f (fun q => absurd q.2 (by omega)))), (hX.to ((up_id B (k := 61) (a := (B 61)) rfl).symm.trans rfl) rfl ((((up_id M (k := 61) (a := (M 61)) rfl).symm.trans rfl).trans ((up_id (va_up M 61 (M 61)) (k := 203) (a := (M 203)) rfl).symm.trans rfl)).trans ((up_id (va_up (va_up M 61 (M 61)) 203 (M 203)) (k := 204) (a := (M 204)) rfl).symm.trans rfl)) rfl rfl)⟩
  · refine lv_iload_n C.x C.b dX0_sheet_12 rfl (lv_at hl 2 rfl) ?_
    refine r_i2l C (by omega) dX0_sheet_13 ?_
    refine r_lconst C 0 rfl dX0_sheet_14 ?_
    refine r_ldc2 C 2 (by decide) q218 dX0_sheet_15 ?_
    refine r_callSi (As := [.long (zl y), .long (zl 0), .long (zl 2)]) (rest := []) (cells' := 0) (slots' := 0) C (met_X0_isIn l E A H y 0 2 (show -9223372036854775808 ≤ y ∧ y < 9223372036854775808 from (by omega)) (show -9223372036854775808 ≤ (0 : Int) ∧ (0 : Int) < 9223372036854775808 from (by omega)) (show -9223372036854775808 ≤ (2 : Int) ∧ (2 : Int) < 9223372036854775808 from (by omega))) (lw_S q117 q118 q86 q119) hd_X0_isIn rfl (by decide) rfl hS hl.1 rfl (Nat.le_of_ble_eq_true rfl) dX0_sheet_18 rfl rfl ⟨Nat.le_of_ble_eq_true rfl, Nat.le_of_ble_eq_true rfl⟩ (fun rr H locs hp hS => ?_)
    obtain ⟨hrr, hH⟩ := hp
    have hrr : rr = bI ((0 : Int) ≤ y ∧ y ≤ (2 : Int)) := hrr
    subst hrr
    have hX : XH E A B F M G (va_up T 0 none) H := by rw [hH]; exact hX
    refine r_if_eq_b (tgt := 30) C dX0_sheet_21 (by decide) (fun c_2 => ?_) (fun c_2 => ?_)
    · refine r_const C dX0_sheet_30 ?_
      have hX : XH E A B F M G T H := hX.to rfl rfl rfl rfl (congrArg (fun z : x_T => z) (up_id T (k := 0) hT0))
      rw [← hQQ]
      exact r_iret C hS (Nat.le_of_ble_eq_true rfl) (Nat.le_of_ble_eq_true rfl) dX0_sheet_31 ⟨(B 61), (M 61), (M 203), (M 204), (fun q => by exfalso; omega), (fun _ => ⟨rfl, rfl, rfl⟩), (by first | exact Eq.symm (sel_f (fun q => absurd q.1.1 (by omega))) | exact Eq.symm (sel_f (fun q => absurd q.1.2 (by omega))) | exact Eq.symm (sel_f (fun q => absurd q.2 (by omega)))), (hX.to ((up_id B (k := 61) (a := (B 61)) rfl).symm.trans rfl) rfl ((((up_id M (k := 61) (a := (M 61)) rfl).symm.trans rfl).trans ((up_id (va_up M 61 (M 61)) (k := 203) (a := (M 203)) rfl).symm.trans rfl)).trans ((up_id (va_up (va_up M 61 (M 61)) 203 (M 203)) (k := 204) (a := (M 204)) rfl).symm.trans rfl)) rfl rfl)⟩
    · refine lv_iload_n C.x C.b dX0_sheet_24 rfl (lv_at hl 3 rfl) ?_
      refine r_bipush C (by decide) dX0_sheet_25 ?_
      refine r_icmp_le (tgt := 32) C (by omega) (by decide) dX0_sheet_27 (by decide) (fun c_3 => ?_) (fun c_3 => ?_)
      · refine lv_aload_n C.x C.b dX0_sheet_32 rfl (lv_at hl 0 rfl) ?_
        refine x_ga C hX 48 (by decide) rfl q787 (fun _ h => h) dX0_sheet_33 ?_
        refine lv_iload_n C.x C.b dX0_sheet_36 rfl (lv_at hl 1 rfl) ?_
        refine x_la C hX 48 rfl rfl rfl (by decide) rfl rfl (show 0 ≤ k ∧ k < 4 from (by omega)) (by omega) (by decide) dX0_sheet_37 ?_
        refine lv_iload_n C.x C.b dX0_sheet_38 rfl (lv_at hl 2 rfl) ?_
        refine lv_iload_n C.x C.b dX0_sheet_39 rfl (lv_at hl 3 rfl) ?_
        refine rx_callSr (As := [.int (zi y), .int (zi n)]) (rest := [.ref (B 60 k)]) (cells' := 3) (slots' := 670) C (met_X0_newRow l E A B F M G (va_up T 0 none) y n hl0 (by omega) (by omega)) (lw_S q918 q919 q86 q920) hd_X0_newRow rfl (by decide) hX hS hl.1 rfl (Nat.le_of_ble_eq_true rfl) dX0_sheet_40 rfl rfl ⟨Nat.le_of_ble_eq_true rfl, Nat.le_of_ble_eq_true rfl⟩ (fun En ce q9 H locs hp hS hx1 hx2 hx3 => ?_) (fun a H locs hp hS => ?_)
        · obtain ⟨hEn, hneg, hX⟩ := hp
          subst hEn
          have hX : XH E A B F M G (va_up T 0 none) H := hX
          refine r_catch C htab ([]) _ ([]) rfl (fun _ hz => by cases hz) rfl (by decide) q891 hx1 hx2 hx3 (show W p l e rm_X0_sheet s m args below meth c H locs 3 670 QQ (F0 m 58 ls [.ref q9]) from ?_)
          refine lv_astore (lv' := [(4, .ref q9), (0, .ref (B 49 0)), (1, .int (zi k)), (2, .int (zi y)), (3, .int (zi n))]) C.x C.b dX0_sheet_58 hl (by decide) rfl (fun ls hl => ?_)
          refine r_bipush C (by decide) dX0_sheet_60 ?_
          have hX : XH E A B F M G T H := hX.to rfl rfl rfl rfl (congrArg (fun z : x_T => z) (up_id T (k := 0) hT0))
          rw [← hQQ]
          exact r_iret C hS (Nat.le_of_ble_eq_true rfl) (Nat.le_of_ble_eq_true rfl) dX0_sheet_62 ⟨(B 61), (M 61), (M 203), (M 204), (fun q => absurd q.2 (by omega)), (fun _ => ⟨rfl, rfl, rfl⟩), (by rw [sel_t ⟨⟨by omega, by omega⟩, by omega⟩, sel_t (by omega)]), (hX.to ((up_id B (k := 61) (a := (B 61)) rfl).symm.trans rfl) rfl ((((up_id M (k := 61) (a := (M 61)) rfl).symm.trans rfl).trans ((up_id (va_up M 61 (M 61)) (k := 203) (a := (M 203)) rfl).symm.trans rfl)).trans ((up_id (va_up (va_up M 61 (M 61)) 203 (M 203)) (k := 204) (a := (M 204)) rfl).symm.trans rfl)) rfl rfl)⟩
        · obtain ⟨hpos, hX⟩ := hp
          have hX : XH E A B F M G (va_up (va_up T 0 none) 0 (some (a, .inl (E.2 (rty y), n.toNat, .inl (fun j : Nat => zi ((fun _ => 0 : Int → Int) j)))))) H := hX
          refine x_psheet C hX hS (k := k) (x := y) (n := n) (va_up_self _ _ _) (show 0 ≤ k ∧ k < 4 by omega) (show 0 ≤ y ∧ y ≤ 2 by omega) (show 0 ≤ n ∧ n ≤ 60 by omega) hl (i0 := 0) (i1 := 1) (i3 := 3) rfl rfl rfl (List.mem_of_getElem? (i := 7) rfl) (fun _ h => h) dX0_sheet_43 dX0_sheet_46 q787 (fun _ h => h) dX0_sheet_47 dX0_sheet_50 dX0_sheet_51 dX0_sheet_52 (List.mem_of_getElem? (i := 8) rfl) (fun _ h => h) dX0_sheet_53 (fun H locs hX hS => ?_)
          have hX : XH E A (va_up B 61 (fup (B 61) k a)) F (va_up (va_up (va_up M 61 (spw 60 (M 61) k (fun _ => 0))) 203 (fup (M 203) k y)) 204 (fup (M 204) k n)) G (va_up T 0 none) H := hX.to rfl rfl rfl rfl ((congrArg (fun z : x_T => va_up z 0 none) (up_up _ _ _ _)).trans (up_up _ _ _ _))
          refine r_const C dX0_sheet_56 ?_
          have hX : XH E A (va_up B 61 (fup (B 61) k a)) F (va_up (va_up (va_up M 61 (spw 60 (M 61) k (fun _ => 0))) 203 (fup (M 203) k y)) 204 (fup (M 204) k n)) G T H := hX.to rfl rfl rfl rfl (congrArg (fun z : x_T => z) (up_id T (k := 0) hT0))
          rw [← hQQ]
          exact r_iret C hS (Nat.le_of_ble_eq_true rfl) (Nat.le_of_ble_eq_true rfl) dX0_sheet_57 ⟨(fup (B 61) k a), (spw 60 (M 61) k (fun _ => 0)), (fup (M 203) k y), (fup (M 204) k n), (fun _ => ⟨rfl, rfl, rfl⟩), (fun q => absurd ⟨⟨⟨by omega, by omega⟩, by omega⟩, by omega⟩ q), (by rw [sel_t ⟨⟨by omega, by omega⟩, by omega⟩, sel_f (by omega)]), hX⟩
      · refine r_const C dX0_sheet_30 ?_
        have hX : XH E A B F M G T H := hX.to rfl rfl rfl rfl (congrArg (fun z : x_T => z) (up_id T (k := 0) hT0))
        rw [← hQQ]
        exact r_iret C hS (Nat.le_of_ble_eq_true rfl) (Nat.le_of_ble_eq_true rfl) dX0_sheet_31 ⟨(B 61), (M 61), (M 203), (M 204), (fun q => by exfalso; omega), (fun _ => ⟨rfl, rfl, rfl⟩), (by first | exact Eq.symm (sel_f (fun q => absurd q.1.1 (by omega))) | exact Eq.symm (sel_f (fun q => absurd q.1.2 (by omega))) | exact Eq.symm (sel_f (fun q => absurd q.2 (by omega)))), (hX.to ((up_id B (k := 61) (a := (B 61)) rfl).symm.trans rfl) rfl ((((up_id M (k := 61) (a := (M 61)) rfl).symm.trans rfl).trans ((up_id (va_up M 61 (M 61)) (k := 203) (a := (M 203)) rfl).symm.trans rfl)).trans ((up_id (va_up (va_up M 61 (M 61)) 203 (M 203)) (k := 204) (a := (M 204)) rfl).symm.trans rfl)) rfl rfl)⟩

theorem hd_X0_text : yX0_text.cls = RX0 ∧ yX0_text.cls ≠ "java/lang/invoke/MethodHandle" ∧ yX0_text.cls ≠ "java/lang/invoke/VarHandle" ∧ (parseMethodDescriptor yX0_text.desc).map (fun d => d.parameters.length) = some 4 := by decide +kernel
abbrev rm_X0_text : Room := { frames := 9, cells := 80, slots := 14700, locals := 10320 }
set_option maxHeartbeats 8000000 in
theorem met_X0_text (l : Launch) (E : us_E) (A : Nat → Prop) (B : Nat → Int → Nat) (F : Nat → Int) (M : Nat → Int → Int) (G : Nat → Int → Option Nat) (T : x_T) (k : Int) (y : Int) (f : Int) (n : Int) (hl0 : l.stackTraces = false) (h203 : ∀ j : Int, M 203 j = -4 ∨ 0 ≤ M 203 j) (hk : -2147483648 ≤ k ∧ k < 2147483648) (hy : -2147483648 ≤ y ∧ y < 2147483648) (hf : -2147483648 ≤ f ∧ f < 2147483648) (hn : -2147483648 ≤ n ∧ n < 2147483648) (hT0 : T 0 = none) (hT1 : T 1 = none) : cMetH l yX0_text cX0_text 7 (some .int) [((45 : Nat), (113 : Nat), (123 : Nat), (424 : Nat)), ((114 : Nat), (120 : Nat), (123 : Nat), (424 : Nat)), ((45 : Nat), (113 : Nat), (128 : Nat), (434 : Nat)), ((114 : Nat), (120 : Nat), (128 : Nat), (434 : Nat)), ((45 : Nat), (113 : Nat), (133 : Nat), (426 : Nat)), ((114 : Nat), (120 : Nat), (133 : Nat), (426 : Nat))] rm_X0_text A E [.ref (B 49 0), .int (zi k), .int (zi y), .int (zi f), .int (zi n)] (fun H => XH E A B F M G T H) (qi A (fun r H => ∃ b55 : Int → Nat, ∃ b56 : Int → Nat, ∃ f6 : Int, ∃ m56 : Int → Int, ∃ m200 : Int → Int, ∃ gg5 : Int → Option Nat, ((((((0 ≤ k ∧ k ≤ 3) ∧ (0 ≤ y ∧ y ≤ 2)) ∧ (1 ≤ n ∧ n ≤ 24)) ∧ M 203 k = y) ∧ (tsc (M 204 k) (F 1) f (fun j => M 61 (60 * k + j)) n) = 0 ∧ ¬ F 6 = 8) → f6 = F 6 + 1 ∧ m200 = fup (M 200) (F 6) n ∧ (∀ i : Int, 0 ≤ i → i < n → m56 (24 * F 6 + i) = M 61 (60 * k + (f + i))) ∧ ∀ j : Int, j < 24 * F 6 → m56 j = M 56 j) ∧ (¬ (((((0 ≤ k ∧ k ≤ 3) ∧ (0 ≤ y ∧ y ≤ 2)) ∧ (1 ≤ n ∧ n ≤ 24)) ∧ M 203 k = y) ∧ (tsc (M 204 k) (F 1) f (fun j => M 61 (60 * k + j)) n) = 0 ∧ ¬ F 6 = 8) → f6 = F 6 ∧ m200 = M 200 ∧ m56 = M 56) ∧ (r = sel (((0 ≤ k ∧ k ≤ 3) ∧ (0 ≤ y ∧ y ≤ 2)) ∧ (1 ≤ n ∧ n ≤ 24)) (sel (M 203 k = y) (sel ((tsc (M 204 k) (F 1) f (fun j => M 61 (60 * k + j)) n) = 0) (sel (F 6 = 8) (-3) (F 6)) (tsc (M 204 k) (F 1) f (fun j => M 61 (60 * k + j)) n)) (sel (M 203 k = -4) (-11) (-13))) (-1)) ∧ XH E A (va_up (va_up B 55 b55) 56 b56) (va_up F 6 f6) (va_up (va_up M 56 m56) 200 m200) (va_up G 5 gg5) T H)) := by
  refine cMetH.of (by decide) (Nat.le_of_ble_eq_true rfl) (fun p e s m args below meth c C hnm htab hX hS ls hl => ?_)
  have C : Cx p s m args meth c A RX0 cX0_text 7 (some .int) E := C
  have hX : XH E A B F M G T s.heap := hX
  have hl : lv_has ls 7 [(0, .ref (B 49 0)), (1, .int (zi k)), (2, .int (zi y)), (3, .int (zi f)), (4, .int (zi n))] := hl
  generalize hH : s.heap = H at hX
  have hS : va_S A s.heap H [] := by rw [← hH]; exact hS
  generalize hlocs : ([] : List Loc) = locs at hS ⊢
  obtain ⟨QQ, hQQ⟩ : ∃ zQQ, MQ below (qi A (fun r H => ∃ b55 : Int → Nat, ∃ b56 : Int → Nat, ∃ f6 : Int, ∃ m56 : Int → Int, ∃ m200 : Int → Int, ∃ gg5 : Int → Option Nat, ((((((0 ≤ k ∧ k ≤ 3) ∧ (0 ≤ y ∧ y ≤ 2)) ∧ (1 ≤ n ∧ n ≤ 24)) ∧ M 203 k = y) ∧ (tsc (M 204 k) (F 1) f (fun j => M 61 (60 * k + j)) n) = 0 ∧ ¬ F 6 = 8) → f6 = F 6 + 1 ∧ m200 = fup (M 200) (F 6) n ∧ (∀ i : Int, 0 ≤ i → i < n → m56 (24 * F 6 + i) = M 61 (60 * k + (f + i))) ∧ ∀ j : Int, j < 24 * F 6 → m56 j = M 56 j) ∧ (¬ (((((0 ≤ k ∧ k ≤ 3) ∧ (0 ≤ y ∧ y ≤ 2)) ∧ (1 ≤ n ∧ n ≤ 24)) ∧ M 203 k = y) ∧ (tsc (M 204 k) (F 1) f (fun j => M 61 (60 * k + j)) n) = 0 ∧ ¬ F 6 = 8) → f6 = F 6 ∧ m200 = M 200 ∧ m56 = M 56) ∧ (r = sel (((0 ≤ k ∧ k ≤ 3) ∧ (0 ≤ y ∧ y ≤ 2)) ∧ (1 ≤ n ∧ n ≤ 24)) (sel (M 203 k = y) (sel ((tsc (M 204 k) (F 1) f (fun j => M 61 (60 * k + j)) n) = 0) (sel (F 6 = 8) (-3) (F 6)) (tsc (M 204 k) (F 1) f (fun j => M 61 (60 * k + j)) n)) (sel (M 203 k = -4) (-11) (-13))) (-1)) ∧ XH E A (va_up (va_up B 55 b55) 56 b56) (va_up F 6 f6) (va_up (va_up M 56 m56) 200 m200) (va_up G 5 gg5) T H)) args s (rm_X0_text).cells (rm_X0_text).slots A = zQQ := ⟨_, rfl⟩
  rw [hQQ]
  have rF1 : 0 ≤ F 1 ∧ F 1 ≤ 24 := hX.2.1 1 (0, 24) rfl
  have rF6 : 0 ≤ F 6 ∧ F 6 ≤ 8 := hX.2.1 6 (0, 8) rfl
  have hX : XH E A B F M G (va_up (va_up T 0 none) 1 none) H := hX.to rfl rfl rfl rfl ((up_id (T) (k := 0) hT0).symm.trans (up_id ((va_up T 0 none)) (k := 1) hT1).symm)
  refine lv_iload_n C.x C.b dX0_text_0 rfl (lv_at hl 1 rfl) ?_
  refine r_i2l C (by omega) dX0_text_1 ?_
  refine r_lconst C 0 rfl dX0_text_2 ?_
  refine r_ldc2 C 3 (by decide) q152 dX0_text_3 ?_
  refine r_callSi (As := [.long (zl k), .long (zl 0), .long (zl 3)]) (rest := []) (cells' := 0) (slots' := 0) C (met_X0_isIn l E A H k 0 3 (show -9223372036854775808 ≤ k ∧ k < 9223372036854775808 from (by omega)) (show -9223372036854775808 ≤ (0 : Int) ∧ (0 : Int) < 9223372036854775808 from (by omega)) (show -9223372036854775808 ≤ (3 : Int) ∧ (3 : Int) < 9223372036854775808 from (by omega))) (lw_S q117 q118 q86 q119) hd_X0_isIn rfl (by decide) rfl hS hl.1 rfl (Nat.le_of_ble_eq_true rfl) dX0_text_6 rfl rfl ⟨Nat.le_of_ble_eq_true rfl, Nat.le_of_ble_eq_true rfl⟩ (fun rr H locs hp hS => ?_)
  obtain ⟨hrr, hH⟩ := hp
  have hrr : rr = bI ((0 : Int) ≤ k ∧ k ≤ (3 : Int)) := hrr
  subst hrr
  have hX : XH E A B F M G (va_up (va_up T 0 none) 1 none) H := by rw [hH]; exact hX
  refine r_if_eq_b (tgt := 37) C dX0_text_9 (by decide) (fun c_1 => ?_) (fun c_1 => ?_)
  · refine r_const C dX0_text_37 ?_
    have hX : XH E A B F M G T H := hX.to rfl rfl rfl rfl ((congrArg (fun z : x_T => (va_up z 1 none)) (up_id T (k := 0) hT0)).trans (congrArg (fun z : x_T => z) (up_id T (k := 1) hT1)))
    rw [← hQQ]
    exact r_iret C hS (Nat.le_of_ble_eq_true rfl) (Nat.le_of_ble_eq_true rfl) dX0_text_38 ⟨(B 55), (B 56), (F 6), (M 56), (M 200), (G 5), (fun q => by exfalso; omega), (fun _ => ⟨rfl, rfl, rfl⟩), (Eq.symm (sel_f (by omega))), (hX.to (((up_id B (k := 55) (a := (B 55)) rfl).symm.trans rfl).trans ((up_id (va_up B 55 (B 55)) (k := 56) (a := (B 56)) rfl).symm.trans rfl)) ((up_id F (k := 6) (a := (F 6)) rfl).symm.trans rfl) (((up_id M (k := 56) (a := (M 56)) rfl).symm.trans rfl).trans ((up_id (va_up M 56 (M 56)) (k := 200) (a := (M 200)) rfl).symm.trans rfl)) ((up_id G (k := 5) (a := (G 5)) rfl).symm.trans rfl) rfl)⟩
  · refine lv_iload_n C.x C.b dX0_text_12 rfl (lv_at hl 2 rfl) ?_
    refine r_i2l C (by omega) dX0_text_13 ?_
    refine r_lconst C 0 rfl dX0_text_14 ?_
    refine r_ldc2 C 2 (by decide) q218 dX0_text_15 ?_
    refine r_callSi (As := [.long (zl y), .long (zl 0), .long (zl 2)]) (rest := []) (cells' := 0) (slots' := 0) C (met_X0_isIn l E A H y 0 2 (show -9223372036854775808 ≤ y ∧ y < 9223372036854775808 from (by omega)) (show -9223372036854775808 ≤ (0 : Int) ∧ (0 : Int) < 9223372036854775808 from (by omega)) (show -9223372036854775808 ≤ (2 : Int) ∧ (2 : Int) < 9223372036854775808 from (by omega))) (lw_S q117 q118 q86 q119) hd_X0_isIn rfl (by decide) rfl hS hl.1 rfl (Nat.le_of_ble_eq_true rfl) dX0_text_18 rfl rfl ⟨Nat.le_of_ble_eq_true rfl, Nat.le_of_ble_eq_true rfl⟩ (fun rr H locs hp hS => ?_)
    obtain ⟨hrr, hH⟩ := hp
    have hrr : rr = bI ((0 : Int) ≤ y ∧ y ≤ (2 : Int)) := hrr
    subst hrr
    have hX : XH E A B F M G (va_up (va_up T 0 none) 1 none) H := by rw [hH]; exact hX
    refine r_if_eq_b (tgt := 37) C dX0_text_21 (by decide) (fun c_2 => ?_) (fun c_2 => ?_)
    · refine r_const C dX0_text_37 ?_
      have hX : XH E A B F M G T H := hX.to rfl rfl rfl rfl ((congrArg (fun z : x_T => (va_up z 1 none)) (up_id T (k := 0) hT0)).trans (congrArg (fun z : x_T => z) (up_id T (k := 1) hT1)))
      rw [← hQQ]
      exact r_iret C hS (Nat.le_of_ble_eq_true rfl) (Nat.le_of_ble_eq_true rfl) dX0_text_38 ⟨(B 55), (B 56), (F 6), (M 56), (M 200), (G 5), (fun q => by exfalso; omega), (fun _ => ⟨rfl, rfl, rfl⟩), (Eq.symm (sel_f (by omega))), (hX.to (((up_id B (k := 55) (a := (B 55)) rfl).symm.trans rfl).trans ((up_id (va_up B 55 (B 55)) (k := 56) (a := (B 56)) rfl).symm.trans rfl)) ((up_id F (k := 6) (a := (F 6)) rfl).symm.trans rfl) (((up_id M (k := 56) (a := (M 56)) rfl).symm.trans rfl).trans ((up_id (va_up M 56 (M 56)) (k := 200) (a := (M 200)) rfl).symm.trans rfl)) ((up_id G (k := 5) (a := (G 5)) rfl).symm.trans rfl) rfl)⟩
    · refine lv_iload C.x C.b dX0_text_24 (lv_at hl 4 rfl) ?_
      refine r_i2l C (by omega) dX0_text_26 ?_
      refine r_lconst C 1 rfl dX0_text_27 ?_
      refine r_ldc2 C 24 (by decide) q990 dX0_text_28 ?_
      refine r_callSi (As := [.long (zl n), .long (zl 1), .long (zl 24)]) (rest := []) (cells' := 0) (slots' := 0) C (met_X0_isIn l E A H n 1 24 (show -9223372036854775808 ≤ n ∧ n < 9223372036854775808 from (by omega)) (show -9223372036854775808 ≤ (1 : Int) ∧ (1 : Int) < 9223372036854775808 from (by omega)) (show -9223372036854775808 ≤ (24 : Int) ∧ (24 : Int) < 9223372036854775808 from (by omega))) (lw_S q117 q118 q86 q119) hd_X0_isIn rfl (by decide) rfl hS hl.1 rfl (Nat.le_of_ble_eq_true rfl) dX0_text_31 rfl rfl ⟨Nat.le_of_ble_eq_true rfl, Nat.le_of_ble_eq_true rfl⟩ (fun rr H locs hp hS => ?_)
      obtain ⟨hrr, hH⟩ := hp
      have hrr : rr = bI ((1 : Int) ≤ n ∧ n ≤ (24 : Int)) := hrr
      subst hrr
      have hX : XH E A B F M G (va_up (va_up T 0 none) 1 none) H := by rw [hH]; exact hX
      refine r_if_ne_b (tgt := 39) C dX0_text_34 (by decide) (fun c_3 => ?_) (fun c_3 => ?_)
      · have hok : ((0 ≤ k ∧ k ≤ 3) ∧ (0 ≤ y ∧ y ≤ 2)) ∧ (1 ≤ n ∧ n ≤ 24) := by omega
        have r203 : -4 ≤ M 203 k ∧ M 203 k ≤ 2 := hX.2.2.1 203 (-4, 2) rfl k
        have r204 : 0 ≤ M 204 k ∧ M 204 k ≤ 60 := hX.2.2.1 204 (0, 60) rfl k
        refine lv_iload C.x C.b dX0_text_39 (lv_at hl 4 rfl) ?_
        refine x_newi C hX hS 0 (by decide) (v := n) (show 0 ≤ n ∧ n ≤ 1000 from (by omega)) q325 (show 0 + 1 ≤ 80 from (by omega)) (show 0 + (n).toNat ≤ 14700 from (by omega)) dX0_text_41 (fun ta_4 H hX hS => ?_)
        have hX : XH E A B F M G (va_up (va_up T 0 (some (tA E ta_4 (n).toNat (fun _ => 0)))) 1 none) H := hX.to rfl rfl rfl rfl (up_in (by decide) (up_up _ _ _ _))
        refine lv_astore (lv' := [(5, .ref ta_4), (0, .ref (B 49 0)), (1, .int (zi k)), (2, .int (zi y)), (3, .int (zi f)), (4, .int (zi n))]) C.x C.b dX0_text_43 hl (by decide) rfl (fun ls hl => ?_)
        refine r_const C dX0_text_45 ?_
        refine lv_istore (lv' := [(6, .int (zi 0)), (5, .ref ta_4), (0, .ref (B 49 0)), (1, .int (zi k)), (2, .int (zi y)), (3, .int (zi f)), (4, .int (zi n))]) C.x C.b dX0_text_46 hl (by decide) rfl (fun ls hl => ?_)
        have L48 : ∀ (fu : Nat) (v6 : Int) (tt0 : Option (Nat × va_E)) (cs48 ss48 : Nat) (g48 : Int → Int) (h6 : 0 ≤ v6 ∧ v6 ≤ n) (hts : (tsc (M 204 k) (F 1) f (fun j => M 61 (60 * k + j)) v6) = 0) (hx6 : Bx (0 < v6 → M 203 k = y)) (hca : ∀ j : Int, 0 ≤ j → j < v6 → g48 j = M 61 (60 * k + (f + j))) (hg0 : ∀ j : Int, v6 ≤ j → g48 j = 0) (hgb : ∀ j : Int, -2 ≤ g48 j ∧ g48 j ≤ 23) (hcs : cs48 ≤ 1 + 3 * v6 ∧ ss48 ≤ 24 + 610 * v6) (hm : Int.toNat (n - v6) < fu) (H : Heap) (locs : List Loc) (ls : Array Slot) (hX : XH E A B F M G (va_up (va_up T 0 (some (tA E ta_4 (n).toNat g48))) 1 none) H) (hS : va_S A s.heap H locs) (hl : lv_has ls 7 [(0, .ref (B 49 0)), (1, .int (zi k)), (2, .int (zi y)), (3, .int (zi f)), (4, .int (zi n)), (5, .ref ta_4), (6, .int (zi v6))]), W p l e rm_X0_text s m args below meth c H locs cs48 ss48 QQ (F0 m 48 ls []) := by
          intro fu
          induction fu with
          | zero => intro v6 tt0 cs48 ss48 g48 h6 hts hx6 hca hg0 hgb hcs hm; exact absurd hm (Nat.not_lt_zero _)
          | succ fu ih48 =>
            intro v6 tt0 cs48 ss48 g48 h6 hts hx6 hca hg0 hgb hcs hm H locs ls hX hS hl
            refine lv_iload C.x C.b dX0_text_48 (lv_at hl 6 rfl) ?_
            refine lv_iload C.x C.b dX0_text_50 (lv_at hl 4 rfl) ?_
            refine r_icmp_ge (tgt := 120) C (by omega) (by omega) dX0_text_52 (by decide) (fun c_5 => ?_) (fun c_5 => ?_)
            · have hen : v6 = n := by omega
              have hkx : M 203 k = y := hx6.o (by omega)
              have hts0 : (tsc (M 204 k) (F 1) f (fun j => M 61 (60 * k + j)) n) = 0 := by rw [← hen]; exact hts
              refine lv_goto (tgt := 138) C.x C.b dX0_text_120 (by decide) ?_
              refine lv_aload_n C.x C.b dX0_text_138 rfl (lv_at hl 0 rfl) ?_
              refine x_gi C hX 6 (by decide) rfl q742 (fun _ h => h) (F 6) rfl (b := (0, 8)) rfl dX0_text_139 (fun _ => ?_)
              refine r_bipush C (by decide) dX0_text_142 ?_
              refine r_icmp_ne (tgt := 150) C (by omega) (by decide) dX0_text_144 (by decide) (fun c_6 => ?_) (fun c_6 => ?_)
              · refine lv_aload_n C.x C.b dX0_text_150 rfl (lv_at hl 0 rfl) ?_
                refine x_ga C hX 5 (by decide) rfl q741 (fun _ h => h) dX0_text_151 ?_
                refine lv_aload_n C.x C.b dX0_text_154 rfl (lv_at hl 0 rfl) ?_
                refine x_gi C hX 6 (by decide) rfl q742 (fun _ h => h) (F 6) rfl (b := (0, 8)) rfl dX0_text_155 (fun _ => ?_)
                refine x_newo C hX hS 1 (by decide) (ci := 1) rfl in_X3 tyX3 tyX3_ok q712 q994 q98 [.null] (fun j hj => by rw [show j = 0 by omega]; rfl) (show cs48 + 1 ≤ 80 from (by omega)) (show ss48 + 1 ≤ 14700 from (by omega)) dX0_text_158 (fun ob_7 H hX hS => ?_)
                have hX : XH E A B F M G (va_up (va_up T 0 (some (tA E ta_4 (n).toNat g48))) 1 (some (ob_7, .inr (1, [.null])))) H := hX.to rfl rfl rfl rfl (up_up _ _ _ _)
                refine lv_dup C.x C.b dX0_text_161 rfl ?_
                refine lv_aload C.x C.b dX0_text_162 (lv_at hl 5 rfl) ?_
                refine r_callIv (As := [.ref ta_4]) (rest := [.ref ob_7, .int (zi (F 6)), .ref (B 5 0)]) (cells' := cs48 + 1) (slots' := ss48 + 1) C (met_X3_init l E A B F M G (va_up (va_up T 0 (some (tA E ta_4 (n).toNat g48))) 1 (some (ob_7, .inr (1, [.null])))) ob_7 ta_4 rfl) q997 q98 q995 q996 rfl hd_X3_init.2 rfl (by decide) hX hS hl.1 rfl (Nat.le_of_ble_eq_true rfl) dX0_text_164 rfl rfl ⟨(show cs48 + 1 ≤ 80 from by omega), (show ss48 + 1 ≤ 14700 from by omega)⟩ (fun H locs hp hS => ?_)
                have hX := hp
                have hX : XH E A B F M G (va_up (va_up T 0 (some (tA E ta_4 (n).toNat g48))) 1 (some (ob_7, .inr (1, [.ref ta_4])))) H := hX.to rfl rfl rfl rfl (up_up _ _ _ _)
                refine x_astT C hX hS 1 (by decide) (a := ob_7) (vs := [.ref ta_4]) (ci := 1) rfl (r := (RX3, TX3, 1)) rfl 5 rfl rfl (by decide) rfl (show 0 ≤ (F 6) ∧ (F 6) < 8 from (by omega)) (by decide) (fun g hg => show F 6 ≤ (F 6) from (by omega)) dX0_text_167 (G' := (va_up G 5 (fup (G 5) (F 6) (some ob_7)))) rfl (fun H locs hX hS => ?_)
                refine lv_aload_n C.x C.b dX0_text_168 rfl (lv_at hl 0 rfl) ?_
                refine lv_dup C.x C.b dX0_text_169 rfl ?_
                refine x_gi C hX 6 (by decide) rfl q742 (fun _ h => h) (F 6) rfl (b := (0, 8)) rfl dX0_text_170 (fun _ => ?_)
                refine r_const C dX0_text_173 ?_
                refine r_iadd C dX0_text_174 ?_
                refine x_ptext C hX hS (a0 := ta_4) (a1 := ob_7) (n := n) (g := g48) rfl rfl (by first | rfl | exact (congrFun (va_up_self _ _ _) _).trans (fup_s _ _ _)) (show (F 6) ≤ 7 from (by omega)) (show 0 ≤ n ∧ n ≤ 24 from by omega) (fun x q => hg0 x (by omega)) (fun x _ _ => hgb x) q742 (fun _ h => h) dX0_text_175 (fun H locs hX hS => ?_)
                have hX : XH E A (va_up (va_up B 55 (fup (B 55) (F 6) ob_7)) 56 (fup (B 56) (F 6) ta_4)) (va_up F 6 ((F 6) + 1)) (va_up (va_up M 56 (spw 24 (M 56) (F 6) g48)) 200 (fup (M 200) (F 6) n)) (va_up G 5 (fup (G 5) (F 6) (some ob_7))) (va_up (va_up T 0 none) 1 none) H := hX.to ((congrArg (fun z => va_up z 56 (fup (B 56) (F 6) ta_4)) rfl).trans rfl) rfl ((congrArg (fun z => va_up z 200 (fup (M 200) (F 6) n)) rfl).trans rfl) rfl ((congrArg (fun z => va_up z 1 none) (up_in (by decide) (up_up _ _ _ _))).trans (up_up _ _ _ _))
                refine lv_aload_n C.x C.b dX0_text_178 rfl (lv_at hl 0 rfl) ?_
                refine x_gi (B := (va_up (va_up B 55 (fup (B 55) (F 6) ob_7)) 56 (fup (B 56) (F 6) ta_4))) C hX 6 (by decide) rfl q742 (fun _ h => h) ((F 6) + 1) rfl (b := (0, 8)) rfl dX0_text_179 (fun r179 => ?_)
                have r179 : 0 ≤ (F 6) + 1 ∧ (F 6) + 1 ≤ 8 := r179
                refine r_const C dX0_text_182 ?_
                refine r_isub C dX0_text_183 ?_
                have hX : XH E A (va_up (va_up B 55 (fup (B 55) (F 6) ob_7)) 56 (fup (B 56) (F 6) ta_4)) (va_up F 6 ((F 6) + 1)) (va_up (va_up M 56 (spw 24 (M 56) (F 6) g48)) 200 (fup (M 200) (F 6) n)) (va_up G 5 (fup (G 5) (F 6) (some ob_7))) T H := hX.to rfl rfl rfl rfl ((congrArg (fun z : x_T => (va_up z 1 none)) (up_id T (k := 0) hT0)).trans (congrArg (fun z : x_T => z) (up_id T (k := 1) hT1)))
                rw [← hQQ]
                exact r_iret C hS (show cs48 + 1 ≤ 80 from by omega) (show ss48 + 1 ≤ 14700 from by omega) dX0_text_184 ⟨(fup (B 55) (F 6) ob_7), (fup (B 56) (F 6) ta_4), ((F 6) + 1), (spw 24 (M 56) (F 6) g48), (fup (M 200) (F 6) n), (fup (G 5) (F 6) (some ob_7)), (fun _ => ⟨rfl, rfl, fun i a q => by show (if 24 * F 6 ≤ 24 * F 6 + i ∧ 24 * F 6 + i < 24 * F 6 + 24 then g48 (24 * F 6 + i - 24 * F 6) else _) = _; rw [if_pos ⟨by omega, by omega⟩, show 24 * F 6 + i - 24 * F 6 = i by omega]; exact hca i a (by omega), fun x a => if_neg (by omega)⟩), (fun q => absurd ⟨⟨hok, hkx⟩, hts0, by omega⟩ q), (by rw [sel_t hok, sel_t hkx, sel_t hts0, sel_f (by omega)]; omega), hX⟩
              · refine r_bipush C (by decide) dX0_text_147 ?_
                have hX : XH E A B F M G (va_up (va_up T 0 none) 1 none) H := (x_tdrop hX 0).to rfl rfl rfl rfl (up_in (by decide) (up_up _ _ _ _))
                have hX : XH E A B F M G T H := hX.to rfl rfl rfl rfl ((congrArg (fun z : x_T => (va_up z 1 none)) (up_id T (k := 0) hT0)).trans (congrArg (fun z : x_T => z) (up_id T (k := 1) hT1)))
                rw [← hQQ]
                exact r_iret C hS (show cs48 ≤ 80 from by omega) (show ss48 ≤ 14700 from by omega) dX0_text_149 ⟨(B 55), (B 56), (F 6), (M 56), (M 200), (G 5), (fun q => absurd (by omega) q.2.2), (fun _ => ⟨rfl, rfl, rfl⟩), (by rw [sel_t hok, sel_t hkx, sel_t hts0, sel_t (by omega)]), (hX.to (((up_id B (k := 55) (a := (B 55)) rfl).symm.trans rfl).trans ((up_id (va_up B 55 (B 55)) (k := 56) (a := (B 56)) rfl).symm.trans rfl)) ((up_id F (k := 6) (a := (F 6)) rfl).symm.trans rfl) (((up_id M (k := 56) (a := (M 56)) rfl).symm.trans rfl).trans ((up_id (va_up M 56 (M 56)) (k := 200) (a := (M 200)) rfl).symm.trans rfl)) ((up_id G (k := 5) (a := (G 5)) rfl).symm.trans rfl) rfl)⟩
            · refine lv_aload C.x C.b dX0_text_55 (lv_at hl 5 rfl) ?_
              refine lv_iload C.x C.b dX0_text_57 (lv_at hl 6 rfl) ?_
              refine lv_aload_n C.x C.b dX0_text_59 rfl (lv_at hl 0 rfl) ?_
              refine x_ga C hX 48 (by decide) rfl q787 (fun _ h => h) dX0_text_60 ?_
              refine lv_iload_n C.x C.b dX0_text_63 rfl (lv_at hl 1 rfl) ?_
              refine x_la C hX 48 rfl rfl rfl (by decide) rfl rfl (show 0 ≤ k ∧ k < 4 from (by omega)) (by omega) (by decide) dX0_text_64 ?_
              refine x_goN C hX 60 (by decide) (show 0 ≤ k ∧ k < 4 from (by omega)).1 (xK_60 (show 0 ≤ k ∧ k < 4 from (by omega))) rfl in_X1 0 (by decide) (List.mem_of_getElem? (i := 7) rfl) (fun _ h => h) ((if M 203 k = -4 then .null else .ref (B 61 k))) rfl dX0_text_65 ?_
              refine lv_iload_n C.x C.b dX0_text_68 rfl (lv_at hl 2 rfl) ?_
              refine lv_iload_n C.x C.b dX0_text_69 rfl (lv_at hl 3 rfl) ?_
              refine lv_iload C.x C.b dX0_text_70 (lv_at hl 6 rfl) ?_
              refine r_iadd C dX0_text_72 ?_
              obtain ⟨iw, hiw, hiwr, hiwc⟩ := zi_wr (z := f + v6) (by omega)
              rw [hiw]
              refine rx_callSi (As := [(if M 203 k = -4 then .null else .ref (B 61 k)), .int (zi y), .int (zi iw)]) (rest := [.int (zi v6), .ref ta_4]) (cells' := cs48 + 3) (slots' := ss48 + 610) C (met_X0_cell l E A B F M G (va_up (va_up T 0 (some (tA E ta_4 (n).toNat g48))) 1 none) k y iw (show l.stackTraces = false from hl0) (show ∀ j : Int, (M 203) j = -4 ∨ 0 ≤ (M 203) j from h203) (show 0 ≤ k ∧ k < 4 from (by omega)) (show 0 ≤ y ∧ y ≤ 2 from (by omega)) (show -2147483648 ≤ iw ∧ iw < 2147483648 from (by omega))) (lw_S q991 q992 q86 q993) hd_X0_cell rfl (by decide) hX hS hl.1 rfl (Nat.le_of_ble_eq_true rfl) dX0_text_73 rfl rfl ⟨(show cs48 + 3 ≤ 80 from by omega), (show ss48 + 610 ≤ 14700 from by omega)⟩ (fun En ce q9 H locs hp hS hx1 hx2 hx3 => ?_) (fun rr H locs hp hS => ?_)
              · obtain ⟨xhcase, hX⟩ := hp
                replace xhcase : (En = "java/lang/NullPointerException" ∧ (M 203) k = -4) ∨ (En = "java/lang/ClassCastException" ∧ ¬ (M 203) k = -4 ∧ ¬ (M 203) k = y) ∨ (En = "java/lang/ArrayIndexOutOfBoundsException" ∧ (M 203) k = y ∧ ¬ (0 ≤ iw ∧ iw < (M 204) k)) := xhcase
                have hX : XH E A B F M G (va_up (va_up T 0 (some (tA E ta_4 (n).toNat g48))) 1 none) H := hX.to rfl rfl rfl rfl rfl
                rcases xhcase with ⟨hEn, hc1⟩ | ⟨hEn, hc1⟩ | ⟨hEn, hc1⟩
                · subst hEn
                  refine r_catch C htab ([]) _ (tableOf [((114 : Nat), (120 : Nat), (123 : Nat), (424 : Nat)), ((45 : Nat), (113 : Nat), (128 : Nat), (434 : Nat)), ((114 : Nat), (120 : Nat), (128 : Nat), (434 : Nat)), ((45 : Nat), (113 : Nat), (133 : Nat), (426 : Nat)), ((114 : Nat), (120 : Nat), (133 : Nat), (426 : Nat))]) rfl (fun _ hz => by cases hz) rfl (by decide) q926 hx1 hx2 hx3 (show W p l e rm_X0_text s m args below meth c H locs (cs48 + 3) (ss48 + 610) QQ (F0 m 123 ls [.ref q9]) from ?_)
                  refine lv_astore (lv' := [(6, .ref q9), (0, .ref (B 49 0)), (1, .int (zi k)), (2, .int (zi y)), (3, .int (zi f)), (4, .int (zi n)), (5, .ref ta_4)]) C.x C.b dX0_text_123 hl (by decide) rfl (fun ls hl => ?_)
                  refine r_bipush C (by decide) dX0_text_125 ?_
                  have hX : XH E A B F M G (va_up (va_up T 0 none) 1 none) H := (x_tdrop hX 0).to rfl rfl rfl rfl (up_in (by decide) (up_up _ _ _ _))
                  have hX : XH E A B F M G T H := hX.to rfl rfl rfl rfl ((congrArg (fun z : x_T => (va_up z 1 none)) (up_id T (k := 0) hT0)).trans (congrArg (fun z : x_T => z) (up_id T (k := 1) hT1)))
                  rw [← hQQ]
                  exact r_iret C hS (show cs48 + 3 ≤ 80 from by omega) (show ss48 + 610 ≤ 14700 from by omega) dX0_text_127 ⟨(B 55), (B 56), (F 6), (M 56), (M 200), (G 5), (fun q => absurd q.1.2 (by omega)), (fun _ => ⟨rfl, rfl, rfl⟩), (by rw [sel_t hok, sel_f (by omega), sel_t (by omega)]), (hX.to (((up_id B (k := 55) (a := (B 55)) rfl).symm.trans rfl).trans ((up_id (va_up B 55 (B 55)) (k := 56) (a := (B 56)) rfl).symm.trans rfl)) ((up_id F (k := 6) (a := (F 6)) rfl).symm.trans rfl) (((up_id M (k := 56) (a := (M 56)) rfl).symm.trans rfl).trans ((up_id (va_up M 56 (M 56)) (k := 200) (a := (M 200)) rfl).symm.trans rfl)) ((up_id G (k := 5) (a := (G 5)) rfl).symm.trans rfl) rfl)⟩
                · subst hEn
                  refine r_catch C htab (tableOf [((45 : Nat), (113 : Nat), (123 : Nat), (424 : Nat)), ((114 : Nat), (120 : Nat), (123 : Nat), (424 : Nat))]) _ (tableOf [((114 : Nat), (120 : Nat), (128 : Nat), (434 : Nat)), ((45 : Nat), (113 : Nat), (133 : Nat), (426 : Nat)), ((114 : Nat), (120 : Nat), (133 : Nat), (426 : Nat))]) rfl (fun z hz => by
                    simp only [tableOf, List.map_cons, List.map_nil, List.mem_cons, List.not_mem_nil, or_false] at hz
                    rcases hz with rfl | rfl
                    · exact Or.inr ⟨by decide, "java/lang/NullPointerException", C.t _ q926, C.nc (by decide +kernel)⟩
                    · exact Or.inl rfl) rfl (by decide) q976 hx1 hx2 hx3 (show W p l e rm_X0_text s m args below meth c H locs (cs48 + 3) (ss48 + 610) QQ (F0 m 128 ls [.ref q9]) from ?_)
                  refine lv_astore (lv' := [(6, .ref q9), (0, .ref (B 49 0)), (1, .int (zi k)), (2, .int (zi y)), (3, .int (zi f)), (4, .int (zi n)), (5, .ref ta_4)]) C.x C.b dX0_text_128 hl (by decide) rfl (fun ls hl => ?_)
                  refine r_bipush C (by decide) dX0_text_130 ?_
                  have hX : XH E A B F M G (va_up (va_up T 0 none) 1 none) H := (x_tdrop hX 0).to rfl rfl rfl rfl (up_in (by decide) (up_up _ _ _ _))
                  have hX : XH E A B F M G T H := hX.to rfl rfl rfl rfl ((congrArg (fun z : x_T => (va_up z 1 none)) (up_id T (k := 0) hT0)).trans (congrArg (fun z : x_T => z) (up_id T (k := 1) hT1)))
                  rw [← hQQ]
                  exact r_iret C hS (show cs48 + 3 ≤ 80 from by omega) (show ss48 + 610 ≤ 14700 from by omega) dX0_text_132 ⟨(B 55), (B 56), (F 6), (M 56), (M 200), (G 5), (fun q => absurd q.1.2 (by omega)), (fun _ => ⟨rfl, rfl, rfl⟩), (by rw [sel_t hok, sel_f (by omega), sel_f (by omega)]), (hX.to (((up_id B (k := 55) (a := (B 55)) rfl).symm.trans rfl).trans ((up_id (va_up B 55 (B 55)) (k := 56) (a := (B 56)) rfl).symm.trans rfl)) ((up_id F (k := 6) (a := (F 6)) rfl).symm.trans rfl) (((up_id M (k := 56) (a := (M 56)) rfl).symm.trans rfl).trans ((up_id (va_up M 56 (M 56)) (k := 200) (a := (M 200)) rfl).symm.trans rfl)) ((up_id G (k := 5) (a := (G 5)) rfl).symm.trans rfl) rfl)⟩
                · subst hEn
                  have hix : (tsc (M 204 k) (F 1) f (fun j => M 61 (60 * k + j)) n) = -12 := tsc_ix h6.1 (by omega) hts (by omega)
                  refine r_catch C htab (tableOf [((45 : Nat), (113 : Nat), (123 : Nat), (424 : Nat)), ((114 : Nat), (120 : Nat), (123 : Nat), (424 : Nat)), ((45 : Nat), (113 : Nat), (128 : Nat), (434 : Nat)), ((114 : Nat), (120 : Nat), (128 : Nat), (434 : Nat))]) _ (tableOf [((114 : Nat), (120 : Nat), (133 : Nat), (426 : Nat))]) rfl (fun z hz => by
                    simp only [tableOf, List.map_cons, List.map_nil, List.mem_cons, List.not_mem_nil, or_false] at hz
                    rcases hz with rfl | rfl | rfl | rfl
                    · exact Or.inr ⟨by decide, "java/lang/NullPointerException", C.t _ q926, C.nc (by decide +kernel)⟩
                    · exact Or.inl rfl
                    · exact Or.inr ⟨by decide, "java/lang/ClassCastException", C.t _ q976, C.nc (by decide +kernel)⟩
                    · exact Or.inl rfl) rfl (by decide) q951 hx1 hx2 hx3 (show W p l e rm_X0_text s m args below meth c H locs (cs48 + 3) (ss48 + 610) QQ (F0 m 133 ls [.ref q9]) from ?_)
                  refine lv_astore (lv' := [(6, .ref q9), (0, .ref (B 49 0)), (1, .int (zi k)), (2, .int (zi y)), (3, .int (zi f)), (4, .int (zi n)), (5, .ref ta_4)]) C.x C.b dX0_text_133 hl (by decide) rfl (fun ls hl => ?_)
                  refine r_bipush C (by decide) dX0_text_135 ?_
                  have hX : XH E A B F M G (va_up (va_up T 0 none) 1 none) H := (x_tdrop hX 0).to rfl rfl rfl rfl (up_in (by decide) (up_up _ _ _ _))
                  have hX : XH E A B F M G T H := hX.to rfl rfl rfl rfl ((congrArg (fun z : x_T => (va_up z 1 none)) (up_id T (k := 0) hT0)).trans (congrArg (fun z : x_T => z) (up_id T (k := 1) hT1)))
                  rw [← hQQ]
                  exact r_iret C hS (show cs48 + 3 ≤ 80 from by omega) (show ss48 + 610 ≤ 14700 from by omega) dX0_text_137 ⟨(B 55), (B 56), (F 6), (M 56), (M 200), (G 5), (fun q => absurd q.2.1 (by omega)), (fun _ => ⟨rfl, rfl, rfl⟩), (by rw [sel_t hok, sel_t (by omega), sel_f (by omega), hix]), (hX.to (((up_id B (k := 55) (a := (B 55)) rfl).symm.trans rfl).trans ((up_id (va_up B 55 (B 55)) (k := 56) (a := (B 56)) rfl).symm.trans rfl)) ((up_id F (k := 6) (a := (F 6)) rfl).symm.trans rfl) (((up_id M (k := 56) (a := (M 56)) rfl).symm.trans rfl).trans ((up_id (va_up M 56 (M 56)) (k := 200) (a := (M 200)) rfl).symm.trans rfl)) ((up_id G (k := 5) (a := (G 5)) rfl).symm.trans rfl) rfl)⟩
              obtain ⟨hin73, hrr, hX⟩ := hp
              have hrr : rr = (M 61) (60 * k + iw) := hrr
              subst hrr
              replace hin73 : (M 203) k = y ∧ 0 ≤ iw ∧ iw < (M 204) k := hin73
              refine x_tsi C hX hS 0 (by decide) (a := ta_4) (n := (n).toNat) (g := g48) rfl (show 0 ≤ v6 ∧ v6 < (((n).toNat : Nat) : Int) from (by omega)) (show (n).toNat < 2147483648 from by omega) (T' := (va_up (va_up T 0 (some (tA E ta_4 (n).toNat (fup g48 v6 ((M 61) (60 * k + iw)))))) 1 none)) (up_in (by decide) (up_up _ _ _ _)) dX0_text_76 (fun H locs hX hS => ?_)
              have r61 : -2147483648 ≤ M 61 (60 * k + (f + v6)) ∧ M 61 (60 * k + (f + v6)) ≤ 2147483647 := hX.2.2.1 61 (-2147483648, 2147483647) rfl _
              have ecx : 60 * k + iw = 60 * k + (f + v6) := by omega
              have hfs : (fup g48 v6 (M 61 (60 * k + iw))) v6 = M 61 (60 * k + (f + v6)) := by rw [fup_s, ecx]
              refine lv_aload_n C.x C.b dX0_text_77 rfl (lv_at hl 0 rfl) ?_
              refine lv_aload C.x C.b dX0_text_78 (lv_at hl 5 rfl) ?_
              refine lv_iload C.x C.b dX0_text_80 (lv_at hl 6 rfl) ?_
              refine x_tli C hX 0 (by decide) (a := ta_4) (n := (n).toNat) (g := (fup g48 v6 ((M 61) (60 * k + iw)))) rfl (show 0 ≤ v6 ∧ v6 < (((n).toNat : Nat) : Int) from (by omega)) (show (n).toNat < 2147483648 from by omega) (v := (fup g48 v6 ((M 61) (60 * k + iw))) v6) rfl dX0_text_82 ?_
              refine r_callVi (As := [.int (zi ((fup g48 v6 ((M 61) (60 * k + iw))) v6))]) (rest := []) (cells' := cs48 + 3) (slots' := ss48 + 610) C (met_X0_isForm l E A B F M G (va_up (va_up T 0 (some (tA E ta_4 (n).toNat (fup g48 v6 ((M 61) (60 * k + iw)))))) 1 none) ((fup g48 v6 ((M 61) (60 * k + iw))) v6) (show -2147483648 ≤ ((fup g48 v6 ((M 61) (60 * k + iw))) v6) ∧ ((fup g48 v6 ((M 61) (60 * k + iw))) v6) < 2147483648 from (by omega))) (lw_V q129 q131 qs0 q86 q133) hd_X0_isForm rfl (by decide) (x_this C hX) hX hS hl.1 rfl (Nat.le_of_ble_eq_true rfl) dX0_text_83 rfl rfl ⟨(show cs48 + 3 ≤ 80 from by omega), (show ss48 + 610 ≤ 14700 from by omega)⟩ (fun rr H locs hp hS => ?_)
              obtain ⟨hrr, hX⟩ := hp
              have hrr : rr = bI (0 ≤ ((fup g48 v6 ((M 61) (60 * k + iw))) v6) ∧ ((fup g48 v6 ((M 61) (60 * k + iw))) v6) < (F 1)) := hrr
              subst hrr
              refine r_if_ne_b (tgt := 114) C dX0_text_86 (by decide) (fun c_8 => ?_) (fun c_8 => ?_)
              · have hgo : (tsc (M 204 k) (F 1) f (fun j => M 61 (60 * k + j)) (v6 + 1)) = 0 := tsc_go h6.1 hts (by omega) (by show -2 ≤ M 61 (60 * k + (f + v6)) ∧ M 61 (60 * k + (f + v6)) ≤ F 1 - 1; omega)
                refine r_iinc (lv' := [(6, .int (zi (v6 + 1))), (0, .ref (B 49 0)), (1, .int (zi k)), (2, .int (zi y)), (3, .int (zi f)), (4, .int (zi n)), (5, .ref ta_4)]) C dX0_text_114 hl (k := 6) rfl (by decide) rfl (fun ls hl => ?_)
                refine lv_goto (tgt := 48) C.x C.b dX0_text_117 (by decide) ?_
                exact ih48 (v6 + 1) (some (tA E ta_4 (n).toNat (fup g48 v6 ((M 61) (60 * k + iw))))) (cs48 + 3) (ss48 + 610) (fup g48 v6 ((M 61) (60 * k + iw))) (by omega) hgo (Bx.i (fun _ => hin73.1)) (fup_st (P := fun j x => x = M 61 (60 * k + (f + j))) hca (by rw [ecx])) (fun j a => by rw [fup_n _ _ (by omega)]; exact hg0 j (by omega)) (fun j => by by_cases q : j = v6; exact (by rw [q, hfs]; omega); rw [fup_n _ _ q]; exact hgb j) (by omega) (by omega) H locs ls hX hS (lv_sub hl [1, 2, 3, 4, 5, 6, 0] rfl)
              · refine lv_aload C.x C.b dX0_text_89 (lv_at hl 5 rfl) ?_
                refine lv_iload C.x C.b dX0_text_91 (lv_at hl 6 rfl) ?_
                refine x_tli C hX 0 (by decide) (a := ta_4) (n := (n).toNat) (g := (fup g48 v6 ((M 61) (60 * k + iw)))) rfl (show 0 ≤ v6 ∧ v6 < (((n).toNat : Nat) : Int) from (by omega)) (show (n).toNat < 2147483648 from by omega) (v := (fup g48 v6 ((M 61) (60 * k + iw))) v6) rfl dX0_text_93 ?_
                refine r_const C dX0_text_94 ?_
                refine r_icmp_eq (tgt := 114) C (by omega) (by decide) dX0_text_95 (by decide) (fun c_9 => ?_) (fun c_9 => ?_)
                · have hgo : (tsc (M 204 k) (F 1) f (fun j => M 61 (60 * k + j)) (v6 + 1)) = 0 := tsc_go h6.1 hts (by omega) (by show -2 ≤ M 61 (60 * k + (f + v6)) ∧ M 61 (60 * k + (f + v6)) ≤ F 1 - 1; omega)
                  refine r_iinc (lv' := [(6, .int (zi (v6 + 1))), (0, .ref (B 49 0)), (1, .int (zi k)), (2, .int (zi y)), (3, .int (zi f)), (4, .int (zi n)), (5, .ref ta_4)]) C dX0_text_114 hl (k := 6) rfl (by decide) rfl (fun ls hl => ?_)
                  refine lv_goto (tgt := 48) C.x C.b dX0_text_117 (by decide) ?_
                  exact ih48 (v6 + 1) (some (tA E ta_4 (n).toNat (fup g48 v6 ((M 61) (60 * k + iw))))) (cs48 + 3) (ss48 + 610) (fup g48 v6 ((M 61) (60 * k + iw))) (by omega) hgo (Bx.i (fun _ => hin73.1)) (fup_st (P := fun j x => x = M 61 (60 * k + (f + j))) hca (by rw [ecx])) (fun j a => by rw [fup_n _ _ (by omega)]; exact hg0 j (by omega)) (fun j => by by_cases q : j = v6; exact (by rw [q, hfs]; omega); rw [fup_n _ _ q]; exact hgb j) (by omega) (by omega) H locs ls hX hS (lv_sub hl [1, 2, 3, 4, 5, 6, 0] rfl)
                · refine lv_aload C.x C.b dX0_text_98 (lv_at hl 5 rfl) ?_
                  refine lv_iload C.x C.b dX0_text_100 (lv_at hl 6 rfl) ?_
                  refine x_tli C hX 0 (by decide) (a := ta_4) (n := (n).toNat) (g := (fup g48 v6 ((M 61) (60 * k + iw)))) rfl (show 0 ≤ v6 ∧ v6 < (((n).toNat : Nat) : Int) from (by omega)) (show (n).toNat < 2147483648 from by omega) (v := (fup g48 v6 ((M 61) (60 * k + iw))) v6) rfl dX0_text_102 ?_
                  refine r_bipush C (by decide) dX0_text_103 ?_
                  refine r_icmp_eq (tgt := 114) C (by omega) (by decide) dX0_text_105 (by decide) (fun c_10 => ?_) (fun c_10 => ?_)
                  · have hgo : (tsc (M 204 k) (F 1) f (fun j => M 61 (60 * k + j)) (v6 + 1)) = 0 := tsc_go h6.1 hts (by omega) (by show -2 ≤ M 61 (60 * k + (f + v6)) ∧ M 61 (60 * k + (f + v6)) ≤ F 1 - 1; omega)
                    refine r_iinc (lv' := [(6, .int (zi (v6 + 1))), (0, .ref (B 49 0)), (1, .int (zi k)), (2, .int (zi y)), (3, .int (zi f)), (4, .int (zi n)), (5, .ref ta_4)]) C dX0_text_114 hl (k := 6) rfl (by decide) rfl (fun ls hl => ?_)
                    refine lv_goto (tgt := 48) C.x C.b dX0_text_117 (by decide) ?_
                    exact ih48 (v6 + 1) (some (tA E ta_4 (n).toNat (fup g48 v6 ((M 61) (60 * k + iw))))) (cs48 + 3) (ss48 + 610) (fup g48 v6 ((M 61) (60 * k + iw))) (by omega) hgo (Bx.i (fun _ => hin73.1)) (fup_st (P := fun j x => x = M 61 (60 * k + (f + j))) hca (by rw [ecx])) (fun j a => by rw [fup_n _ _ (by omega)]; exact hg0 j (by omega)) (fun j => by by_cases q : j = v6; exact (by rw [q, hfs]; omega); rw [fup_n _ _ q]; exact hgb j) (by omega) (by omega) H locs ls hX hS (lv_sub hl [1, 2, 3, 4, 5, 6, 0] rfl)
                  · refine r_bipush C (by decide) dX0_text_108 ?_
                    refine lv_iload C.x C.b dX0_text_110 (lv_at hl 6 rfl) ?_
                    refine r_isub C dX0_text_112 ?_
                    have hX : XH E A B F M G (va_up (va_up T 0 none) 1 none) H := (x_tdrop hX 0).to rfl rfl rfl rfl (up_in (by decide) (up_up _ _ _ _))
                    have hX : XH E A B F M G T H := hX.to rfl rfl rfl rfl ((congrArg (fun z : x_T => (va_up z 1 none)) (up_id T (k := 0) hT0)).trans (congrArg (fun z : x_T => z) (up_id T (k := 1) hT1)))
                    have hno9 : (tsc (M 204 k) (F 1) f (fun j => M 61 (60 * k + j)) n) = -20 - v6 := tsc_no h6.1 (by omega) hts (by omega) (by show ¬ (-2 ≤ M 61 (60 * k + (f + v6)) ∧ M 61 (60 * k + (f + v6)) ≤ F 1 - 1); omega)
                    rw [← hQQ]
                    exact r_iret C hS (show cs48 + 3 ≤ 80 from by omega) (show ss48 + 610 ≤ 14700 from by omega) dX0_text_113 ⟨(B 55), (B 56), (F 6), (M 56), (M 200), (G 5), (fun q => absurd q.2.1 (by omega)), (fun _ => ⟨rfl, rfl, rfl⟩), (by rw [sel_t hok, sel_t (by omega), sel_f (by omega), hno9]), (hX.to (((up_id B (k := 55) (a := (B 55)) rfl).symm.trans rfl).trans ((up_id (va_up B 55 (B 55)) (k := 56) (a := (B 56)) rfl).symm.trans rfl)) ((up_id F (k := 6) (a := (F 6)) rfl).symm.trans rfl) (((up_id M (k := 56) (a := (M 56)) rfl).symm.trans rfl).trans ((up_id (va_up M 56 (M 56)) (k := 200) (a := (M 200)) rfl).symm.trans rfl)) ((up_id G (k := 5) (a := (G 5)) rfl).symm.trans rfl) rfl)⟩
        exact L48 _ 0 (some (tA E ta_4 (n).toNat (fun _ => 0))) 1 (0 + (n).toNat) (fun _ => 0) (by omega) rfl (Bx.i (fun q => by omega)) (fun j a q => absurd q (by omega)) (fun _ _ => rfl) (fun _ => ⟨by show (-2 : Int) ≤ 0; omega, by show (0 : Int) ≤ 23; omega⟩) (by omega) (Nat.lt_succ_self _) H locs ls hX hS (lv_sub hl [2, 3, 4, 5, 6, 1, 0] rfl)
      · refine r_const C dX0_text_37 ?_
        have hX : XH E A B F M G T H := hX.to rfl rfl rfl rfl ((congrArg (fun z : x_T => (va_up z 1 none)) (up_id T (k := 0) hT0)).trans (congrArg (fun z : x_T => z) (up_id T (k := 1) hT1)))
        rw [← hQQ]
        exact r_iret C hS (Nat.le_of_ble_eq_true rfl) (Nat.le_of_ble_eq_true rfl) dX0_text_38 ⟨(B 55), (B 56), (F 6), (M 56), (M 200), (G 5), (fun q => by exfalso; omega), (fun _ => ⟨rfl, rfl, rfl⟩), (Eq.symm (sel_f (by omega))), (hX.to (((up_id B (k := 55) (a := (B 55)) rfl).symm.trans rfl).trans ((up_id (va_up B 55 (B 55)) (k := 56) (a := (B 56)) rfl).symm.trans rfl)) ((up_id F (k := 6) (a := (F 6)) rfl).symm.trans rfl) (((up_id M (k := 56) (a := (M 56)) rfl).symm.trans rfl).trans ((up_id (va_up M 56 (M 56)) (k := 200) (a := (M 200)) rfl).symm.trans rfl)) ((up_id G (k := 5) (a := (G 5)) rfl).symm.trans rfl) rfl)⟩
