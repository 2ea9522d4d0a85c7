set_option maxRecDepth 100000

theorem hd_X7_hangs : yX7_hangs.cls = RX7 ∧ yX7_hangs.cls ≠ "java/lang/invoke/MethodHandle" ∧ yX7_hangs.cls ≠ "java/lang/invoke/VarHandle" ∧ (parseMethodDescriptor yX7_hangs.desc).map (fun d => d.parameters.length) = some 1 := by decide +kernel
abbrev rm_X7_hangs : Room := { frames := 7, cells := 4, slots := 32, locals := 157 }
set_option maxHeartbeats 8000000 in
theorem met_X7_hangs (l : Launch) (E : us_E) (A : Nat → Prop) (B : Nat → Int → Nat) (F : Nat → Int) (M : Nat → Int → Int) (G : Nat → Int → Option Nat) (T : x_T) (aT : Nat) (n : Int) (b : Int → Int) (fr : Int) (to_ : Int) (kd : Int) (vl : Int) (k9 : Int) (n9 : Int) (d9 : Int) (on : Int) (o : Nat) (c_ : Nat) (hn : 0 ≤ n ∧ n ≤ 160) (hT2 : T 2 = some (aT, .inl (E.2 1, n.toNat, .inl (fun j : Nat => zi (b j))))) (hT3 : T 3 = some (o, .inr (6, [.ref aT, .int (zi fr), .int (zi to_), .int (zi kd), .int (zi vl), .ref (B 49 0)]))) (hT4 : T 4 = some (c_, .inr (4, [.int (zi k9), .int (zi n9), .int (zi d9), .int (zi on), .int (zi (-4))]))) (hto : 0 ≤ to_ ∧ to_ ≤ n) (hon : 0 ≤ on ∧ on < 1048576) : cMetX l yX7_hangs cX7_hangs 2 none rm_X7_hangs A E [.ref o, .ref c_] (fun H => XH E A B F M G T H) (qv A (fun H => ∃ qq : Int, ∃ on2 : Int, ∃ fr2 : Int, ∃ to2 : Int, ∃ kd2 : Int, ∃ vl2 : Int, (∀ k : Nat, hang (t8 b) n (M 209) (F 43) (k + 1) to_ on = sel (tk (t8 b) n qq = 4) (hang (t8 b) n (M 209) (F 43) k (tp (t8 b) n qq) on2) (pOk qq on2)) ∧ TokX (t8 b) n qq fr2 to2 kd2 vl2 ∧ (((0 ≤ fr2 ∧ fr2 ≤ n) ∧ (0 ≤ to2 ∧ to2 ≤ n)) ∧ (0 ≤ kd2 ∧ kd2 ≤ 3) ∧ (0 ≤ vl2 ∧ vl2 ≤ 255)) ∧ ((0 ≤ qq ∧ qq ≤ n) ∧ to_ < to2 ∧ (kd2 = 3 → to_ + 2 ≤ to2)) ∧ (0 ≤ on2 ∧ on2 < 1048576) ∧ (XH E A B F M G (va_up (va_up (va_up T 2 (some (aT, .inl (E.2 1, n.toNat, .inl (fun j : Nat => zi (b j)))))) 3 (some (o, .inr (6, [.ref aT, .int (zi fr2), .int (zi to2), .int (zi kd2), .int (zi vl2), .ref (B 49 0)])))) 4 (some (c_, .inr (4, [.int (zi k9), .int (zi n9), .int (zi d9), .int (zi on2), .int (zi (-4))])))) H))) (fun qf En H => En = "UnreadScript$Fault" ∧ ∃ fr2 : Int, ∃ to2 : Int, ∃ kd2 : Int, ∃ vl2 : Int, ∃ on2 : Int, ∃ code : Int, ∃ place : Int, (∀ k : Nat, hang (t8 b) n (M 209) (F 43) (k + 1) to_ on = pBad code place) ∧ ((1 ≤ code ∧ code ≤ 5) ∧ (0 ≤ place ∧ place ≤ n)) ∧ (XH E A B F M G (va_up (va_up (va_up (va_up T 2 (some (aT, .inl (E.2 1, n.toNat, .inl (fun j : Nat => zi (b j)))))) 3 (some (o, .inr (6, [.ref aT, .int (zi fr2), .int (zi to2), .int (zi kd2), .int (zi vl2), .ref (B 49 0)])))) 4 (some (c_, .inr (4, [.int (zi k9), .int (zi n9), .int (zi d9), .int (zi on2), .int (zi (-4))])))) 5 (some (qf, .inr (8, [.null, .null, .null, .null, .null, .int (zi 0), .int (zi code), .int (zi place)])))) H)) := by
  refine cMetX.of (by decide) (Nat.le_of_ble_eq_true rfl) (fun p e s m args below meth c C hnm hnt hX hS ls hl => ?_)
  have C : Cx p s m args meth c A RX7 cX7_hangs 2 none E := C
  have hX : XH E A B F M G T s.heap := hX
  have hl : lv_has ls 2 [(0, .ref o), (1, .ref c_)] := hl
  generalize hH : s.heap = H at hX
  have hS : va_S A s.heap H [] := by rw [← hH]; exact hS
  generalize hlocs : ([] : List Loc) = locs at hS ⊢
  obtain ⟨QQ, hQQ⟩ : ∃ zQQ, vq_MQ below (qv A (fun H => ∃ qq : Int, ∃ on2 : Int, ∃ fr2 : Int, ∃ to2 : Int, ∃ kd2 : Int, ∃ vl2 : Int, (∀ k : Nat, hang (t8 b) n (M 209) (F 43) (k + 1) to_ on = sel (tk (t8 b) n qq = 4) (hang (t8 b) n (M 209) (F 43) k (tp (t8 b) n qq) on2) (pOk qq on2)) ∧ TokX (t8 b) n qq fr2 to2 kd2 vl2 ∧ (((0 ≤ fr2 ∧ fr2 ≤ n) ∧ (0 ≤ to2 ∧ to2 ≤ n)) ∧ (0 ≤ kd2 ∧ kd2 ≤ 3) ∧ (0 ≤ vl2 ∧ vl2 ≤ 255)) ∧ ((0 ≤ qq ∧ qq ≤ n) ∧ to_ < to2 ∧ (kd2 = 3 → to_ + 2 ≤ to2)) ∧ (0 ≤ on2 ∧ on2 < 1048576) ∧ (XH E A B F M G (va_up (va_up (va_up T 2 (some (aT, .inl (E.2 1, n.toNat, .inl (fun j : Nat => zi (b j)))))) 3 (some (o, .inr (6, [.ref aT, .int (zi fr2), .int (zi to2), .int (zi kd2), .int (zi vl2), .ref (B 49 0)])))) 4 (some (c_, .inr (4, [.int (zi k9), .int (zi n9), .int (zi d9), .int (zi on2), .int (zi (-4))])))) H))) (qx A (fun qf En H => En = "UnreadScript$Fault" ∧ ∃ fr2 : Int, ∃ to2 : Int, ∃ kd2 : Int, ∃ vl2 : Int, ∃ on2 : Int, ∃ code : Int, ∃ place : Int, (∀ k : Nat, hang (t8 b) n (M 209) (F 43) (k + 1) to_ on = pBad code place) ∧ ((1 ≤ code ∧ code ≤ 5) ∧ (0 ≤ place ∧ place ≤ n)) ∧ (XH E A B F M G (va_up (va_up (va_up (va_up T 2 (some (aT, .inl (E.2 1, n.toNat, .inl (fun j : Nat => zi (b j)))))) 3 (some (o, .inr (6, [.ref aT, .int (zi fr2), .int (zi to2), .int (zi kd2), .int (zi vl2), .ref (B 49 0)])))) 4 (some (c_, .inr (4, [.int (zi k9), .int (zi n9), .int (zi d9), .int (zi on2), .int (zi (-4))])))) 5 (some (qf, .inr (8, [.null, .null, .null, .null, .null, .int (zi 0), .int (zi code), .int (zi place)])))) H))) args s (rm_X7_hangs).cells (rm_X7_hangs).slots A = zQQ := ⟨_, rfl⟩
  rw [hQQ]
  have rF43 : 0 ≤ F 43 ∧ F 43 ≤ 20 := hX.2.1 43 (0, 20) rfl
  have hX : XH E A B F M G (va_up T 2 (some (aT, .inl (E.2 1, n.toNat, .inl (fun j : Nat => zi (b j)))))) H := hX.to rfl rfl rfl rfl (up_id T hT2).symm
  have hX : XH E A B F M G (va_up (va_up T 2 (some (aT, .inl (E.2 1, n.toNat, .inl (fun j : Nat => zi (b j)))))) 3 (some (o, .inr (6, [.ref aT, .int (zi fr), .int (zi to_), .int (zi kd), .int (zi vl), .ref (B 49 0)])))) H := hX.to rfl rfl rfl rfl ((up_id ((va_up T 2 (some (aT, .inl (E.2 1, n.toNat, .inl (fun j : Nat => zi (b j))))))) (k := 3) (a := some (o, .inr (6, [.ref aT, .int (zi fr), .int (zi to_), .int (zi kd), .int (zi vl), .ref (B 49 0)]))) hT3).symm)
  have hX : XH E A B F M G (va_up (va_up (va_up T 2 (some (aT, .inl (E.2 1, n.toNat, .inl (fun j : Nat => zi (b j)))))) 3 (some (o, .inr (6, [.ref aT, .int (zi fr), .int (zi to_), .int (zi kd), .int (zi vl), .ref (B 49 0)])))) 4 (some (c_, .inr (4, [.int (zi k9), .int (zi n9), .int (zi d9), .int (zi on), .int (zi (-4))])))) H := hX.to rfl rfl rfl rfl ((up_id ((va_up (va_up T 2 (some (aT, .inl (E.2 1, n.toNat, .inl (fun j : Nat => zi (b j)))))) 3 (some (o, .inr (6, [.ref aT, .int (zi fr), .int (zi to_), .int (zi kd), .int (zi vl), .ref (B 49 0)]))))) (k := 4) (a := some (c_, .inr (4, [.int (zi k9), .int (zi n9), .int (zi d9), .int (zi on), .int (zi (-4))]))) hT4).symm)
  refine lv_aload_n C.x C.b dX7_hangs_0 rfl (lv_at hl 0 rfl) ?_
  refine rx_callVv (As := []) (rest := []) (cells' := 1) (slots' := 8) C (met_X7_next l E A B F M G (va_up (va_up (va_up T 2 (some (aT, .inl (E.2 1, n.toNat, .inl (fun j : Nat => zi (b j)))))) 3 (some (o, .inr (6, [.ref aT, .int (zi fr), .int (zi to_), .int (zi kd), .int (zi vl), .ref (B 49 0)])))) 4 (some (c_, .inr (4, [.int (zi k9), .int (zi n9), .int (zi d9), .int (zi on), .int (zi (-4))])))) aT n b fr to_ kd vl o (show 0 ≤ n ∧ n ≤ 160 from (by omega)) rfl rfl (show 0 ≤ to_ ∧ to_ ≤ n from (by omega))) (lw_V q442 q444 qs30 q105 q445) hd_X7_next rfl (by decide) (x_trecv C hX (j := 3) (by decide) rfl (ci := 6) (q := (RX7, TX7, 6)) rfl) hX hS hl.1 rfl (Nat.le_of_ble_eq_true rfl) dX7_hangs_1 rfl rfl ⟨Nat.le_of_ble_eq_true rfl, Nat.le_of_ble_eq_true rfl⟩ (fun En ce q9 H locs hp hS hx1 hx2 hx3 => ?_) (fun H locs hp hS => ?_)
  · obtain ⟨hEn, xfr2_1, xto2_2, xkd2_3, xvl2_4, xhbad, hX⟩ := hp
    subst hEn
    replace xhbad : ¬ te (t8 b) n to_ = 0 := xhbad
    have hX : XH E A B F M G (va_up (va_up (va_up (va_up T 2 (some (aT, .inl (E.2 1, n.toNat, .inl (fun j : Nat => zi (b j)))))) 3 (some (o, .inr (6, [.ref aT, .int (zi xfr2_1), .int (zi xto2_2), .int (zi xkd2_3), .int (zi xvl2_4), .ref ((B 49) 0)])))) 4 (some (c_, .inr (4, [.int (zi k9), .int (zi n9), .int (zi d9), .int (zi on), .int (zi (-4))])))) 5 (some (q9, .inr (8, [.null, .null, .null, .null, .null, .int (zi 0), .int (zi 1), .int (zi (tf (t8 b) n to_))])))) H := hX.to rfl rfl rfl rfl ((congrArg (fun z : x_T => va_up z 5 (some (q9, .inr (8, [.null, .null, .null, .null, .null, .int (zi 0), .int (zi 1), .int (zi (tf (t8 b) n to_))])))) ((congrArg (fun z : x_T => va_up z 3 (some (o, .inr (6, [.ref aT, .int (zi xfr2_1), .int (zi xto2_2), .int (zi xkd2_3), .int (zi xvl2_4), .ref ((B 49) 0)])))) (up_in (by decide) (up_in (by decide) (up_up _ _ _ _)))).trans (up_in (by decide) (up_up _ _ _ _)))).trans rfl)
    have tb := (tok_b (t8_r b) (p := to_) (n := n) ⟨by omega, by omega⟩)
    rw [← hQQ]
    exact r_xout C hnt hS (Nat.le_of_ble_eq_true rfl) (Nat.le_of_ble_eq_true rfl) hx1 hx2 hx3 ⟨rfl, xfr2_1, xto2_2, xkd2_3, xvl2_4, on, 1, (tf (t8 b) n to_), (fun k => sel_t xhbad), (by first | rfl | assumption | omega), hX⟩
  obtain ⟨fr1, to1, kd1, vl1, hxa, hbd1, hX⟩ := hp
  replace hxa : TokX (t8 b) n to_ fr1 to1 kd1 vl1 := hxa
  replace hbd1 : (0 ≤ fr1 ∧ fr1 ≤ n) ∧ (to_ ≤ to1 ∧ to1 ≤ n) ∧ (0 ≤ kd1 ∧ kd1 ≤ 3) ∧ (0 ≤ vl1 ∧ vl1 ≤ 255) := hbd1
  have hX : XH E A B F M G (va_up (va_up (va_up T 2 (some (aT, .inl (E.2 1, n.toNat, .inl (fun j : Nat => zi (b j)))))) 3 (some (o, .inr (6, [.ref aT, .int (zi fr1), .int (zi to1), .int (zi kd1), .int (zi vl1), .ref ((B 49) 0)])))) 4 (some (c_, .inr (4, [.int (zi k9), .int (zi n9), .int (zi d9), .int (zi on), .int (zi (-4))])))) H := hX.to rfl rfl rfl rfl ((congrArg (fun z : x_T => va_up z 3 (some (o, .inr (6, [.ref aT, .int (zi fr1), .int (zi to1), .int (zi kd1), .int (zi vl1), .ref ((B 49) 0)])))) (up_in (by decide) (up_in (by decide) (up_up _ _ _ _)))).trans (up_in (by decide) (up_up _ _ _ _)))
  have ad1 := hxa.adv hto
  refine lv_aload_n C.x C.b dX7_hangs_4 rfl (lv_at hl 0 rfl) ?_
  refine lv_aload_n C.x C.b dX7_hangs_5 rfl (lv_at hl 0 rfl) ?_
  refine x_tog C hX 3 (by decide) (fs := [.ref aT, .int (zi fr1), .int (zi to1), .int (zi kd1), .int (zi vl1), .ref (B 49 0)]) (ci := 6) rfl in_X7 rfl 3 (by decide) q606 (fun _ h => h) rfl dX7_hangs_6 ?_
  refine r_const C dX7_hangs_9 ?_
  have J18_5 : ∀ (t1 : Int) (ht1 : t1 = bI (kd1 = 2)) (H : Heap) (locs : List Loc) (ls : Array Slot) (hX : XH E A B F M G (va_up (va_up (va_up T 2 (some (aT, .inl (E.2 1, n.toNat, .inl (fun j : Nat => zi (b j)))))) 3 (some (o, .inr (6, [.ref aT, .int (zi fr1), .int (zi to1), .int (zi kd1), .int (zi vl1), .ref ((B 49) 0)])))) 4 (some (c_, .inr (4, [.int (zi k9), .int (zi n9), .int (zi d9), .int (zi on), .int (zi (-4))])))) H) (hS : va_S A s.heap H locs) (hl : lv_has ls 2 [(0, .ref o), (1, .ref c_)]), W p l e rm_X7_hangs s m args below meth c H locs 1 8 QQ (F0 m 18 ls [.int (zi t1), .ref o]) := by
    intro t1 ht1 H locs ls hX hS hl
    subst ht1
    refine r_const C dX7_hangs_18 ?_
    refine rx_callVv (As := [.int (zi (bI (kd1 = 2))), .int (zi 2)]) (rest := []) (cells' := 2) (slots' := 16) C (met_X7_must l E A B F M G (va_up (va_up (va_up T 2 (some (aT, .inl (E.2 1, n.toNat, .inl (fun j : Nat => zi (b j)))))) 3 (some (o, .inr (6, [.ref aT, .int (zi fr1), .int (zi to1), .int (zi kd1), .int (zi vl1), .ref ((B 49) 0)])))) 4 (some (c_, .inr (4, [.int (zi k9), .int (zi n9), .int (zi d9), .int (zi on), .int (zi (-4))])))) aT n b fr1 to1 kd1 vl1 o (kd1 = 2) 2 (show 0 ≤ n ∧ n ≤ 160 from (by omega)) rfl rfl (show -2147483648 ≤ (2 : Int) ∧ (2 : Int) < 2147483648 from (by omega)) (show 0 ≤ fr1 ∧ fr1 ≤ 160 from (by omega))) (lw_V q507 q509 qs33 q105 q510) hd_X7_must rfl (by decide) (x_trecv C hX (j := 3) (by decide) rfl (ci := 6) (q := (RX7, TX7, 6)) rfl) hX hS hl.1 rfl (Nat.le_of_ble_eq_true rfl) dX7_hangs_19 rfl rfl ⟨Nat.le_of_ble_eq_true rfl, Nat.le_of_ble_eq_true rfl⟩ (fun En ce q9 H locs hp hS hx1 hx2 hx3 => ?_) (fun H locs hp hS => ?_)
    · obtain ⟨hEn, xhng, hX⟩ := hp
      subst hEn
      replace xhng : ¬ (kd1 = 2) := xhng
      have hX : XH E A B F M G (va_up (va_up (va_up (va_up T 2 (some (aT, .inl (E.2 1, n.toNat, .inl (fun j : Nat => zi (b j)))))) 3 (some (o, .inr (6, [.ref aT, .int (zi fr1), .int (zi to1), .int (zi kd1), .int (zi vl1), .ref ((B 49) 0)])))) 4 (some (c_, .inr (4, [.int (zi k9), .int (zi n9), .int (zi d9), .int (zi on), .int (zi (-4))])))) 5 (some (q9, .inr (8, [.null, .null, .null, .null, .null, .int (zi 0), .int (zi (2 : Int)), .int (zi fr1)])))) H := hX.to rfl rfl rfl rfl ((congrArg (fun z : x_T => va_up z 5 (some (q9, .inr (8, [.null, .null, .null, .null, .null, .int (zi 0), .int (zi (2 : Int)), .int (zi fr1)])))) ((congrArg (fun z : x_T => va_up z 3 (some (o, .inr (6, [.ref aT, .int (zi fr1), .int (zi to1), .int (zi kd1), .int (zi vl1), .ref ((B 49) 0)])))) (up_in (by decide) (up_in (by decide) (up_up _ _ _ _)))).trans (up_in (by decide) (up_up _ _ _ _)))).trans rfl)
      rw [← hQQ]
      exact r_xout C hnt hS (Nat.le_of_ble_eq_true rfl) (Nat.le_of_ble_eq_true rfl) hx1 hx2 hx3 ⟨rfl, fr1, to1, kd1, vl1, on, 2, fr1, (fun k => (hang_x hxa k).1 xhng), (by first | rfl | assumption | omega), hX⟩
    obtain ⟨hg1, hX⟩ := hp
    replace hg1 : (kd1 = 2) := hg1
    refine lv_aload_n C.x C.b dX7_hangs_22 rfl (lv_at hl 0 rfl) ?_
    refine lv_aload_n C.x C.b dX7_hangs_23 rfl (lv_at hl 0 rfl) ?_
    refine x_tog C hX 3 (by decide) (fs := [.ref aT, .int (zi fr1), .int (zi to1), .int (zi kd1), .int (zi vl1), .ref (B 49 0)]) (ci := 6) rfl in_X7 rfl 4 (by decide) q607 (fun _ h => h) rfl dX7_hangs_24 ?_
    refine r_i2l C (by omega) dX7_hangs_27 ?_
    refine r_lconst C 0 rfl dX7_hangs_28 ?_
    refine lv_aload_n C.x C.b dX7_hangs_29 rfl (lv_at hl 0 rfl) ?_
    refine x_tog C hX 3 (by decide) (fs := [.ref aT, .int (zi fr1), .int (zi to1), .int (zi kd1), .int (zi vl1), .ref (B 49 0)]) (ci := 6) rfl in_X7 rfl 5 (by decide) q608 (fun _ h => h) rfl dX7_hangs_30 ?_
    refine x_giN C hX 43 (by decide) rfl (List.mem_of_getElem? (i := 18) rfl) (fun _ h => h) (F 43) rfl (b := (0, 20)) rfl dX7_hangs_33 (fun _ => ?_)
    refine r_const C dX7_hangs_36 ?_
    refine r_isub C dX7_hangs_37 ?_
    refine r_i2l C (by omega) dX7_hangs_38 ?_
    refine r_callNSi (As := [.long (zl vl1), .long (zl 0), .long (zl ((F 43) - 1))]) (rest := [.ref o]) (cells' := 2) (slots' := 16) C (met_X0_isIn l E A H vl1 0 ((F 43) - 1) (show -9223372036854775808 ≤ vl1 ∧ vl1 < 9223372036854775808 from (by omega)) (show -9223372036854775808 ≤ (0 : Int) ∧ (0 : Int) < 9223372036854775808 from (by omega)) (show -9223372036854775808 ≤ ((F 43) - 1) ∧ ((F 43) - 1) < 9223372036854775808 from (by omega))) q119 q86 (List.mem_of_getElem? (i := 11) rfl) q118 hd_X0_isIn rfl (by decide) rfl hS hl.1 rfl (Nat.le_of_ble_eq_true rfl) dX7_hangs_39 rfl rfl ⟨Nat.le_of_ble_eq_true rfl, Nat.le_of_ble_eq_true rfl⟩ (fun rr H locs hp hS => ?_)
    obtain ⟨hrr, hH⟩ := hp
    have hrr : rr = bI ((0 : Int) ≤ vl1 ∧ vl1 ≤ ((F 43) - 1)) := hrr
    subst hrr
    have hX : XH E A B F M G (va_up (va_up (va_up T 2 (some (aT, .inl (E.2 1, n.toNat, .inl (fun j : Nat => zi (b j)))))) 3 (some (o, .inr (6, [.ref aT, .int (zi fr1), .int (zi to1), .int (zi kd1), .int (zi vl1), .ref ((B 49) 0)])))) 4 (some (c_, .inr (4, [.int (zi k9), .int (zi n9), .int (zi d9), .int (zi on), .int (zi (-4))])))) H := by rw [hH]; exact hX
    have J84_6 : ∀ (t1 : Int) (ht1 : t1 = bI (((0 : Int) ≤ vl1 ∧ vl1 ≤ ((F 43) - 1)) ∧ (((M 209 vl1) = (-4)) ∧ (((on / 2 ^ vl1.toNat) % 2) = 0)))) (H : Heap) (locs : List Loc) (ls : Array Slot) (hX : XH E A B F M G (va_up (va_up (va_up T 2 (some (aT, .inl (E.2 1, n.toNat, .inl (fun j : Nat => zi (b j)))))) 3 (some (o, .inr (6, [.ref aT, .int (zi fr1), .int (zi to1), .int (zi kd1), .int (zi vl1), .ref ((B 49) 0)])))) 4 (some (c_, .inr (4, [.int (zi k9), .int (zi n9), .int (zi d9), .int (zi on), .int (zi (-4))])))) H) (hS : va_S A s.heap H locs) (hl : lv_has ls 2 [(0, .ref o), (1, .ref c_)]), W p l e rm_X7_hangs s m args below meth c H locs 2 16 QQ (F0 m 84 ls [.int (zi t1), .ref o]) := by
      intro t1 ht1 H locs ls hX hS hl
      subst ht1
      refine r_const C dX7_hangs_84 ?_
      refine rx_callVv (As := [.int (zi (bI (((0 : Int) ≤ vl1 ∧ vl1 ≤ ((F 43) - 1)) ∧ (((M 209 vl1) = (-4)) ∧ (((on / 2 ^ vl1.toNat) % 2) = 0))))), .int (zi 3)]) (rest := []) (cells' := 3) (slots' := 24) C (met_X7_must l E A B F M G (va_up (va_up (va_up T 2 (some (aT, .inl (E.2 1, n.toNat, .inl (fun j : Nat => zi (b j)))))) 3 (some (o, .inr (6, [.ref aT, .int (zi fr1), .int (zi to1), .int (zi kd1), .int (zi vl1), .ref ((B 49) 0)])))) 4 (some (c_, .inr (4, [.int (zi k9), .int (zi n9), .int (zi d9), .int (zi on), .int (zi (-4))])))) aT n b fr1 to1 kd1 vl1 o (((0 : Int) ≤ vl1 ∧ vl1 ≤ ((F 43) - 1)) ∧ (((M 209 vl1) = (-4)) ∧ (((on / 2 ^ vl1.toNat) % 2) = 0))) 3 (show 0 ≤ n ∧ n ≤ 160 from (by omega)) rfl rfl (show -2147483648 ≤ (3 : Int) ∧ (3 : Int) < 2147483648 from (by omega)) (show 0 ≤ fr1 ∧ fr1 ≤ 160 from (by omega))) (lw_V q507 q509 qs33 q105 q510) hd_X7_must rfl (by decide) (x_trecv C hX (j := 3) (by decide) rfl (ci := 6) (q := (RX7, TX7, 6)) rfl) hX hS hl.1 rfl (Nat.le_of_ble_eq_true rfl) dX7_hangs_85 rfl rfl ⟨Nat.le_of_ble_eq_true rfl, Nat.le_of_ble_eq_true rfl⟩ (fun En ce q9 H locs hp hS hx1 hx2 hx3 => ?_) (fun H locs hp hS => ?_)
      · obtain ⟨hEn, xhng, hX⟩ := hp
        subst hEn
        replace xhng : ¬ (((0 : Int) ≤ vl1 ∧ vl1 ≤ ((F 43) - 1)) ∧ (((M 209 vl1) = (-4)) ∧ (((on / 2 ^ vl1.toNat) % 2) = 0))) := xhng
        have hX : XH E A B F M G (va_up (va_up (va_up (va_up T 2 (some (aT, .inl (E.2 1, n.toNat, .inl (fun j : Nat => zi (b j)))))) 3 (some (o, .inr (6, [.ref aT, .int (zi fr1), .int (zi to1), .int (zi kd1), .int (zi vl1), .ref ((B 49) 0)])))) 4 (some (c_, .inr (4, [.int (zi k9), .int (zi n9), .int (zi d9), .int (zi on), .int (zi (-4))])))) 5 (some (q9, .inr (8, [.null, .null, .null, .null, .null, .int (zi 0), .int (zi (3 : Int)), .int (zi fr1)])))) H := hX.to rfl rfl rfl rfl ((congrArg (fun z : x_T => va_up z 5 (some (q9, .inr (8, [.null, .null, .null, .null, .null, .int (zi 0), .int (zi (3 : Int)), .int (zi fr1)])))) ((congrArg (fun z : x_T => va_up z 3 (some (o, .inr (6, [.ref aT, .int (zi fr1), .int (zi to1), .int (zi kd1), .int (zi vl1), .ref ((B 49) 0)])))) (up_in (by decide) (up_in (by decide) (up_up _ _ _ _)))).trans (up_in (by decide) (up_up _ _ _ _)))).trans rfl)
        rw [← hQQ]
        exact r_xout C hnt hS (Nat.le_of_ble_eq_true rfl) (Nat.le_of_ble_eq_true rfl) hx1 hx2 hx3 ⟨rfl, fr1, to1, kd1, vl1, on, 3, fr1, (fun k => (hang_x hxa k).2.1 hg1 (by omega)), (by first | rfl | assumption | omega), hX⟩
      obtain ⟨hg2, hX⟩ := hp
      replace hg2 : (((0 : Int) ≤ vl1 ∧ vl1 ≤ ((F 43) - 1)) ∧ (((M 209 vl1) = (-4)) ∧ (((on / 2 ^ vl1.toNat) % 2) = 0))) := hg2
      have hc3 : ((vl1 < F 43 ∧ M 209 vl1 = -4) ∧ on / 2 ^ vl1.toNat % 2 = 0) ∧ 0 ≤ vl1 := by omega
      have hp2 := p2_19 (k := vl1) ⟨by omega, by omega⟩
      refine lv_aload_n C.x C.b dX7_hangs_88 rfl (lv_at hl 1 rfl) ?_
      refine lv_dup C.x C.b dX7_hangs_89 rfl ?_
      refine x_togN C hX 4 (by decide) (fs := [.int (zi k9), .int (zi n9), .int (zi d9), .int (zi on), .int (zi (-4))]) (ci := 4) rfl in_X9 rfl 3 (by decide) (List.mem_of_getElem? (i := 15) rfl) (fun _ h => h) rfl dX7_hangs_90 ?_
      refine r_const C dX7_hangs_93 ?_
      refine lv_aload_n C.x C.b dX7_hangs_94 rfl (lv_at hl 0 rfl) ?_
      refine x_tog C hX 3 (by decide) (fs := [.ref aT, .int (zi fr1), .int (zi to1), .int (zi kd1), .int (zi vl1), .ref (B 49 0)]) (ci := 6) rfl in_X7 rfl 4 (by decide) q607 (fun _ h => h) rfl dX7_hangs_95 ?_
      refine r_ishl C (by omega) (by omega) rfl dX7_hangs_98 ?_
      refine r_ior (v := oo on (1 * 2 ^ vl1.toNat)) C (zi_or (by omega) (by omega)) dX7_hangs_99 ?_
      refine x_topN C hX hS 4 (by decide) (fs := [.int (zi k9), .int (zi n9), .int (zi d9), .int (zi on), .int (zi (-4))]) (ci := 4) rfl in_X9 rfl tyX9 tyX9_ok nmX9 3 (by decide) (List.mem_of_getElem? (i := 15) rfl) (fun _ h => h) rfl rfl rfl (by show 3 < 5; decide) (T' := (va_up (va_up (va_up T 2 (some (aT, .inl (E.2 1, n.toNat, .inl (fun j : Nat => zi (b j)))))) 3 (some (o, .inr (6, [.ref aT, .int (zi fr1), .int (zi to1), .int (zi kd1), .int (zi vl1), .ref ((B 49) 0)])))) 4 (some (c_, .inr (4, [.int (zi k9), .int (zi n9), .int (zi d9), .int (zi (oo on (1 * 2 ^ vl1.toNat))), .int (zi (-4))]))))) (up_up _ _ _ _) dX7_hangs_100 (fun H locs hX hS => ?_)
      refine lv_aload_n C.x C.b dX7_hangs_103 rfl (lv_at hl 0 rfl) ?_
      refine rx_callVv (As := []) (rest := []) (cells' := 4) (slots' := 32) C (met_X7_next l E A B F M G (va_up (va_up (va_up T 2 (some (aT, .inl (E.2 1, n.toNat, .inl (fun j : Nat => zi (b j)))))) 3 (some (o, .inr (6, [.ref aT, .int (zi fr1), .int (zi to1), .int (zi kd1), .int (zi vl1), .ref ((B 49) 0)])))) 4 (some (c_, .inr (4, [.int (zi k9), .int (zi n9), .int (zi d9), .int (zi (oo on (1 * 2 ^ vl1.toNat))), .int (zi (-4))])))) aT n b fr1 to1 kd1 vl1 o (show 0 ≤ n ∧ n ≤ 160 from (by omega)) rfl rfl (show 0 ≤ to1 ∧ to1 ≤ n from (by omega))) (lw_V q442 q444 qs30 q105 q445) hd_X7_next rfl (by decide) (x_trecv C hX (j := 3) (by decide) rfl (ci := 6) (q := (RX7, TX7, 6)) rfl) hX hS hl.1 rfl (Nat.le_of_ble_eq_true rfl) dX7_hangs_104 rfl rfl ⟨Nat.le_of_ble_eq_true rfl, Nat.le_of_ble_eq_true rfl⟩ (fun En ce q9 H locs hp hS hx1 hx2 hx3 => ?_) (fun H locs hp hS => ?_)
      · obtain ⟨hEn, xfr2_7, xto2_8, xkd2_9, xvl2_10, xhbad, hX⟩ := hp
        subst hEn
        replace xhbad : ¬ te (t8 b) n to1 = 0 := xhbad
        have hX : XH E A B F M G (va_up (va_up (va_up (va_up T 2 (some (aT, .inl (E.2 1, n.toNat, .inl (fun j : Nat => zi (b j)))))) 3 (some (o, .inr (6, [.ref aT, .int (zi xfr2_7), .int (zi xto2_8), .int (zi xkd2_9), .int (zi xvl2_10), .ref ((B 49) 0)])))) 4 (some (c_, .inr (4, [.int (zi k9), .int (zi n9), .int (zi d9), .int (zi (oo on (1 * 2 ^ vl1.toNat))), .int (zi (-4))])))) 5 (some (q9, .inr (8, [.null, .null, .null, .null, .null, .int (zi 0), .int (zi 1), .int (zi (tf (t8 b) n to1))])))) H := hX.to rfl rfl rfl rfl ((congrArg (fun z : x_T => va_up z 5 (some (q9, .inr (8, [.null, .null, .null, .null, .null, .int (zi 0), .int (zi 1), .int (zi (tf (t8 b) n to1))])))) ((congrArg (fun z : x_T => va_up z 3 (some (o, .inr (6, [.ref aT, .int (zi xfr2_7), .int (zi xto2_8), .int (zi xkd2_9), .int (zi xvl2_10), .ref ((B 49) 0)])))) (up_in (by decide) (up_in (by decide) (up_up _ _ _ _)))).trans (up_in (by decide) (up_up _ _ _ _)))).trans rfl)
        have tb := (tok_b (t8_r b) (p := to1) (n := n) ⟨by omega, by omega⟩)
        rw [← hQQ]
        exact r_xout C hnt hS (Nat.le_of_ble_eq_true rfl) (Nat.le_of_ble_eq_true rfl) hx1 hx2 hx3 ⟨rfl, xfr2_7, xto2_8, xkd2_9, xvl2_10, (oo on (1 * 2 ^ vl1.toNat)), 1, (tf (t8 b) n to1), (fun k => ((hang_x hxa k).2.2 hg1 hc3.1).1 xhbad), (by first | rfl | assumption | omega), hX⟩
      obtain ⟨fr3, to3, kd3, vl3, hxb, hbd3, hX⟩ := hp
      replace hxb : TokX (t8 b) n to1 fr3 to3 kd3 vl3 := hxb
      replace hbd3 : (0 ≤ fr3 ∧ fr3 ≤ n) ∧ (to1 ≤ to3 ∧ to3 ≤ n) ∧ (0 ≤ kd3 ∧ kd3 ≤ 3) ∧ (0 ≤ vl3 ∧ vl3 ≤ 255) := hbd3
      have hX : XH E A B F M G (va_up (va_up (va_up T 2 (some (aT, .inl (E.2 1, n.toNat, .inl (fun j : Nat => zi (b j)))))) 3 (some (o, .inr (6, [.ref aT, .int (zi fr3), .int (zi to3), .int (zi kd3), .int (zi vl3), .ref ((B 49) 0)])))) 4 (some (c_, .inr (4, [.int (zi k9), .int (zi n9), .int (zi d9), .int (zi (oo on (1 * 2 ^ vl1.toNat))), .int (zi (-4))])))) H := hX.to rfl rfl rfl rfl ((congrArg (fun z : x_T => va_up z 3 (some (o, .inr (6, [.ref aT, .int (zi fr3), .int (zi to3), .int (zi kd3), .int (zi vl3), .ref ((B 49) 0)])))) (up_in (by decide) (up_in (by decide) (up_up _ _ _ _)))).trans (up_in (by decide) (up_up _ _ _ _)))
      have ad3 := hxb.adv (show 0 ≤ to1 ∧ to1 ≤ n by omega)
      have hh9 : ∀ k : Nat, hang (t8 b) n (M 209) (F 43) (k + 1) to_ on = sel (tk (t8 b) n to1 = 4) (hang (t8 b) n (M 209) (F 43) k (tp (t8 b) n to1) (oo on (1 * 2 ^ vl1.toNat))) (pOk to1 (oo on (1 * 2 ^ vl1.toNat))) := fun k => by rw [oo_bit hon.1 hc3.1.2]; exact ((hang_x hxa k).2.2 hg1 hc3.1).2 hxb.1.1
      rw [← hQQ]
      refine vq_ret ?_
      exact r_vret C hS (Nat.le_of_ble_eq_true rfl) (Nat.le_of_ble_eq_true rfl) dX7_hangs_107 ⟨to1, (oo on (1 * 2 ^ vl1.toNat)), fr3, to3, kd3, vl3, hh9, hxb, (by first | rfl | assumption | exact (sel_t (by omega)).symm | exact (sel_f (by omega)).symm | omega), ⟨by omega, by omega, fun z => by have := ad3.2.2.2 (by omega); omega⟩, (oo_20 hon ⟨by omega, by omega⟩), hX⟩
    refine r_if_eq_b (tgt := 83) C dX7_hangs_42 (by decide) (fun c_11 => ?_) (fun c_11 => ?_)
    · refine r_const C dX7_hangs_83 ?_
      exact J84_6 0 ((bI_f (fun q => c_11 q.1)).symm) H locs ls hX hS hl
    · refine lv_aload_n C.x C.b dX7_hangs_45 rfl (lv_at hl 0 rfl) ?_
      refine x_tog C hX 3 (by decide) (fs := [.ref aT, .int (zi fr1), .int (zi to1), .int (zi kd1), .int (zi vl1), .ref (B 49 0)]) (ci := 6) rfl in_X7 rfl 5 (by decide) q608 (fun _ h => h) rfl dX7_hangs_46 ?_
      refine x_gaN C hX 42 (by decide) rfl (List.mem_of_getElem? (i := 17) rfl) (fun _ h => h) dX7_hangs_49 ?_
      refine lv_aload_n C.x C.b dX7_hangs_52 rfl (lv_at hl 0 rfl) ?_
      refine x_tog C hX 3 (by decide) (fs := [.ref aT, .int (zi fr1), .int (zi to1), .int (zi kd1), .int (zi vl1), .ref (B 49 0)]) (ci := 6) rfl in_X7 rfl 4 (by decide) q607 (fun _ h => h) rfl dX7_hangs_53 ?_
      refine x_la C hX 42 rfl rfl rfl (by decide) rfl rfl (show 0 ≤ vl1 ∧ vl1 < F 43 from (by omega)) (by omega) (by decide) dX7_hangs_56 ?_
      refine x_goN C hX 59 (by decide) (show 0 ≤ vl1 ∧ vl1 < F 43 from (by omega)).1 (xK_59 (show 0 ≤ vl1 ∧ vl1 < F 43 from (by omega))) rfl in_X9 4 (by decide) (List.mem_of_getElem? (i := 16) rfl) (fun _ h => h) (.int (zi (M 209 vl1))) rfl dX7_hangs_57 ?_
      have r57 : -4 ≤ M 209 vl1 ∧ M 209 vl1 ≤ 99 := hX.2.2.1 209 (-4, 99) rfl _
      refine r_bipush C (by decide) dX7_hangs_60 ?_
      refine r_icmp_ne (tgt := 83) C (by omega) (by decide) dX7_hangs_62 (by decide) (fun c_12 => ?_) (fun c_12 => ?_)
      · refine r_const C dX7_hangs_83 ?_
        exact J84_6 0 ((bI_f (fun q => (fun q => c_12 q.1) q.2)).symm) H locs ls hX hS hl
      · refine lv_aload_n C.x C.b dX7_hangs_65 rfl (lv_at hl 1 rfl) ?_
        refine x_togN C hX 4 (by decide) (fs := [.int (zi k9), .int (zi n9), .int (zi d9), .int (zi on), .int (zi (-4))]) (ci := 4) rfl in_X9 rfl 3 (by decide) (List.mem_of_getElem? (i := 15) rfl) (fun _ h => h) rfl dX7_hangs_66 ?_
        refine lv_aload_n C.x C.b dX7_hangs_69 rfl (lv_at hl 0 rfl) ?_
        refine x_tog C hX 3 (by decide) (fs := [.ref aT, .int (zi fr1), .int (zi to1), .int (zi kd1), .int (zi vl1), .ref (B 49 0)]) (ci := 6) rfl in_X7 rfl 4 (by decide) q607 (fun _ h => h) rfl dX7_hangs_70 ?_
        refine r_ishr C (by omega) (by omega) rfl dX7_hangs_73 ?_
        refine r_const C dX7_hangs_74 ?_
        refine r_iand C (zi_and1 _) dX7_hangs_75 ?_
        refine r_if_ne (tgt := 83) C (by omega) dX7_hangs_76 (by decide) (fun c_13 => ?_) (fun c_13 => ?_)
        · refine r_const C dX7_hangs_83 ?_
          exact J84_6 0 ((bI_f (fun q => (fun q => c_13 q.2) q.2)).symm) H locs ls hX hS hl
        · refine r_const C dX7_hangs_79 ?_
          refine lv_goto (tgt := 84) C.x C.b dX7_hangs_80 (by decide) ?_
          exact J84_6 1 ((bI_t ⟨c_11, ⟨c_12, c_13⟩⟩).symm) H locs ls hX hS hl
  refine r_icmp_ne (tgt := 17) C (by omega) (by decide) dX7_hangs_10 (by decide) (fun c_14 => ?_) (fun c_14 => ?_)
  · refine r_const C dX7_hangs_17 ?_
    exact J18_5 0 ((bI_f c_14).symm) H locs ls hX hS hl
  · refine r_const C dX7_hangs_13 ?_
    refine lv_goto (tgt := 18) C.x C.b dX7_hangs_14 (by decide) ?_
    exact J18_5 1 ((bI_t c_14).symm) H locs ls hX hS hl

theorem hd_X7_init : yX7_init.cls = RX7 ∧ yX7_init.cls ≠ "java/lang/invoke/MethodHandle" ∧ yX7_init.cls ≠ "java/lang/invoke/VarHandle" ∧ (parseMethodDescriptor yX7_init.desc).map (fun d => d.parameters.length) = some 2 := by decide +kernel
abbrev rm_X7_init : Room := { frames := 7, cells := 1, slots := 8, locals := 157 }
set_option maxHeartbeats 8000000 in
theorem met_X7_init (l : Launch) (E : us_E) (A : Nat → Prop) (B : Nat → Int → Nat) (F : Nat → Int) (M : Nat → Int → Int) (G : Nat → Int → Option Nat) (T : x_T) (n : Int) (b : Int → Int) (o : Nat) (aT : Nat) (hn : 0 ≤ n ∧ n ≤ 160) (hT2 : T 2 = some (aT, .inl (E.2 1, n.toNat, .inl (fun j : Nat => zi (b j))))) (hT3 : T 3 = some (o, .inr (6, [.null, .int (zi 0), .int (zi 0), .int (zi 0), .int (zi 0), .null]))) : cMetX l yX7_init cX7_init 3 none rm_X7_init A E [.ref o, .ref (B 49 0), .ref aT] (fun H => XH E A B F M G T H) (qv A (fun H => ∃ fr2 : Int, ∃ to2 : Int, ∃ kd2 : Int, ∃ vl2 : Int, TokX (t8 b) n 0 fr2 to2 kd2 vl2 ∧ (((0 ≤ fr2 ∧ fr2 ≤ n) ∧ (0 ≤ to2 ∧ to2 ≤ n)) ∧ (0 ≤ kd2 ∧ kd2 ≤ 3) ∧ (0 ≤ vl2 ∧ vl2 ≤ 255)) ∧ (XH E A B F M G (va_up (va_up T 2 (some (aT, .inl (E.2 1, n.toNat, .inl (fun j : Nat => zi (b j)))))) 3 (some (o, .inr (6, [.ref aT, .int (zi fr2), .int (zi to2), .int (zi kd2), .int (zi vl2), .ref (B 49 0)])))) H))) (fun qf En H => En = "UnreadScript$Fault" ∧ ∃ fr2 : Int, ∃ to2 : Int, ∃ kd2 : Int, ∃ vl2 : Int, ∃ code : Int, ∃ place : Int, (¬ te (t8 b) n 0 = 0 ∧ code = 1 ∧ place = tf (t8 b) n 0) ∧ ((1 ≤ code ∧ code ≤ 5) ∧ (0 ≤ place ∧ place ≤ n)) ∧ (XH E A B F M G (va_up (va_up (va_up T 2 (some (aT, .inl (E.2 1, n.toNat, .inl (fun j : Nat => zi (b j)))))) 3 (some (o, .inr (6, [.ref aT, .int (zi fr2), .int (zi to2), .int (zi kd2), .int (zi vl2), .ref (B 49 0)])))) 5 (some (qf, .inr (8, [.null, .null, .null, .null, .null, .int (zi 0), .int (zi code), .int (zi place)])))) H)) := by
  refine cMetX.of (by decide) (Nat.le_of_ble_eq_true rfl) (fun p e s m args below meth c C hnm hnt hX hS ls hl => ?_)
  have C : Cx p s m args meth c A RX7 cX7_init 3 none E := C
  have hX : XH E A B F M G T s.heap := hX
  have hl : lv_has ls 3 [(0, .ref o), (1, .ref (B 49 0)), (2, .ref aT)] := hl
  generalize hH : s.heap = H at hX
  have hS : va_S A s.heap H [] := by rw [← hH]; exact hS
  generalize hlocs : ([] : List Loc) = locs at hS ⊢
  obtain ⟨QQ, hQQ⟩ : ∃ zQQ, vq_MQ below (qv A (fun H => ∃ fr2 : Int, ∃ to2 : Int, ∃ kd2 : Int, ∃ vl2 : Int, TokX (t8 b) n 0 fr2 to2 kd2 vl2 ∧ (((0 ≤ fr2 ∧ fr2 ≤ n) ∧ (0 ≤ to2 ∧ to2 ≤ n)) ∧ (0 ≤ kd2 ∧ kd2 ≤ 3) ∧ (0 ≤ vl2 ∧ vl2 ≤ 255)) ∧ (XH E A B F M G (va_up (va_up T 2 (some (aT, .inl (E.2 1, n.toNat, .inl (fun j : Nat => zi (b j)))))) 3 (some (o, .inr (6, [.ref aT, .int (zi fr2), .int (zi to2), .int (zi kd2), .int (zi vl2), .ref (B 49 0)])))) H))) (qx A (fun qf En H => En = "UnreadScript$Fault" ∧ ∃ fr2 : Int, ∃ to2 : Int, ∃ kd2 : Int, ∃ vl2 : Int, ∃ code : Int, ∃ place : Int, (¬ te (t8 b) n 0 = 0 ∧ code = 1 ∧ place = tf (t8 b) n 0) ∧ ((1 ≤ code ∧ code ≤ 5) ∧ (0 ≤ place ∧ place ≤ n)) ∧ (XH E A B F M G (va_up (va_up (va_up T 2 (some (aT, .inl (E.2 1, n.toNat, .inl (fun j : Nat => zi (b j)))))) 3 (some (o, .inr (6, [.ref aT, .int (zi fr2), .int (zi to2), .int (zi kd2), .int (zi vl2), .ref (B 49 0)])))) 5 (some (qf, .inr (8, [.null, .null, .null, .null, .null, .int (zi 0), .int (zi code), .int (zi place)])))) H))) args s (rm_X7_init).cells (rm_X7_init).slots A = zQQ := ⟨_, rfl⟩
  rw [hQQ]
  have hX : XH E A B F M G (va_up T 2 (some (aT, .inl (E.2 1, n.toNat, .inl (fun j : Nat => zi (b j)))))) H := hX.to rfl rfl rfl rfl (up_id T hT2).symm
  have hX : XH E A B F M G (va_up (va_up T 2 (some (aT, .inl (E.2 1, n.toNat, .inl (fun j : Nat => zi (b j)))))) 3 (some (o, .inr (6, [.null, .int (zi 0), .int (zi 0), .int (zi 0), .int (zi 0), .null])))) H := hX.to rfl rfl rfl rfl ((up_id ((va_up T 2 (some (aT, .inl (E.2 1, n.toNat, .inl (fun j : Nat => zi (b j))))))) (k := 3) (a := some (o, .inr (6, [.null, .int (zi 0), .int (zi 0), .int (zi 0), .int (zi 0), .null]))) hT3).symm)
  refine lv_aload_n C.x C.b dX7_init_0 rfl (lv_at hl 0 rfl) ?_
  refine lv_aload_n C.x C.b dX7_init_1 rfl (lv_at hl 1 rfl) ?_
  refine x_topF C hX hS 3 (by decide) (fs := [.null, .int (zi 0), .int (zi 0), .int (zi 0), .int (zi 0), .null]) (ci := 6) rfl in_X7 rfl tyX7 tyX7_ok nmX7 5 (by decide) q608 (fun _ h => h) rfl hnm rfl rfl rfl (by show 5 < 6; decide) (T' := (va_up (va_up T 2 (some (aT, .inl (E.2 1, n.toNat, .inl (fun j : Nat => zi (b j)))))) 3 (some (o, .inr (6, [.null, .int (zi 0), .int (zi 0), .int (zi 0), .int (zi 0), .ref (B 49 0)]))))) (up_up _ _ _ _) dX7_init_2 (fun H locs hX hS => ?_)
  refine lv_aload_n C.x C.b dX7_init_5 rfl (lv_at hl 0 rfl) ?_
  refine r_obj C hl.1 q441 (Nat.le_of_ble_eq_true rfl) (by decide) dX7_init_6 ?_
  refine lv_aload_n C.x C.b dX7_init_9 rfl (lv_at hl 0 rfl) ?_
  refine lv_aload_n C.x C.b dX7_init_10 rfl (lv_at hl 2 rfl) ?_
  refine x_topF C hX hS 3 (by decide) (fs := [.null, .int (zi 0), .int (zi 0), .int (zi 0), .int (zi 0), .ref (B 49 0)]) (ci := 6) rfl in_X7 rfl tyX7 tyX7_ok nmX7 0 (by decide) q603 (fun _ h => h) rfl hnm rfl rfl rfl (by show 0 < 6; decide) (T' := (va_up (va_up T 2 (some (aT, .inl (E.2 1, n.toNat, .inl (fun j : Nat => zi (b j)))))) 3 (some (o, .inr (6, [.ref aT, .int (zi 0), .int (zi 0), .int (zi 0), .int (zi 0), .ref (B 49 0)]))))) (up_up _ _ _ _) dX7_init_11 (fun H locs hX hS => ?_)
  refine lv_aload_n C.x C.b dX7_init_14 rfl (lv_at hl 0 rfl) ?_
  refine rx_callVv (As := []) (rest := []) (cells' := 1) (slots' := 8) C (met_X7_next l E A B F M G (va_up (va_up T 2 (some (aT, .inl (E.2 1, n.toNat, .inl (fun j : Nat => zi (b j)))))) 3 (some (o, .inr (6, [.ref aT, .int (zi 0), .int (zi 0), .int (zi 0), .int (zi 0), .ref (B 49 0)])))) aT n b 0 0 0 0 o (show 0 ≤ n ∧ n ≤ 160 from (by omega)) rfl rfl (show 0 ≤ (0 : Int) ∧ (0 : Int) ≤ n from (by omega))) (lw_V q442 q444 qs30 q105 q445) hd_X7_next rfl (by decide) (x_trecv C hX (j := 3) (by decide) rfl (ci := 6) (q := (RX7, TX7, 6)) rfl) hX hS hl.1 rfl (Nat.le_of_ble_eq_true rfl) dX7_init_15 rfl rfl ⟨Nat.le_of_ble_eq_true rfl, Nat.le_of_ble_eq_true rfl⟩ (fun En ce q9 H locs hp hS hx1 hx2 hx3 => ?_) (fun H locs hp hS => ?_)
  · obtain ⟨hEn, xfr2_1, xto2_2, xkd2_3, xvl2_4, xhbad, hX⟩ := hp
    subst hEn
    replace xhbad : ¬ te (t8 b) n (0 : Int) = 0 := xhbad
    have hX : XH E A B F M G (va_up (va_up (va_up T 2 (some (aT, .inl (E.2 1, n.toNat, .inl (fun j : Nat => zi (b j)))))) 3 (some (o, .inr (6, [.ref aT, .int (zi xfr2_1), .int (zi xto2_2), .int (zi xkd2_3), .int (zi xvl2_4), .ref ((B 49) 0)])))) 5 (some (q9, .inr (8, [.null, .null, .null, .null, .null, .int (zi 0), .int (zi 1), .int (zi (tf (t8 b) n (0 : Int)))])))) H := hX.to rfl rfl rfl rfl ((congrArg (fun z : x_T => va_up z 5 (some (q9, .inr (8, [.null, .null, .null, .null, .null, .int (zi 0), .int (zi 1), .int (zi (tf (t8 b) n (0 : Int)))])))) ((congrArg (fun z : x_T => va_up z 3 (some (o, .inr (6, [.ref aT, .int (zi xfr2_1), .int (zi xto2_2), .int (zi xkd2_3), .int (zi xvl2_4), .ref ((B 49) 0)])))) (up_in (by decide) (up_up _ _ _ _))).trans (up_up _ _ _ _))).trans rfl)
    have tb := (tok_b (t8_r b) (p := 0) (n := n) ⟨by omega, by omega⟩)
    rw [← hQQ]
    exact r_xout C hnt hS (Nat.le_of_ble_eq_true rfl) (Nat.le_of_ble_eq_true rfl) hx1 hx2 hx3 ⟨rfl, xfr2_1, xto2_2, xkd2_3, xvl2_4, 1, (tf (t8 b) n 0), ⟨xhbad, rfl, rfl⟩, (by first | rfl | assumption | omega), hX⟩
  obtain ⟨fr1, to1, kd1, vl1, hxa, hbd1, hX⟩ := hp
  replace hxa : TokX (t8 b) n (0 : Int) fr1 to1 kd1 vl1 := hxa
  replace hbd1 : (0 ≤ fr1 ∧ fr1 ≤ n) ∧ ((0 : Int) ≤ to1 ∧ to1 ≤ n) ∧ (0 ≤ kd1 ∧ kd1 ≤ 3) ∧ (0 ≤ vl1 ∧ vl1 ≤ 255) := hbd1
  have hX : XH E A B F M G (va_up (va_up T 2 (some (aT, .inl (E.2 1, n.toNat, .inl (fun j : Nat => zi (b j)))))) 3 (some (o, .inr (6, [.ref aT, .int (zi fr1), .int (zi to1), .int (zi kd1), .int (zi vl1), .ref ((B 49) 0)])))) H := hX.to rfl rfl rfl rfl ((congrArg (fun z : x_T => va_up z 3 (some (o, .inr (6, [.ref aT, .int (zi fr1), .int (zi to1), .int (zi kd1), .int (zi vl1), .ref ((B 49) 0)])))) (up_in (by decide) (up_up _ _ _ _))).trans (up_up _ _ _ _))
  rw [← hQQ]
  refine vq_ret ?_
  exact r_vret C hS (Nat.le_of_ble_eq_true rfl) (Nat.le_of_ble_eq_true rfl) dX7_init_18 ⟨fr1, to1, kd1, vl1, hxa, (by first | rfl | assumption | exact (sel_t (by omega)).symm | exact (sel_f (by omega)).symm | omega), hX⟩
