set_option maxRecDepth 100000

theorem hd_X7_next : yX7_next.cls = RX7 ∧ yX7_next.cls ≠ "java/lang/invoke/MethodHandle" ∧ yX7_next.cls ≠ "java/lang/invoke/VarHandle" ∧ (parseMethodDescriptor yX7_next.desc).map (fun d => d.parameters.length) = some 0 := by decide +kernel
abbrev rm_X7_next : Room := { frames := 6, cells := 1, slots := 8, locals := 136 }
set_option maxHeartbeats 8000000 in
theorem met_X7_next (l : Launch) (E : us_E) (A : Nat → Prop) (B : Nat → Int → Nat) (F : Nat → Int) (M : Nat → Int → Int) (G : Nat → Int → Option Nat) (T : x_T) (aT : Nat) (n : Int) (b : Int → Int) (fr : Int) (to_ : Int) (kd : Int) (vl : Int) (o : Nat) (hn : 0 ≤ n ∧ n ≤ 160) (hT2 : T 2 = some (aT, .inl (E.2 1, n.toNat, .inl (fun j : Nat => zi (b j))))) (hT3 : T 3 = some (o, .inr (6, [.ref aT, .int (zi fr), .int (zi to_), .int (zi kd), .int (zi vl), .ref (B 49 0)]))) (hto : 0 ≤ to_ ∧ to_ ≤ n) : cMetX l yX7_next cX7_next 2 none rm_X7_next A E [.ref o] (fun H => XH E A B F M G T H) (qv A (fun H => ∃ fr2 : Int, ∃ to2 : Int, ∃ kd2 : Int, ∃ vl2 : Int, TokX (t8 b) n to_ fr2 to2 kd2 vl2 ∧ ((0 ≤ fr2 ∧ fr2 ≤ n) ∧ (to_ ≤ to2 ∧ to2 ≤ n) ∧ (0 ≤ kd2 ∧ kd2 ≤ 3) ∧ (0 ≤ vl2 ∧ vl2 ≤ 255)) ∧ (XH E A B F M G (va_up (va_up T 2 (some (aT, .inl (E.2 1, n.toNat, .inl (fun j : Nat => zi (b j)))))) 3 (some (o, .inr (6, [.ref aT, .int (zi fr2), .int (zi to2), .int (zi kd2), .int (zi vl2), .ref (B 49 0)])))) H))) (fun qf En H => En = "UnreadScript$Fault" ∧ ∃ fr2 : Int, ∃ to2 : Int, ∃ kd2 : Int, ∃ vl2 : Int, (¬ te (t8 b) n to_ = 0) ∧ (XH E A B F M G (va_up (va_up (va_up T 2 (some (aT, .inl (E.2 1, n.toNat, .inl (fun j : Nat => zi (b j)))))) 3 (some (o, .inr (6, [.ref aT, .int (zi fr2), .int (zi to2), .int (zi kd2), .int (zi vl2), .ref (B 49 0)])))) 5 (some (qf, .inr (8, [.null, .null, .null, .null, .null, .int (zi 0), .int (zi 1), .int (zi (tf (t8 b) n to_))])))) H)) := by
  refine cMetX.of (by decide) (Nat.le_of_ble_eq_true rfl) (fun p e s m args below meth c C hnm hnt hX hS ls hl => ?_)
  have C : Cx p s m args meth c A RX7 cX7_next 2 none E := C
  have hX : XH E A B F M G T s.heap := hX
  have hl : lv_has ls 2 [(0, .ref o)] := hl
  generalize hH : s.heap = H at hX
  have hS : va_S A s.heap H [] := by rw [← hH]; exact hS
  generalize hlocs : ([] : List Loc) = locs at hS ⊢
  obtain ⟨QQ, hQQ⟩ : ∃ zQQ, vq_MQ below (qv A (fun H => ∃ fr2 : Int, ∃ to2 : Int, ∃ kd2 : Int, ∃ vl2 : Int, TokX (t8 b) n to_ fr2 to2 kd2 vl2 ∧ ((0 ≤ fr2 ∧ fr2 ≤ n) ∧ (to_ ≤ to2 ∧ to2 ≤ n) ∧ (0 ≤ kd2 ∧ kd2 ≤ 3) ∧ (0 ≤ vl2 ∧ vl2 ≤ 255)) ∧ (XH E A B F M G (va_up (va_up T 2 (some (aT, .inl (E.2 1, n.toNat, .inl (fun j : Nat => zi (b j)))))) 3 (some (o, .inr (6, [.ref aT, .int (zi fr2), .int (zi to2), .int (zi kd2), .int (zi vl2), .ref (B 49 0)])))) H))) (qx A (fun qf En H => En = "UnreadScript$Fault" ∧ ∃ fr2 : Int, ∃ to2 : Int, ∃ kd2 : Int, ∃ vl2 : Int, (¬ te (t8 b) n to_ = 0) ∧ (XH E A B F M G (va_up (va_up (va_up T 2 (some (aT, .inl (E.2 1, n.toNat, .inl (fun j : Nat => zi (b j)))))) 3 (some (o, .inr (6, [.ref aT, .int (zi fr2), .int (zi to2), .int (zi kd2), .int (zi vl2), .ref (B 49 0)])))) 5 (some (qf, .inr (8, [.null, .null, .null, .null, .null, .int (zi 0), .int (zi 1), .int (zi (tf (t8 b) n to_))])))) H))) args s (rm_X7_next).cells (rm_X7_next).slots A = zQQ := ⟨_, rfl⟩
  rw [hQQ]
  have hX : XH E A B F M G (va_up T 2 (some (aT, .inl (E.2 1, n.toNat, .inl (fun j : Nat => zi (b j)))))) H := hX.to rfl rfl rfl rfl (up_id T hT2).symm
  have hX : XH E A B F M G (va_up (va_up T 2 (some (aT, .inl (E.2 1, n.toNat, .inl (fun j : Nat => zi (b j)))))) 3 (some (o, .inr (6, [.ref aT, .int (zi fr), .int (zi to_), .int (zi kd), .int (zi vl), .ref (B 49 0)])))) H := hX.to rfl rfl rfl rfl ((up_id ((va_up T 2 (some (aT, .inl (E.2 1, n.toNat, .inl (fun j : Nat => zi (b j))))))) (k := 3) (a := some (o, .inr (6, [.ref aT, .int (zi fr), .int (zi to_), .int (zi kd), .int (zi vl), .ref (B 49 0)]))) hT3).symm)
  refine lv_aload_n C.x C.b dX7_next_0 rfl (lv_at hl 0 rfl) ?_
  refine lv_aload_n C.x C.b dX7_next_1 rfl (lv_at hl 0 rfl) ?_
  refine x_tog C hX 3 (by decide) (fs := [.ref aT, .int (zi fr), .int (zi to_), .int (zi kd), .int (zi vl), .ref (B 49 0)]) (ci := 6) rfl in_X7 rfl 2 (by decide) q605 (fun _ h => h) rfl dX7_next_2 ?_
  refine x_top C hX hS 3 (by decide) (fs := [.ref aT, .int (zi fr), .int (zi to_), .int (zi kd), .int (zi vl), .ref (B 49 0)]) (ci := 6) rfl in_X7 rfl tyX7 tyX7_ok nmX7 1 (by decide) q604 (fun _ h => h) rfl rfl rfl (by show 1 < 6; decide) (T' := (va_up (va_up T 2 (some (aT, .inl (E.2 1, n.toNat, .inl (fun j : Nat => zi (b j)))))) 3 (some (o, .inr (6, [.ref aT, .int (zi to_), .int (zi to_), .int (zi kd), .int (zi vl), .ref (B 49 0)]))))) (up_up _ _ _ _) dX7_next_5 (fun H locs hX hS => ?_)
  have L8 : ∀ (fu : Nat) (w1 : Int) (h1 : to_ ≤ w1 ∧ w1 ≤ n) (hsp : ∀ j : Int, to_ ≤ j → j < w1 → isSp (lk (t8 b) n j)) (hm : Int.toNat (n - w1) < fu) (H : Heap) (locs : List Loc) (ls : Array Slot) (hX : XH E A B F M G (va_up (va_up T 2 (some (aT, .inl (E.2 1, n.toNat, .inl (fun j : Nat => zi (b j)))))) 3 (some (o, .inr (6, [.ref aT, .int (zi w1), .int (zi to_), .int (zi kd), .int (zi vl), .ref (B 49 0)])))) H) (hS : va_S A s.heap H locs) (hl : lv_has ls 2 [(0, .ref o)]), W p l e rm_X7_next s m args below meth c H locs 0 0 QQ (F0 m 8 ls []) := by
    intro fu
    induction fu with
    | zero => intro w1 h1 hsp hm; exact absurd hm (Nat.not_lt_zero _)
    | succ fu ih8 =>
      intro w1 h1 hsp hm H locs ls hX hS hl
      refine lv_aload_n C.x C.b dX7_next_8 rfl (lv_at hl 0 rfl) ?_
      refine lv_aload_n C.x C.b dX7_next_9 rfl (lv_at hl 0 rfl) ?_
      refine x_tog C hX 3 (by decide) (fs := [.ref aT, .int (zi w1), .int (zi to_), .int (zi kd), .int (zi vl), .ref (B 49 0)]) (ci := 6) rfl in_X7 rfl 1 (by decide) q604 (fun _ h => h) rfl dX7_next_10 ?_
      have hlc := lkx_c b n w1
      refine r_callVi (As := [.int (zi w1)]) (rest := []) (cells' := 0) (slots' := 0) C (met_X7_at l E A B F M G (va_up (va_up T 2 (some (aT, .inl (E.2 1, n.toNat, .inl (fun j : Nat => zi (b j)))))) 3 (some (o, .inr (6, [.ref aT, .int (zi w1), .int (zi to_), .int (zi kd), .int (zi vl), .ref (B 49 0)])))) aT n b w1 to_ kd vl o w1 (show 0 ≤ n ∧ n ≤ 160 from (by omega)) rfl rfl (show 0 ≤ w1 ∧ w1 < 2147483648 from (by omega))) (lw_V q446 q448 qs31 q105 q449) hd_X7_at rfl (by decide) (x_trecv C hX (j := 3) (by decide) rfl (ci := 6) (q := (RX7, TX7, 6)) rfl) hX hS hl.1 rfl (Nat.le_of_ble_eq_true rfl) dX7_next_13 rfl rfl ⟨Nat.le_of_ble_eq_true rfl, Nat.le_of_ble_eq_true rfl⟩ (fun rr H locs hp hS => ?_)
      obtain ⟨hlx, hrr, hX⟩ := hp
      have hrr : rr = lkx b n w1 := hrr
      subst hrr
      replace hlx : -4 ≤ lkx b n w1 ∧ lkx b n w1 ≤ 255 := hlx
      refine r_bipush C (by decide) dX7_next_16 ?_
      refine r_icmp_ne (tgt := 34) C (by omega) (by decide) dX7_next_18 (by decide) (fun c_1 => ?_) (fun c_1 => ?_)
      · have etf : w1 = (tf (t8 b) n to_) := IsRn.eq ⟨h1.1, hsp, fun q => by unfold isSp at q; omega⟩
        refine lv_aload_n C.x C.b dX7_next_34 rfl (lv_at hl 0 rfl) ?_
        refine lv_aload_n C.x C.b dX7_next_35 rfl (lv_at hl 0 rfl) ?_
        refine x_tog C hX 3 (by decide) (fs := [.ref aT, .int (zi w1), .int (zi to_), .int (zi kd), .int (zi vl), .ref (B 49 0)]) (ci := 6) rfl in_X7 rfl 1 (by decide) q604 (fun _ h => h) rfl dX7_next_36 ?_
        refine r_callVi (As := [.int (zi w1)]) (rest := []) (cells' := 0) (slots' := 0) C (met_X7_at l E A B F M G (va_up (va_up T 2 (some (aT, .inl (E.2 1, n.toNat, .inl (fun j : Nat => zi (b j)))))) 3 (some (o, .inr (6, [.ref aT, .int (zi w1), .int (zi to_), .int (zi kd), .int (zi vl), .ref (B 49 0)])))) aT n b w1 to_ kd vl o w1 (show 0 ≤ n ∧ n ≤ 160 from (by omega)) rfl rfl (show 0 ≤ w1 ∧ w1 < 2147483648 from (by omega))) (lw_V q446 q448 qs31 q105 q449) hd_X7_at rfl (by decide) (x_trecv C hX (j := 3) (by decide) rfl (ci := 6) (q := (RX7, TX7, 6)) rfl) hX hS hl.1 rfl (Nat.le_of_ble_eq_true rfl) dX7_next_39 rfl rfl ⟨Nat.le_of_ble_eq_true rfl, Nat.le_of_ble_eq_true rfl⟩ (fun rr H locs hp hS => ?_)
        obtain ⟨hlx, hrr, hX⟩ := hp
        have hrr : rr = lkx b n w1 := hrr
        subst hrr
        replace hlx : -4 ≤ lkx b n w1 ∧ lkx b n w1 ≤ 255 := hlx
        have hc1 : tc1 (t8 b) n to_ = lk (t8 b) n w1 := by unfold tc1; rw [← etf]
        refine lv_istore_n (lv' := [(1, .int (zi (lkx b n w1))), (0, .ref o)]) C.x C.b dX7_next_42 rfl hl (by decide) rfl (fun ls hl => ?_)
        refine lv_aload_n C.x C.b dX7_next_43 rfl (lv_at hl 1 rfl) ?_
        refine lv_aload_n C.x C.b dX7_next_44 rfl (lv_at hl 1 rfl) ?_
        refine x_tog C hX 3 (by decide) (fs := [.ref aT, .int (zi w1), .int (zi to_), .int (zi kd), .int (zi vl), .ref (B 49 0)]) (ci := 6) rfl in_X7 rfl 1 (by decide) q604 (fun _ h => h) rfl dX7_next_45 ?_
        refine r_const C dX7_next_48 ?_
        refine r_iadd C dX7_next_49 ?_
        refine x_top C hX hS 3 (by decide) (fs := [.ref aT, .int (zi w1), .int (zi to_), .int (zi kd), .int (zi vl), .ref (B 49 0)]) (ci := 6) rfl in_X7 rfl tyX7 tyX7_ok nmX7 2 (by decide) q605 (fun _ h => h) rfl rfl rfl (by show 2 < 6; decide) (T' := (va_up (va_up T 2 (some (aT, .inl (E.2 1, n.toNat, .inl (fun j : Nat => zi (b j)))))) 3 (some (o, .inr (6, [.ref aT, .int (zi w1), .int (zi (w1 + 1)), .int (zi kd), .int (zi vl), .ref (B 49 0)]))))) (up_up _ _ _ _) dX7_next_50 (fun H locs hX hS => ?_)
        refine lv_aload_n C.x C.b dX7_next_53 rfl (lv_at hl 1 rfl) ?_
        refine r_const C dX7_next_54 ?_
        refine x_top C hX hS 3 (by decide) (fs := [.ref aT, .int (zi w1), .int (zi (w1 + 1)), .int (zi kd), .int (zi vl), .ref (B 49 0)]) (ci := 6) rfl in_X7 rfl tyX7 tyX7_ok nmX7 4 (by decide) q607 (fun _ h => h) rfl rfl rfl (by show 4 < 6; decide) (T' := (va_up (va_up T 2 (some (aT, .inl (E.2 1, n.toNat, .inl (fun j : Nat => zi (b j)))))) 3 (some (o, .inr (6, [.ref aT, .int (zi w1), .int (zi (w1 + 1)), .int (zi kd), .int (zi 0), .ref (B 49 0)]))))) (up_up _ _ _ _) dX7_next_55 (fun H locs hX hS => ?_)
        refine lv_iload_n C.x C.b dX7_next_58 rfl (lv_at hl 0 rfl) ?_
        refine r_bipush C (by decide) dX7_next_59 ?_
        refine r_icmp_ne (tgt := 80) C (by omega) (by decide) dX7_next_61 (by decide) (fun c_2 => ?_) (fun c_2 => ?_)
        · refine lv_iload_n C.x C.b dX7_next_80 rfl (lv_at hl 0 rfl) ?_
          refine r_i2l C (by omega) dX7_next_81 ?_
          refine r_ldc2 C 97 (by decide) q450 dX7_next_82 ?_
          refine r_ldc2 C 122 (by decide) q451 dX7_next_85 ?_
          refine r_callNSi (As := [.long (zl (lkx b n w1)), .long (zl 97), .long (zl 122)]) (rest := []) (cells' := 0) (slots' := 0) C (met_X0_isIn l E A H (lkx b n w1) 97 122 (show -9223372036854775808 ≤ (lkx b n w1) ∧ (lkx b n w1) < 9223372036854775808 from (by omega)) (show -9223372036854775808 ≤ (97 : Int) ∧ (97 : Int) < 9223372036854775808 from (by omega)) (show -9223372036854775808 ≤ (122 : Int) ∧ (122 : Int) < 9223372036854775808 from (by omega))) q119 q86 (List.mem_of_getElem? (i := 11) rfl) q118 hd_X0_isIn rfl (by decide) rfl hS hl.1 rfl (Nat.le_of_ble_eq_true rfl) dX7_next_88 rfl rfl ⟨Nat.le_of_ble_eq_true rfl, Nat.le_of_ble_eq_true rfl⟩ (fun rr H locs hp hS => ?_)
          obtain ⟨hrr, hH⟩ := hp
          have hrr : rr = bI ((97 : Int) ≤ (lkx b n w1) ∧ (lkx b n w1) ≤ (122 : Int)) := hrr
          subst hrr
          have hX : XH E A B F M G (va_up (va_up T 2 (some (aT, .inl (E.2 1, n.toNat, .inl (fun j : Nat => zi (b j)))))) 3 (some (o, .inr (6, [.ref aT, .int (zi w1), .int (zi (w1 + 1)), .int (zi kd), .int (zi 0), .ref (B 49 0)])))) H := by rw [hH]; exact hX
          refine r_if_eq_b (tgt := 196) C dX7_next_91 (by decide) (fun c_3 => ?_) (fun c_3 => ?_)
          · refine lv_iload_n C.x C.b dX7_next_196 rfl (lv_at hl 0 rfl) ?_
            refine r_i2l C (by omega) dX7_next_197 ?_
            refine r_ldc2 C 48 (by decide) q601 dX7_next_198 ?_
            refine r_ldc2 C 57 (by decide) q602 dX7_next_201 ?_
            refine r_callNSi (As := [.long (zl (lkx b n w1)), .long (zl 48), .long (zl 57)]) (rest := []) (cells' := 0) (slots' := 0) C (met_X0_isIn l E A H (lkx b n w1) 48 57 (show -9223372036854775808 ≤ (lkx b n w1) ∧ (lkx b n w1) < 9223372036854775808 from (by omega)) (show -9223372036854775808 ≤ (48 : Int) ∧ (48 : Int) < 9223372036854775808 from (by omega)) (show -9223372036854775808 ≤ (57 : Int) ∧ (57 : Int) < 9223372036854775808 from (by omega))) q119 q86 (List.mem_of_getElem? (i := 11) rfl) q118 hd_X0_isIn rfl (by decide) rfl hS hl.1 rfl (Nat.le_of_ble_eq_true rfl) dX7_next_204 rfl rfl ⟨Nat.le_of_ble_eq_true rfl, Nat.le_of_ble_eq_true rfl⟩ (fun rr H locs hp hS => ?_)
            obtain ⟨hrr, hH⟩ := hp
            have hrr : rr = bI ((48 : Int) ≤ (lkx b n w1) ∧ (lkx b n w1) ≤ (57 : Int)) := hrr
            subst hrr
            have hX : XH E A B F M G (va_up (va_up T 2 (some (aT, .inl (E.2 1, n.toNat, .inl (fun j : Nat => zi (b j)))))) 3 (some (o, .inr (6, [.ref aT, .int (zi w1), .int (zi (w1 + 1)), .int (zi kd), .int (zi 0), .ref (B 49 0)])))) H := by rw [hH]; exact hX
            refine r_if_eq_b (tgt := 326) C dX7_next_207 (by decide) (fun c_4 => ?_) (fun c_4 => ?_)
            · have htx := tokx_ot (t := t8 b) (n := n) (p := to_) (v := lkx b n w1) (by omega) (fun q => by unfold isLt at q; omega) (fun q => by unfold isDg at q; omega) (by omega)
              have hok_ := htx.1
              have hbad_ := htx.2
              rw [← etf] at hok_
              refine lv_aload_n C.x C.b dX7_next_326 rfl (lv_at hl 1 rfl) ?_
              refine lv_iload_n C.x C.b dX7_next_327 rfl (lv_at hl 0 rfl) ?_
              refine r_bipush C (by decide) dX7_next_328 ?_
              have J344_5 : ∀ (t1 : Int) (ht1 : t1 = bI (((lkx b n w1) = 59) ∨ ((lkx b n w1) = 44))) (H : Heap) (locs : List Loc) (ls : Array Slot) (hX : XH E A B F M G (va_up (va_up T 2 (some (aT, .inl (E.2 1, n.toNat, .inl (fun j : Nat => zi (b j)))))) 3 (some (o, .inr (6, [.ref aT, .int (zi w1), .int (zi (w1 + 1)), .int (zi kd), .int (zi 0), .ref (B 49 0)])))) H) (hS : va_S A s.heap H locs) (hl : lv_has ls 2 [(1, .int (zi (lkx b n w1))), (0, .ref o)]), W p l e rm_X7_next s m args below meth c H locs 0 0 QQ (F0 m 344 ls [.int (zi t1), .ref o]) := by
                intro t1 ht1 H locs ls hX hS hl
                subst ht1
                refine r_const C dX7_next_344 ?_
                refine rx_callVv (As := [.int (zi (bI (((lkx b n w1) = 59) ∨ ((lkx b n w1) = 44)))), .int (zi 1)]) (rest := []) (cells' := 1) (slots' := 8) C (met_X7_must l E A B F M G (va_up (va_up T 2 (some (aT, .inl (E.2 1, n.toNat, .inl (fun j : Nat => zi (b j)))))) 3 (some (o, .inr (6, [.ref aT, .int (zi w1), .int (zi (w1 + 1)), .int (zi kd), .int (zi 0), .ref (B 49 0)])))) aT n b w1 (w1 + 1) kd 0 o (((lkx b n w1) = 59) ∨ ((lkx b n w1) = 44)) 1 (show 0 ≤ n ∧ n ≤ 160 from (by omega)) rfl rfl (show -2147483648 ≤ (1 : Int) ∧ (1 : Int) < 2147483648 from (by omega)) (show 0 ≤ w1 ∧ w1 ≤ 160 from (by omega))) (lw_V q507 q509 qs33 q105 q510) hd_X7_must rfl (by decide) (x_trecv C hX (j := 3) (by decide) rfl (ci := 6) (q := (RX7, TX7, 6)) rfl) hX hS hl.1 rfl (Nat.le_of_ble_eq_true rfl) dX7_next_345 rfl rfl ⟨Nat.le_of_ble_eq_true rfl, Nat.le_of_ble_eq_true rfl⟩ (fun En ce q9 H locs hp hS hx1 hx2 hx3 => ?_) (fun H locs hp hS => ?_)
                · obtain ⟨hEn, xhng, hX⟩ := hp
                  subst hEn
                  replace xhng : ¬ (((lkx b n w1) = 59) ∨ ((lkx b n w1) = 44)) := xhng
                  have hX : XH E A B F M G (va_up (va_up (va_up T 2 (some (aT, .inl (E.2 1, n.toNat, .inl (fun j : Nat => zi (b j)))))) 3 (some (o, .inr (6, [.ref aT, .int (zi w1), .int (zi (w1 + 1)), .int (zi kd), .int (zi (0 : Int)), .ref ((B 49) 0)])))) 5 (some (q9, .inr (8, [.null, .null, .null, .null, .null, .int (zi 0), .int (zi (1 : Int)), .int (zi w1)])))) H := hX.to rfl rfl rfl rfl ((congrArg (fun z : x_T => va_up z 5 (some (q9, .inr (8, [.null, .null, .null, .null, .null, .int (zi 0), .int (zi (1 : Int)), .int (zi w1)])))) ((congrArg (fun z : x_T => va_up z 3 (some (o, .inr (6, [.ref aT, .int (zi w1), .int (zi (w1 + 1)), .int (zi kd), .int (zi (0 : Int)), .ref ((B 49) 0)])))) (up_in (by decide) (up_up _ _ _ _))).trans (up_up _ _ _ _))).trans rfl)
                  rw [← hQQ]
                  exact r_xout C hnt hS (Nat.le_of_ble_eq_true rfl) (Nat.le_of_ble_eq_true rfl) hx1 hx2 hx3 ⟨rfl, w1, (w1 + 1), kd, 0, (hbad_ (by omega)), (by rw [← etf]; exact hX)⟩
                obtain ⟨hg, hX⟩ := hp
                replace hg : (((lkx b n w1) = 59) ∨ ((lkx b n w1) = 44)) := hg
                refine lv_aload_n C.x C.b dX7_next_348 rfl (lv_at hl 1 rfl) ?_
                refine r_const C dX7_next_349 ?_
                refine x_top C hX hS 3 (by decide) (fs := [.ref aT, .int (zi w1), .int (zi (w1 + 1)), .int (zi kd), .int (zi 0), .ref (B 49 0)]) (ci := 6) rfl in_X7 rfl tyX7 tyX7_ok nmX7 3 (by decide) q606 (fun _ h => h) rfl rfl rfl (by show 3 < 6; decide) (T' := (va_up (va_up T 2 (some (aT, .inl (E.2 1, n.toNat, .inl (fun j : Nat => zi (b j)))))) 3 (some (o, .inr (6, [.ref aT, .int (zi w1), .int (zi (w1 + 1)), .int (zi 3), .int (zi 0), .ref (B 49 0)]))))) (up_up _ _ _ _) dX7_next_350 (fun H locs hX hS => ?_)
                refine lv_aload_n C.x C.b dX7_next_353 rfl (lv_at hl 1 rfl) ?_
                refine lv_iload_n C.x C.b dX7_next_354 rfl (lv_at hl 0 rfl) ?_
                refine x_top C hX hS 3 (by decide) (fs := [.ref aT, .int (zi w1), .int (zi (w1 + 1)), .int (zi 3), .int (zi 0), .ref (B 49 0)]) (ci := 6) rfl in_X7 rfl tyX7 tyX7_ok nmX7 4 (by decide) q607 (fun _ h => h) rfl rfl rfl (by show 4 < 6; decide) (T' := (va_up (va_up T 2 (some (aT, .inl (E.2 1, n.toNat, .inl (fun j : Nat => zi (b j)))))) 3 (some (o, .inr (6, [.ref aT, .int (zi w1), .int (zi (w1 + 1)), .int (zi 3), .int (zi (lkx b n w1)), .ref (B 49 0)]))))) (up_up _ _ _ _) dX7_next_355 (fun H locs hX hS => ?_)
                rw [← hQQ]
                refine vq_ret ?_
                exact r_vret C hS (Nat.le_of_ble_eq_true rfl) (Nat.le_of_ble_eq_true rfl) dX7_next_358 ⟨w1, (w1 + 1), 3, (lkx b n w1), (by first | exact hok_ (by omega) | (rw [etf]; exact tokx_end (by omega))), (by omega), hX⟩
              refine r_icmp_eq (tgt := 339) C (by omega) (by decide) dX7_next_330 (by decide) (fun c_6 => ?_) (fun c_6 => ?_)
              · refine r_const C dX7_next_339 ?_
                refine lv_goto (tgt := 344) C.x C.b dX7_next_340 (by decide) ?_
                exact J344_5 1 ((bI_t (Or.inl c_6)).symm) H locs ls hX hS hl
              · refine lv_iload_n C.x C.b dX7_next_333 rfl (lv_at hl 0 rfl) ?_
                refine r_bipush C (by decide) dX7_next_334 ?_
                refine r_icmp_ne (tgt := 343) C (by omega) (by decide) dX7_next_336 (by decide) (fun c_7 => ?_) (fun c_7 => ?_)
                · refine r_const C dX7_next_343 ?_
                  exact J344_5 0 ((bI_f (fun q => q.elim c_6 c_7)).symm) H locs ls hX hS hl
                · refine r_const C dX7_next_339 ?_
                  refine lv_goto (tgt := 344) C.x C.b dX7_next_340 (by decide) ?_
                  exact J344_5 1 ((bI_t (Or.inr c_7)).symm) H locs ls hX hS hl
            · refine lv_aload_n C.x C.b dX7_next_210 rfl (lv_at hl 1 rfl) ?_
              refine lv_aload_n C.x C.b dX7_next_211 rfl (lv_at hl 1 rfl) ?_
              refine x_tog C hX 3 (by decide) (fs := [.ref aT, .int (zi w1), .int (zi (w1 + 1)), .int (zi kd), .int (zi 0), .ref (B 49 0)]) (ci := 6) rfl in_X7 rfl 1 (by decide) q604 (fun _ h => h) rfl dX7_next_212 ?_
              refine x_top C hX hS 3 (by decide) (fs := [.ref aT, .int (zi w1), .int (zi (w1 + 1)), .int (zi kd), .int (zi 0), .ref (B 49 0)]) (ci := 6) rfl in_X7 rfl tyX7 tyX7_ok nmX7 2 (by decide) q605 (fun _ h => h) rfl rfl rfl (by show 2 < 6; decide) (T' := (va_up (va_up T 2 (some (aT, .inl (E.2 1, n.toNat, .inl (fun j : Nat => zi (b j)))))) 3 (some (o, .inr (6, [.ref aT, .int (zi w1), .int (zi w1), .int (zi kd), .int (zi 0), .ref (B 49 0)]))))) (up_up _ _ _ _) dX7_next_215 (fun H locs hX hS => ?_)
              have L218 : ∀ (fu : Nat) (w2 : Int) (w4 : Int) (h2 : w1 ≤ w2 ∧ w2 ≤ n) (hdg : ∀ j : Int, w1 ≤ j → j < w2 → isDg (lk (t8 b) n j)) (hv : w4 = nuv (t8 b) n w1 (w2 - w1)) (hvr : 0 ≤ w4 ∧ w4 ≤ 99) (hm : Int.toNat (n - w2) < fu) (H : Heap) (locs : List Loc) (ls : Array Slot) (hX : XH E A B F M G (va_up (va_up T 2 (some (aT, .inl (E.2 1, n.toNat, .inl (fun j : Nat => zi (b j)))))) 3 (some (o, .inr (6, [.ref aT, .int (zi w1), .int (zi w2), .int (zi kd), .int (zi w4), .ref (B 49 0)])))) H) (hS : va_S A s.heap H locs) (hl : lv_has ls 2 [(0, .ref o), (1, .int (zi (lkx b n w1)))]), W p l e rm_X7_next s m args below meth c H locs 0 0 QQ (F0 m 218 ls []) := by
                intro fu
                induction fu with
                | zero => intro w2 w4 h2 hdg hv hvr hm; exact absurd hm (Nat.not_lt_zero _)
                | succ fu ih218 =>
                  intro w2 w4 h2 hdg hv hvr hm H locs ls hX hS hl
                  refine lv_aload_n C.x C.b dX7_next_218 rfl (lv_at hl 0 rfl) ?_
                  refine lv_aload_n C.x C.b dX7_next_219 rfl (lv_at hl 0 rfl) ?_
                  refine x_tog C hX 3 (by decide) (fs := [.ref aT, .int (zi w1), .int (zi w2), .int (zi kd), .int (zi w4), .ref (B 49 0)]) (ci := 6) rfl in_X7 rfl 2 (by decide) q605 (fun _ h => h) rfl dX7_next_220 ?_
                  have hlc2 := lkx_c b n w2
                  refine r_callVi (As := [.int (zi w2)]) (rest := []) (cells' := 0) (slots' := 0) C (met_X7_at l E A B F M G (va_up (va_up T 2 (some (aT, .inl (E.2 1, n.toNat, .inl (fun j : Nat => zi (b j)))))) 3 (some (o, .inr (6, [.ref aT, .int (zi w1), .int (zi w2), .int (zi kd), .int (zi w4), .ref (B 49 0)])))) aT n b w1 w2 kd w4 o w2 (show 0 ≤ n ∧ n ≤ 160 from (by omega)) rfl rfl (show 0 ≤ w2 ∧ w2 < 2147483648 from (by omega))) (lw_V q446 q448 qs31 q105 q449) hd_X7_at rfl (by decide) (x_trecv C hX (j := 3) (by decide) rfl (ci := 6) (q := (RX7, TX7, 6)) rfl) hX hS hl.1 rfl (Nat.le_of_ble_eq_true rfl) dX7_next_223 rfl rfl ⟨Nat.le_of_ble_eq_true rfl, Nat.le_of_ble_eq_true rfl⟩ (fun rr H locs hp hS => ?_)
                  obtain ⟨hlx, hrr, hX⟩ := hp
                  have hrr : rr = lkx b n w2 := hrr
                  subst hrr
                  replace hlx : -4 ≤ lkx b n w2 ∧ lkx b n w2 ≤ 255 := hlx
                  refine r_i2l C (by omega) dX7_next_226 ?_
                  refine r_ldc2 C 48 (by decide) q601 dX7_next_227 ?_
                  refine r_ldc2 C 57 (by decide) q602 dX7_next_230 ?_
                  refine r_callNSi (As := [.long (zl (lkx b n w2)), .long (zl 48), .long (zl 57)]) (rest := []) (cells' := 0) (slots' := 0) C (met_X0_isIn l E A H (lkx b n w2) 48 57 (show -9223372036854775808 ≤ (lkx b n w2) ∧ (lkx b n w2) < 9223372036854775808 from (by omega)) (show -9223372036854775808 ≤ (48 : Int) ∧ (48 : Int) < 9223372036854775808 from (by omega)) (show -9223372036854775808 ≤ (57 : Int) ∧ (57 : Int) < 9223372036854775808 from (by omega))) q119 q86 (List.mem_of_getElem? (i := 11) rfl) q118 hd_X0_isIn rfl (by decide) rfl hS hl.1 rfl (Nat.le_of_ble_eq_true rfl) dX7_next_233 rfl rfl ⟨Nat.le_of_ble_eq_true rfl, Nat.le_of_ble_eq_true rfl⟩ (fun rr H locs hp hS => ?_)
                  obtain ⟨hrr, hH⟩ := hp
                  have hrr : rr = bI ((48 : Int) ≤ (lkx b n w2) ∧ (lkx b n w2) ≤ (57 : Int)) := hrr
                  subst hrr
                  have hX : XH E A B F M G (va_up (va_up T 2 (some (aT, .inl (E.2 1, n.toNat, .inl (fun j : Nat => zi (b j)))))) 3 (some (o, .inr (6, [.ref aT, .int (zi w1), .int (zi w2), .int (zi kd), .int (zi w4), .ref (B 49 0)])))) H := by rw [hH]; exact hX
                  refine r_if_eq_b (tgt := 295) C dX7_next_236 (by decide) (fun c_8 => ?_) (fun c_8 => ?_)
                  · have erd : w2 = rn isDg (t8 b) n w1 := IsRn.eq ⟨h2.1, hdg, fun q => by unfold isDg at q; omega⟩
                    have htx := tokx_dg (t := t8 b) (n := n) (p := to_) (q := w2) (v := w4) (by omega) (fun q => by unfold isLt at q; omega) (by unfold isDg; omega) (by rw [← etf]; exact erd) (by rw [← etf]; exact hv)
                    have hok_ := htx.1
                    have hbad_ := htx.2
                    rw [← etf] at hok_ hbad_
                    refine lv_aload_n C.x C.b dX7_next_295 rfl (lv_at hl 0 rfl) ?_
                    refine lv_aload_n C.x C.b dX7_next_296 rfl (lv_at hl 0 rfl) ?_
                    refine x_tog C hX 3 (by decide) (fs := [.ref aT, .int (zi w1), .int (zi w2), .int (zi kd), .int (zi w4), .ref (B 49 0)]) (ci := 6) rfl in_X7 rfl 2 (by decide) q605 (fun _ h => h) rfl dX7_next_297 ?_
                    refine lv_aload_n C.x C.b dX7_next_300 rfl (lv_at hl 0 rfl) ?_
                    refine x_tog C hX 3 (by decide) (fs := [.ref aT, .int (zi w1), .int (zi w2), .int (zi kd), .int (zi w4), .ref (B 49 0)]) (ci := 6) rfl in_X7 rfl 1 (by decide) q604 (fun _ h => h) rfl dX7_next_301 ?_
                    refine r_isub C dX7_next_304 ?_
                    refine r_const C dX7_next_305 ?_
                    have J314_9 : ∀ (t1 : Int) (ht1 : t1 = bI (¬ (2 < (w2 - w1)))) (H : Heap) (locs : List Loc) (ls : Array Slot) (hX : XH E A B F M G (va_up (va_up T 2 (some (aT, .inl (E.2 1, n.toNat, .inl (fun j : Nat => zi (b j)))))) 3 (some (o, .inr (6, [.ref aT, .int (zi w1), .int (zi w2), .int (zi kd), .int (zi w4), .ref (B 49 0)])))) H) (hS : va_S A s.heap H locs) (hl : lv_has ls 2 [(0, .ref o), (1, .int (zi (lkx b n w1)))]), W p l e rm_X7_next s m args below meth c H locs 0 0 QQ (F0 m 314 ls [.int (zi t1), .ref o]) := by
                      intro t1 ht1 H locs ls hX hS hl
                      subst ht1
                      refine r_const C dX7_next_314 ?_
                      refine rx_callVv (As := [.int (zi (bI (¬ (2 < (w2 - w1))))), .int (zi 1)]) (rest := []) (cells' := 1) (slots' := 8) C (met_X7_must l E A B F M G (va_up (va_up T 2 (some (aT, .inl (E.2 1, n.toNat, .inl (fun j : Nat => zi (b j)))))) 3 (some (o, .inr (6, [.ref aT, .int (zi w1), .int (zi w2), .int (zi kd), .int (zi w4), .ref (B 49 0)])))) aT n b w1 w2 kd w4 o (¬ (2 < (w2 - w1))) 1 (show 0 ≤ n ∧ n ≤ 160 from (by omega)) rfl rfl (show -2147483648 ≤ (1 : Int) ∧ (1 : Int) < 2147483648 from (by omega)) (show 0 ≤ w1 ∧ w1 ≤ 160 from (by omega))) (lw_V q507 q509 qs33 q105 q510) hd_X7_must rfl (by decide) (x_trecv C hX (j := 3) (by decide) rfl (ci := 6) (q := (RX7, TX7, 6)) rfl) hX hS hl.1 rfl (Nat.le_of_ble_eq_true rfl) dX7_next_315 rfl rfl ⟨Nat.le_of_ble_eq_true rfl, Nat.le_of_ble_eq_true rfl⟩ (fun En ce q9 H locs hp hS hx1 hx2 hx3 => ?_) (fun H locs hp hS => ?_)
                      · obtain ⟨hEn, xhng, hX⟩ := hp
                        subst hEn
                        replace xhng : ¬ (¬ (2 < (w2 - w1))) := xhng
                        have hX : XH E A B F M G (va_up (va_up (va_up T 2 (some (aT, .inl (E.2 1, n.toNat, .inl (fun j : Nat => zi (b j)))))) 3 (some (o, .inr (6, [.ref aT, .int (zi w1), .int (zi w2), .int (zi kd), .int (zi w4), .ref ((B 49) 0)])))) 5 (some (q9, .inr (8, [.null, .null, .null, .null, .null, .int (zi 0), .int (zi (1 : Int)), .int (zi w1)])))) H := hX.to rfl rfl rfl rfl ((congrArg (fun z : x_T => va_up z 5 (some (q9, .inr (8, [.null, .null, .null, .null, .null, .int (zi 0), .int (zi (1 : Int)), .int (zi w1)])))) ((congrArg (fun z : x_T => va_up z 3 (some (o, .inr (6, [.ref aT, .int (zi w1), .int (zi w2), .int (zi kd), .int (zi w4), .ref ((B 49) 0)])))) (up_in (by decide) (up_up _ _ _ _))).trans (up_up _ _ _ _))).trans rfl)
                        rw [← hQQ]
                        exact r_xout C hnt hS (Nat.le_of_ble_eq_true rfl) (Nat.le_of_ble_eq_true rfl) hx1 hx2 hx3 ⟨rfl, w1, w2, kd, w4, (hbad_ (by omega)), (by rw [← etf]; exact hX)⟩
                      obtain ⟨hg, hX⟩ := hp
                      replace hg : (¬ (2 < (w2 - w1))) := hg
                      refine lv_aload_n C.x C.b dX7_next_318 rfl (lv_at hl 0 rfl) ?_
                      refine r_const C dX7_next_319 ?_
                      refine x_top C hX hS 3 (by decide) (fs := [.ref aT, .int (zi w1), .int (zi w2), .int (zi kd), .int (zi w4), .ref (B 49 0)]) (ci := 6) rfl in_X7 rfl tyX7 tyX7_ok nmX7 3 (by decide) q606 (fun _ h => h) rfl rfl rfl (by show 3 < 6; decide) (T' := (va_up (va_up T 2 (some (aT, .inl (E.2 1, n.toNat, .inl (fun j : Nat => zi (b j)))))) 3 (some (o, .inr (6, [.ref aT, .int (zi w1), .int (zi w2), .int (zi 2), .int (zi w4), .ref (B 49 0)]))))) (up_up _ _ _ _) dX7_next_320 (fun H locs hX hS => ?_)
                      refine lv_goto (tgt := 358) C.x C.b dX7_next_323 (by decide) ?_
                      rw [← hQQ]
                      refine vq_ret ?_
                      exact r_vret C hS (Nat.le_of_ble_eq_true rfl) (Nat.le_of_ble_eq_true rfl) dX7_next_358 ⟨w1, w2, 2, w4, (by first | exact hok_ (by omega) | (rw [etf]; exact tokx_end (by omega))), (by omega), hX⟩
                    refine r_icmp_gt (tgt := 313) C (by omega) (by decide) dX7_next_306 (by decide) (fun c_10 => ?_) (fun c_10 => ?_)
                    · refine r_const C dX7_next_313 ?_
                      exact J314_9 0 ((bI_f (fun q => q c_10)).symm) H locs ls hX hS hl
                    · refine r_const C dX7_next_309 ?_
                      refine lv_goto (tgt := 314) C.x C.b dX7_next_310 (by decide) ?_
                      exact J314_9 1 ((bI_t c_10).symm) H locs ls hX hS hl
                  · refine lv_aload_n C.x C.b dX7_next_239 rfl (lv_at hl 0 rfl) ?_
                    refine lv_aload_n C.x C.b dX7_next_240 rfl (lv_at hl 0 rfl) ?_
                    refine x_tog C hX 3 (by decide) (fs := [.ref aT, .int (zi w1), .int (zi w2), .int (zi kd), .int (zi w4), .ref (B 49 0)]) (ci := 6) rfl in_X7 rfl 2 (by decide) q605 (fun _ h => h) rfl dX7_next_241 ?_
                    refine lv_aload_n C.x C.b dX7_next_244 rfl (lv_at hl 0 rfl) ?_
                    refine x_tog C hX 3 (by decide) (fs := [.ref aT, .int (zi w1), .int (zi w2), .int (zi kd), .int (zi w4), .ref (B 49 0)]) (ci := 6) rfl in_X7 rfl 1 (by decide) q604 (fun _ h => h) rfl dX7_next_245 ?_
                    refine r_isub C dX7_next_248 ?_
                    refine r_const C dX7_next_249 ?_
                    have J279_11 : ∀ (t1 : Int) (ht1 : t1 = sel ((w2 - w1) < 2) (((10 * w4) + (lkx b n w2)) - 48) w4) (H : Heap) (locs : List Loc) (ls : Array Slot) (hX : XH E A B F M G (va_up (va_up T 2 (some (aT, .inl (E.2 1, n.toNat, .inl (fun j : Nat => zi (b j)))))) 3 (some (o, .inr (6, [.ref aT, .int (zi w1), .int (zi w2), .int (zi kd), .int (zi w4), .ref (B 49 0)])))) H) (hS : va_S A s.heap H locs) (hl : lv_has ls 2 [(0, .ref o), (1, .int (zi (lkx b n w1)))]), W p l e rm_X7_next s m args below meth c H locs 0 0 QQ (F0 m 279 ls [.int (zi t1), .ref o]) := by
                      intro t1 ht1 H locs ls hX hS hl
                      subst ht1
                      have hst : sel (w2 - w1 < 2) (10 * w4 + lkx b n w2 - 48) w4 = nuv (t8 b) n w1 (w2 + 1 - w1) := by
                        rw [show w2 + 1 - w1 = (w2 - w1) + 1 by omega, nuv_s (by omega), ← hv, show w1 + (w2 - w1) = w2 by omega, show lkx b n w2 = lk (t8 b) n w2 by omega]
                      have hstr : 0 ≤ sel (w2 - w1 < 2) (10 * w4 + lkx b n w2 - 48) w4 ∧ sel (w2 - w1 < 2) (10 * w4 + lkx b n w2 - 48) w4 ≤ 99 := by
                        rw [hst]
                        have := nuv_r (t := (t8 b)) (n := n) (f := w1) (m := w2 + 1 - w1) (by omega) (fun j a c => IsRn.st hdg (show 48 ≤ lk (t8 b) n w2 ∧ lk (t8 b) n w2 ≤ 57 by omega) _ (by omega) (by omega))
                        omega
                      refine x_top C hX hS 3 (by decide) (fs := [.ref aT, .int (zi w1), .int (zi w2), .int (zi kd), .int (zi w4), .ref (B 49 0)]) (ci := 6) rfl in_X7 rfl tyX7 tyX7_ok nmX7 4 (by decide) q607 (fun _ h => h) rfl rfl rfl (by show 4 < 6; decide) (T' := (va_up (va_up T 2 (some (aT, .inl (E.2 1, n.toNat, .inl (fun j : Nat => zi (b j)))))) 3 (some (o, .inr (6, [.ref aT, .int (zi w1), .int (zi w2), .int (zi kd), .int (zi (sel ((w2 - w1) < 2) (((10 * w4) + (lkx b n w2)) - 48) w4)), .ref (B 49 0)]))))) (up_up _ _ _ _) dX7_next_279 (fun H locs hX hS => ?_)
                      refine lv_aload_n C.x C.b dX7_next_282 rfl (lv_at hl 0 rfl) ?_
                      refine lv_dup C.x C.b dX7_next_283 rfl ?_
                      refine x_tog C hX 3 (by decide) (fs := [.ref aT, .int (zi w1), .int (zi w2), .int (zi kd), .int (zi (sel ((w2 - w1) < 2) (((10 * w4) + (lkx b n w2)) - 48) w4)), .ref (B 49 0)]) (ci := 6) rfl in_X7 rfl 2 (by decide) q605 (fun _ h => h) rfl dX7_next_284 ?_
                      refine r_const C dX7_next_287 ?_
                      refine r_iadd C dX7_next_288 ?_
                      refine x_top C hX hS 3 (by decide) (fs := [.ref aT, .int (zi w1), .int (zi w2), .int (zi kd), .int (zi (sel ((w2 - w1) < 2) (((10 * w4) + (lkx b n w2)) - 48) w4)), .ref (B 49 0)]) (ci := 6) rfl in_X7 rfl tyX7 tyX7_ok nmX7 2 (by decide) q605 (fun _ h => h) rfl rfl rfl (by show 2 < 6; decide) (T' := (va_up (va_up T 2 (some (aT, .inl (E.2 1, n.toNat, .inl (fun j : Nat => zi (b j)))))) 3 (some (o, .inr (6, [.ref aT, .int (zi w1), .int (zi (w2 + 1)), .int (zi kd), .int (zi (sel ((w2 - w1) < 2) (((10 * w4) + (lkx b n w2)) - 48) w4)), .ref (B 49 0)]))))) (up_up _ _ _ _) dX7_next_289 (fun H locs hX hS => ?_)
                      refine lv_goto (tgt := 218) C.x C.b dX7_next_292 (by decide) ?_
                      exact ih218 (w2 + 1) (sel ((w2 - w1) < 2) (((10 * w4) + (lkx b n w2)) - 48) w4) (by omega) (IsRn.st hdg (show 48 ≤ lk (t8 b) n w2 ∧ lk (t8 b) n w2 ≤ 57 by omega)) hst hstr (by omega) H locs ls hX hS hl
                    refine r_icmp_ge (tgt := 275) C (by omega) (by decide) dX7_next_250 (by decide) (fun c_12 => ?_) (fun c_12 => ?_)
                    · refine lv_aload_n C.x C.b dX7_next_275 rfl (lv_at hl 0 rfl) ?_
                      refine x_tog C hX 3 (by decide) (fs := [.ref aT, .int (zi w1), .int (zi w2), .int (zi kd), .int (zi w4), .ref (B 49 0)]) (ci := 6) rfl in_X7 rfl 4 (by decide) q607 (fun _ h => h) rfl dX7_next_276 ?_
                      exact J279_11 w4 ((sel_f c_12).symm) H locs ls hX hS hl
                    · refine r_bipush C (by decide) dX7_next_253 ?_
                      refine lv_aload_n C.x C.b dX7_next_255 rfl (lv_at hl 0 rfl) ?_
                      refine x_tog C hX 3 (by decide) (fs := [.ref aT, .int (zi w1), .int (zi w2), .int (zi kd), .int (zi w4), .ref (B 49 0)]) (ci := 6) rfl in_X7 rfl 4 (by decide) q607 (fun _ h => h) rfl dX7_next_256 ?_
                      refine r_imul C dX7_next_259 ?_
                      refine lv_aload_n C.x C.b dX7_next_260 rfl (lv_at hl 0 rfl) ?_
                      refine lv_aload_n C.x C.b dX7_next_261 rfl (lv_at hl 0 rfl) ?_
                      refine x_tog C hX 3 (by decide) (fs := [.ref aT, .int (zi w1), .int (zi w2), .int (zi kd), .int (zi w4), .ref (B 49 0)]) (ci := 6) rfl in_X7 rfl 2 (by decide) q605 (fun _ h => h) rfl dX7_next_262 ?_
                      refine r_callVi (As := [.int (zi w2)]) (rest := [.int (zi (10 * w4)), .ref o]) (cells' := 0) (slots' := 0) C (met_X7_at l E A B F M G (va_up (va_up T 2 (some (aT, .inl (E.2 1, n.toNat, .inl (fun j : Nat => zi (b j)))))) 3 (some (o, .inr (6, [.ref aT, .int (zi w1), .int (zi w2), .int (zi kd), .int (zi w4), .ref (B 49 0)])))) aT n b w1 w2 kd w4 o w2 (show 0 ≤ n ∧ n ≤ 160 from (by omega)) rfl rfl (show 0 ≤ w2 ∧ w2 < 2147483648 from (by omega))) (lw_V q446 q448 qs31 q105 q449) hd_X7_at rfl (by decide) (x_trecv C hX (j := 3) (by decide) rfl (ci := 6) (q := (RX7, TX7, 6)) rfl) hX hS hl.1 rfl (Nat.le_of_ble_eq_true rfl) dX7_next_265 rfl rfl ⟨Nat.le_of_ble_eq_true rfl, Nat.le_of_ble_eq_true rfl⟩ (fun rr H locs hp hS => ?_)
                      obtain ⟨hlx, hrr, hX⟩ := hp
                      have hrr : rr = lkx b n w2 := hrr
                      subst hrr
                      replace hlx : -4 ≤ lkx b n w2 ∧ lkx b n w2 ≤ 255 := hlx
                      refine r_iadd C dX7_next_268 ?_
                      refine r_bipush C (by decide) dX7_next_269 ?_
                      refine r_isub C dX7_next_271 ?_
                      refine lv_goto (tgt := 279) C.x C.b dX7_next_272 (by decide) ?_
                      exact J279_11 (((10 * w4) + (lkx b n w2)) - 48) ((sel_t c_12).symm) H locs ls hX hS hl
              exact L218 _ w1 0 (by omega) (fun j a c => absurd a (by omega)) (by rw [Int.sub_self]; rfl) (by omega) (Nat.lt_succ_self _) H locs ls hX hS (lv_sub hl [1, 0] rfl)
          · have hl1_ : isLt (lk (t8 b) n w1) := by unfold isLt; omega
            have L94 : ∀ (fu : Nat) (w2 : Int) (h2 : w1 + 1 ≤ w2 ∧ w2 ≤ n) (hlt : ∀ j : Int, w1 ≤ j → j < w2 → isLt (lk (t8 b) n j)) (hm : Int.toNat (n - w2) < fu) (H : Heap) (locs : List Loc) (ls : Array Slot) (hX : XH E A B F M G (va_up (va_up T 2 (some (aT, .inl (E.2 1, n.toNat, .inl (fun j : Nat => zi (b j)))))) 3 (some (o, .inr (6, [.ref aT, .int (zi w1), .int (zi w2), .int (zi kd), .int (zi 0), .ref (B 49 0)])))) H) (hS : va_S A s.heap H locs) (hl : lv_has ls 2 [(0, .ref o), (1, .int (zi (lkx b n w1)))]), W p l e rm_X7_next s m args below meth c H locs 0 0 QQ (F0 m 94 ls []) := by
              intro fu
              induction fu with
              | zero => intro w2 h2 hlt hm; exact absurd hm (Nat.not_lt_zero _)
              | succ fu ih94 =>
                intro w2 h2 hlt hm H locs ls hX hS hl
                refine lv_aload_n C.x C.b dX7_next_94 rfl (lv_at hl 0 rfl) ?_
                refine lv_aload_n C.x C.b dX7_next_95 rfl (lv_at hl 0 rfl) ?_
                refine x_tog C hX 3 (by decide) (fs := [.ref aT, .int (zi w1), .int (zi w2), .int (zi kd), .int (zi 0), .ref (B 49 0)]) (ci := 6) rfl in_X7 rfl 2 (by decide) q605 (fun _ h => h) rfl dX7_next_96 ?_
                have hlc2 := lkx_c b n w2
                refine r_callVi (As := [.int (zi w2)]) (rest := []) (cells' := 0) (slots' := 0) C (met_X7_at l E A B F M G (va_up (va_up T 2 (some (aT, .inl (E.2 1, n.toNat, .inl (fun j : Nat => zi (b j)))))) 3 (some (o, .inr (6, [.ref aT, .int (zi w1), .int (zi w2), .int (zi kd), .int (zi 0), .ref (B 49 0)])))) aT n b w1 w2 kd 0 o w2 (show 0 ≤ n ∧ n ≤ 160 from (by omega)) rfl rfl (show 0 ≤ w2 ∧ w2 < 2147483648 from (by omega))) (lw_V q446 q448 qs31 q105 q449) hd_X7_at rfl (by decide) (x_trecv C hX (j := 3) (by decide) rfl (ci := 6) (q := (RX7, TX7, 6)) rfl) hX hS hl.1 rfl (Nat.le_of_ble_eq_true rfl) dX7_next_99 rfl rfl ⟨Nat.le_of_ble_eq_true rfl, Nat.le_of_ble_eq_true rfl⟩ (fun rr H locs hp hS => ?_)
                obtain ⟨hlx, hrr, hX⟩ := hp
                have hrr : rr = lkx b n w2 := hrr
                subst hrr
                replace hlx : -4 ≤ lkx b n w2 ∧ lkx b n w2 ≤ 255 := hlx
                refine r_i2l C (by omega) dX7_next_102 ?_
                refine r_ldc2 C 97 (by decide) q450 dX7_next_103 ?_
                refine r_ldc2 C 122 (by decide) q451 dX7_next_106 ?_
                refine r_callNSi (As := [.long (zl (lkx b n w2)), .long (zl 97), .long (zl 122)]) (rest := []) (cells' := 0) (slots' := 0) C (met_X0_isIn l E A H (lkx b n w2) 97 122 (show -9223372036854775808 ≤ (lkx b n w2) ∧ (lkx b n w2) < 9223372036854775808 from (by omega)) (show -9223372036854775808 ≤ (97 : Int) ∧ (97 : Int) < 9223372036854775808 from (by omega)) (show -9223372036854775808 ≤ (122 : Int) ∧ (122 : Int) < 9223372036854775808 from (by omega))) q119 q86 (List.mem_of_getElem? (i := 11) rfl) q118 hd_X0_isIn rfl (by decide) rfl hS hl.1 rfl (Nat.le_of_ble_eq_true rfl) dX7_next_109 rfl rfl ⟨Nat.le_of_ble_eq_true rfl, Nat.le_of_ble_eq_true rfl⟩ (fun rr H locs hp hS => ?_)
                obtain ⟨hrr, hH⟩ := hp
                have hrr : rr = bI ((97 : Int) ≤ (lkx b n w2) ∧ (lkx b n w2) ≤ (122 : Int)) := hrr
                subst hrr
                have hX : XH E A B F M G (va_up (va_up T 2 (some (aT, .inl (E.2 1, n.toNat, .inl (fun j : Nat => zi (b j)))))) 3 (some (o, .inr (6, [.ref aT, .int (zi w1), .int (zi w2), .int (zi kd), .int (zi 0), .ref (B 49 0)])))) H := by rw [hH]; exact hX
                refine r_if_eq_b (tgt := 128) C dX7_next_112 (by decide) (fun c_13 => ?_) (fun c_13 => ?_)
                · have erl : w2 = rn isLt (t8 b) n w1 := IsRn.eq ⟨by omega, hlt, fun q => by unfold isLt at q; omega⟩
                  refine lv_aload_n C.x C.b dX7_next_128 rfl (lv_at hl 0 rfl) ?_
                  refine r_const C dX7_next_129 ?_
                  refine x_top C hX hS 3 (by decide) (fs := [.ref aT, .int (zi w1), .int (zi w2), .int (zi kd), .int (zi 0), .ref (B 49 0)]) (ci := 6) rfl in_X7 rfl tyX7 tyX7_ok nmX7 3 (by decide) q606 (fun _ h => h) rfl rfl rfl (by show 3 < 6; decide) (T' := (va_up (va_up T 2 (some (aT, .inl (E.2 1, n.toNat, .inl (fun j : Nat => zi (b j)))))) 3 (some (o, .inr (6, [.ref aT, .int (zi w1), .int (zi w2), .int (zi 1), .int (zi 0), .ref (B 49 0)]))))) (up_up _ _ _ _) dX7_next_130 (fun H locs hX hS => ?_)
                  have L133 : ∀ (fu : Nat) (w4 : Int) (h4 : 0 ≤ w4 ∧ w4 ≤ 6) (hno : ∀ i : Nat, (i : Int) < w4 → ¬ spW b n w1 w2 i) (hm : Int.toNat (6 - w4) < fu) (H : Heap) (locs : List Loc) (ls : Array Slot) (hX : XH E A B F M G (va_up (va_up T 2 (some (aT, .inl (E.2 1, n.toNat, .inl (fun j : Nat => zi (b j)))))) 3 (some (o, .inr (6, [.ref aT, .int (zi w1), .int (zi w2), .int (zi 1), .int (zi w4), .ref (B 49 0)])))) H) (hS : va_S A s.heap H locs) (hl : lv_has ls 2 [(0, .ref o), (1, .int (zi (lkx b n w1)))]), W p l e rm_X7_next s m args below meth c H locs 0 0 QQ (F0 m 133 ls []) := by
                    intro fu
                    induction fu with
                    | zero => intro w4 h4 hno hm; exact absurd hm (Nat.not_lt_zero _)
                    | succ fu ih133 =>
                      intro w4 h4 hno hm H locs ls hX hS hl
                      refine lv_aload_n C.x C.b dX7_next_133 rfl (lv_at hl 0 rfl) ?_
                      refine x_tog C hX 3 (by decide) (fs := [.ref aT, .int (zi w1), .int (zi w2), .int (zi 1), .int (zi w4), .ref (B 49 0)]) (ci := 6) rfl in_X7 rfl 4 (by decide) q607 (fun _ h => h) rfl dX7_next_134 ?_
                      refine x_KINDS C hS (List.mem_of_getElem? (i := 12) rfl) dX7_next_137 ?_
                      refine x_klen C hS dX7_next_140 ?_
                      refine r_icmp_ge (tgt := 172) C (by omega) (by decide) dX7_next_141 (by decide) (fun c_14 => ?_) (fun c_14 => ?_)
                      · have hnx : nmv (t8 b) n (tf (t8 b) n to_) w2 = sel (w4 < 6) w4 (-4) := by rw [← etf]; exact nmv_x h4 hno (by first | exact Or.inr (by assumption) | exact Or.inl (by omega))
                        have htx := tokx_lt (t := t8 b) (n := n) (p := to_) (q := w2) (v := w4) (by omega) (by unfold isLt; omega) (by rw [← etf]; exact erl) hnx h4.1
                        have hok_ := htx.1
                        have hbad_ := htx.2
                        rw [← etf] at hok_
                        refine lv_aload_n C.x C.b dX7_next_172 rfl (lv_at hl 0 rfl) ?_
                        refine lv_aload_n C.x C.b dX7_next_173 rfl (lv_at hl 0 rfl) ?_
                        refine x_tog C hX 3 (by decide) (fs := [.ref aT, .int (zi w1), .int (zi w2), .int (zi 1), .int (zi w4), .ref (B 49 0)]) (ci := 6) rfl in_X7 rfl 4 (by decide) q607 (fun _ h => h) rfl dX7_next_174 ?_
                        refine x_KINDS C hS (List.mem_of_getElem? (i := 12) rfl) dX7_next_177 ?_
                        refine x_klen C hS dX7_next_180 ?_
                        have J189_15 : ∀ (t1 : Int) (ht1 : t1 = bI (w4 < 6)) (H : Heap) (locs : List Loc) (ls : Array Slot) (hX : XH E A B F M G (va_up (va_up T 2 (some (aT, .inl (E.2 1, n.toNat, .inl (fun j : Nat => zi (b j)))))) 3 (some (o, .inr (6, [.ref aT, .int (zi w1), .int (zi w2), .int (zi 1), .int (zi w4), .ref (B 49 0)])))) H) (hS : va_S A s.heap H locs) (hl : lv_has ls 2 [(0, .ref o), (1, .int (zi (lkx b n w1)))]), W p l e rm_X7_next s m args below meth c H locs 0 0 QQ (F0 m 189 ls [.int (zi t1), .ref o]) := by
                          intro t1 ht1 H locs ls hX hS hl
                          subst ht1
                          refine r_const C dX7_next_189 ?_
                          refine rx_callVv (As := [.int (zi (bI (w4 < 6))), .int (zi 1)]) (rest := []) (cells' := 1) (slots' := 8) C (met_X7_must l E A B F M G (va_up (va_up T 2 (some (aT, .inl (E.2 1, n.toNat, .inl (fun j : Nat => zi (b j)))))) 3 (some (o, .inr (6, [.ref aT, .int (zi w1), .int (zi w2), .int (zi 1), .int (zi w4), .ref (B 49 0)])))) aT n b w1 w2 1 w4 o (w4 < 6) 1 (show 0 ≤ n ∧ n ≤ 160 from (by omega)) rfl rfl (show -2147483648 ≤ (1 : Int) ∧ (1 : Int) < 2147483648 from (by omega)) (show 0 ≤ w1 ∧ w1 ≤ 160 from (by omega))) (lw_V q507 q509 qs33 q105 q510) hd_X7_must rfl (by decide) (x_trecv C hX (j := 3) (by decide) rfl (ci := 6) (q := (RX7, TX7, 6)) rfl) hX hS hl.1 rfl (Nat.le_of_ble_eq_true rfl) dX7_next_190 rfl rfl ⟨Nat.le_of_ble_eq_true rfl, Nat.le_of_ble_eq_true rfl⟩ (fun En ce q9 H locs hp hS hx1 hx2 hx3 => ?_) (fun H locs hp hS => ?_)
                          · obtain ⟨hEn, xhng, hX⟩ := hp
                            subst hEn
                            replace xhng : ¬ (w4 < 6) := xhng
                            have hX : XH E A B F M G (va_up (va_up (va_up T 2 (some (aT, .inl (E.2 1, n.toNat, .inl (fun j : Nat => zi (b j)))))) 3 (some (o, .inr (6, [.ref aT, .int (zi w1), .int (zi w2), .int (zi (1 : Int)), .int (zi w4), .ref ((B 49) 0)])))) 5 (some (q9, .inr (8, [.null, .null, .null, .null, .null, .int (zi 0), .int (zi (1 : Int)), .int (zi w1)])))) H := hX.to rfl rfl rfl rfl ((congrArg (fun z : x_T => va_up z 5 (some (q9, .inr (8, [.null, .null, .null, .null, .null, .int (zi 0), .int (zi (1 : Int)), .int (zi w1)])))) ((congrArg (fun z : x_T => va_up z 3 (some (o, .inr (6, [.ref aT, .int (zi w1), .int (zi w2), .int (zi (1 : Int)), .int (zi w4), .ref ((B 49) 0)])))) (up_in (by decide) (up_up _ _ _ _))).trans (up_up _ _ _ _))).trans rfl)
                            rw [← hQQ]
                            exact r_xout C hnt hS (Nat.le_of_ble_eq_true rfl) (Nat.le_of_ble_eq_true rfl) hx1 hx2 hx3 ⟨rfl, w1, w2, 1, w4, (hbad_ (by omega)), (by rw [← etf]; exact hX)⟩
                          obtain ⟨hg, hX⟩ := hp
                          replace hg : (w4 < 6) := hg
                          refine lv_goto (tgt := 358) C.x C.b dX7_next_193 (by decide) ?_
                          rw [← hQQ]
                          refine vq_ret ?_
                          exact r_vret C hS (Nat.le_of_ble_eq_true rfl) (Nat.le_of_ble_eq_true rfl) dX7_next_358 ⟨w1, w2, 1, w4, (by first | exact hok_ (by omega) | (rw [etf]; exact tokx_end (by omega))), (by omega), hX⟩
                        refine r_icmp_ge (tgt := 188) C (by omega) (by decide) dX7_next_181 (by decide) (fun c_16 => ?_) (fun c_16 => ?_)
                        · refine r_const C dX7_next_188 ?_
                          exact J189_15 0 ((bI_f c_16).symm) H locs ls hX hS hl
                        · refine r_const C dX7_next_184 ?_
                          refine lv_goto (tgt := 189) C.x C.b dX7_next_185 (by decide) ?_
                          exact J189_15 1 ((bI_t c_16).symm) H locs ls hX hS hl
                      · refine lv_aload_n C.x C.b dX7_next_144 rfl (lv_at hl 0 rfl) ?_
                        refine x_KINDS C hS (List.mem_of_getElem? (i := 12) rfl) dX7_next_145 ?_
                        refine lv_aload_n C.x C.b dX7_next_148 rfl (lv_at hl 0 rfl) ?_
                        refine x_tog C hX 3 (by decide) (fs := [.ref aT, .int (zi w1), .int (zi w2), .int (zi 1), .int (zi w4), .ref (B 49 0)]) (ci := 6) rfl in_X7 rfl 4 (by decide) q607 (fun _ h => h) rfl dX7_next_149 ?_
                        refine x_kat C hS (show 0 ≤ w4 ∧ w4 < 6 from (by omega)) dX7_next_152 ?_
                        refine r_callVi (As := [.ref (E.2 (110 + (w4).toNat))]) (rest := []) (cells' := 0) (slots' := 0) C (met_X7_isSpelt l E A B F M G (va_up (va_up T 2 (some (aT, .inl (E.2 1, n.toNat, .inl (fun j : Nat => zi (b j)))))) 3 (some (o, .inr (6, [.ref aT, .int (zi w1), .int (zi w2), .int (zi 1), .int (zi w4), .ref (B 49 0)])))) aT n b w1 w2 1 w4 o ((w4).toNat) (show 0 ≤ n ∧ n ≤ 160 from (by omega)) rfl rfl (show ((w4).toNat) < 6 from (by omega)) (show 0 ≤ w1 ∧ w1 ≤ w2 ∧ w2 ≤ 161 from (by omega))) (lw_V q455 q457 qs32 q105 q458) hd_X7_isSpelt rfl (by decide) (x_trecv C hX (j := 3) (by decide) rfl (ci := 6) (q := (RX7, TX7, 6)) rfl) hX hS hl.1 rfl (Nat.le_of_ble_eq_true rfl) dX7_next_153 rfl rfl ⟨Nat.le_of_ble_eq_true rfl, Nat.le_of_ble_eq_true rfl⟩ (fun rr H locs hp hS => ?_)
                        obtain ⟨hrr, hX⟩ := hp
                        have hrr : rr = bI (spW b n w1 w2 ((w4).toNat)) := hrr
                        subst hrr
                        refine r_if_ne_b (tgt := 172) C dX7_next_156 (by decide) (fun c_17 => ?_) (fun c_17 => ?_)
                        · have hnx : nmv (t8 b) n (tf (t8 b) n to_) w2 = sel (w4 < 6) w4 (-4) := by rw [← etf]; exact nmv_x h4 hno (by first | exact Or.inr (by assumption) | exact Or.inl (by omega))
                          have htx := tokx_lt (t := t8 b) (n := n) (p := to_) (q := w2) (v := w4) (by omega) (by unfold isLt; omega) (by rw [← etf]; exact erl) hnx h4.1
                          have hok_ := htx.1
                          have hbad_ := htx.2
                          rw [← etf] at hok_
                          refine lv_aload_n C.x C.b dX7_next_172 rfl (lv_at hl 0 rfl) ?_
                          refine lv_aload_n C.x C.b dX7_next_173 rfl (lv_at hl 0 rfl) ?_
                          refine x_tog C hX 3 (by decide) (fs := [.ref aT, .int (zi w1), .int (zi w2), .int (zi 1), .int (zi w4), .ref (B 49 0)]) (ci := 6) rfl in_X7 rfl 4 (by decide) q607 (fun _ h => h) rfl dX7_next_174 ?_
                          refine x_KINDS C hS (List.mem_of_getElem? (i := 12) rfl) dX7_next_177 ?_
                          refine x_klen C hS dX7_next_180 ?_
                          have J189_18 : ∀ (t1 : Int) (ht1 : t1 = bI (w4 < 6)) (H : Heap) (locs : List Loc) (ls : Array Slot) (hX : XH E A B F M G (va_up (va_up T 2 (some (aT, .inl (E.2 1, n.toNat, .inl (fun j : Nat => zi (b j)))))) 3 (some (o, .inr (6, [.ref aT, .int (zi w1), .int (zi w2), .int (zi 1), .int (zi w4), .ref (B 49 0)])))) H) (hS : va_S A s.heap H locs) (hl : lv_has ls 2 [(0, .ref o), (1, .int (zi (lkx b n w1)))]), W p l e rm_X7_next s m args below meth c H locs 0 0 QQ (F0 m 189 ls [.int (zi t1), .ref o]) := by
                            intro t1 ht1 H locs ls hX hS hl
                            subst ht1
                            refine r_const C dX7_next_189 ?_
                            refine rx_callVv (As := [.int (zi (bI (w4 < 6))), .int (zi 1)]) (rest := []) (cells' := 1) (slots' := 8) C (met_X7_must l E A B F M G (va_up (va_up T 2 (some (aT, .inl (E.2 1, n.toNat, .inl (fun j : Nat => zi (b j)))))) 3 (some (o, .inr (6, [.ref aT, .int (zi w1), .int (zi w2), .int (zi 1), .int (zi w4), .ref (B 49 0)])))) aT n b w1 w2 1 w4 o (w4 < 6) 1 (show 0 ≤ n ∧ n ≤ 160 from (by omega)) rfl rfl (show -2147483648 ≤ (1 : Int) ∧ (1 : Int) < 2147483648 from (by omega)) (show 0 ≤ w1 ∧ w1 ≤ 160 from (by omega))) (lw_V q507 q509 qs33 q105 q510) hd_X7_must rfl (by decide) (x_trecv C hX (j := 3) (by decide) rfl (ci := 6) (q := (RX7, TX7, 6)) rfl) hX hS hl.1 rfl (Nat.le_of_ble_eq_true rfl) dX7_next_190 rfl rfl ⟨Nat.le_of_ble_eq_true rfl, Nat.le_of_ble_eq_true rfl⟩ (fun En ce q9 H locs hp hS hx1 hx2 hx3 => ?_) (fun H locs hp hS => ?_)
                            · obtain ⟨hEn, xhng, hX⟩ := hp
                              subst hEn
                              replace xhng : ¬ (w4 < 6) := xhng
                              have hX : XH E A B F M G (va_up (va_up (va_up T 2 (some (aT, .inl (E.2 1, n.toNat, .inl (fun j : Nat => zi (b j)))))) 3 (some (o, .inr (6, [.ref aT, .int (zi w1), .int (zi w2), .int (zi (1 : Int)), .int (zi w4), .ref ((B 49) 0)])))) 5 (some (q9, .inr (8, [.null, .null, .null, .null, .null, .int (zi 0), .int (zi (1 : Int)), .int (zi w1)])))) H := hX.to rfl rfl rfl rfl ((congrArg (fun z : x_T => va_up z 5 (some (q9, .inr (8, [.null, .null, .null, .null, .null, .int (zi 0), .int (zi (1 : Int)), .int (zi w1)])))) ((congrArg (fun z : x_T => va_up z 3 (some (o, .inr (6, [.ref aT, .int (zi w1), .int (zi w2), .int (zi (1 : Int)), .int (zi w4), .ref ((B 49) 0)])))) (up_in (by decide) (up_up _ _ _ _))).trans (up_up _ _ _ _))).trans rfl)
                              rw [← hQQ]
                              exact r_xout C hnt hS (Nat.le_of_ble_eq_true rfl) (Nat.le_of_ble_eq_true rfl) hx1 hx2 hx3 ⟨rfl, w1, w2, 1, w4, (hbad_ (by omega)), (by rw [← etf]; exact hX)⟩
                            obtain ⟨hg, hX⟩ := hp
                            replace hg : (w4 < 6) := hg
                            refine lv_goto (tgt := 358) C.x C.b dX7_next_193 (by decide) ?_
                            rw [← hQQ]
                            refine vq_ret ?_
                            exact r_vret C hS (Nat.le_of_ble_eq_true rfl) (Nat.le_of_ble_eq_true rfl) dX7_next_358 ⟨w1, w2, 1, w4, (by first | exact hok_ (by omega) | (rw [etf]; exact tokx_end (by omega))), (by omega), hX⟩
                          refine r_icmp_ge (tgt := 188) C (by omega) (by decide) dX7_next_181 (by decide) (fun c_19 => ?_) (fun c_19 => ?_)
                          · refine r_const C dX7_next_188 ?_
                            exact J189_18 0 ((bI_f c_19).symm) H locs ls hX hS hl
                          · refine r_const C dX7_next_184 ?_
                            refine lv_goto (tgt := 189) C.x C.b dX7_next_185 (by decide) ?_
                            exact J189_18 1 ((bI_t c_19).symm) H locs ls hX hS hl
                        · refine lv_aload_n C.x C.b dX7_next_159 rfl (lv_at hl 0 rfl) ?_
                          refine lv_dup C.x C.b dX7_next_160 rfl ?_
                          refine x_tog C hX 3 (by decide) (fs := [.ref aT, .int (zi w1), .int (zi w2), .int (zi 1), .int (zi w4), .ref (B 49 0)]) (ci := 6) rfl in_X7 rfl 4 (by decide) q607 (fun _ h => h) rfl dX7_next_161 ?_
                          refine r_const C dX7_next_164 ?_
                          refine r_iadd C dX7_next_165 ?_
                          refine x_top C hX hS 3 (by decide) (fs := [.ref aT, .int (zi w1), .int (zi w2), .int (zi 1), .int (zi w4), .ref (B 49 0)]) (ci := 6) rfl in_X7 rfl tyX7 tyX7_ok nmX7 4 (by decide) q607 (fun _ h => h) rfl rfl rfl (by show 4 < 6; decide) (T' := (va_up (va_up T 2 (some (aT, .inl (E.2 1, n.toNat, .inl (fun j : Nat => zi (b j)))))) 3 (some (o, .inr (6, [.ref aT, .int (zi w1), .int (zi w2), .int (zi 1), .int (zi (w4 + 1)), .ref (B 49 0)]))))) (up_up _ _ _ _) dX7_next_166 (fun H locs hX hS => ?_)
                          refine lv_goto (tgt := 133) C.x C.b dX7_next_169 (by decide) ?_
                          exact ih133 (w4 + 1) (by omega) (fun i q => by rcases Int.lt_or_le (i : Int) w4 with y | y; exact hno i y; rw [show i = w4.toNat by omega]; assumption) (by omega) H locs ls hX hS hl
                  exact L133 _ 0 (by omega) (fun i q => absurd q (by omega)) (Nat.lt_succ_self _) H locs ls hX hS hl
                · refine lv_aload_n C.x C.b dX7_next_115 rfl (lv_at hl 0 rfl) ?_
                  refine lv_dup C.x C.b dX7_next_116 rfl ?_
                  refine x_tog C hX 3 (by decide) (fs := [.ref aT, .int (zi w1), .int (zi w2), .int (zi kd), .int (zi 0), .ref (B 49 0)]) (ci := 6) rfl in_X7 rfl 2 (by decide) q605 (fun _ h => h) rfl dX7_next_117 ?_
                  refine r_const C dX7_next_120 ?_
                  refine r_iadd C dX7_next_121 ?_
                  refine x_top C hX hS 3 (by decide) (fs := [.ref aT, .int (zi w1), .int (zi w2), .int (zi kd), .int (zi 0), .ref (B 49 0)]) (ci := 6) rfl in_X7 rfl tyX7 tyX7_ok nmX7 2 (by decide) q605 (fun _ h => h) rfl rfl rfl (by show 2 < 6; decide) (T' := (va_up (va_up T 2 (some (aT, .inl (E.2 1, n.toNat, .inl (fun j : Nat => zi (b j)))))) 3 (some (o, .inr (6, [.ref aT, .int (zi w1), .int (zi (w2 + 1)), .int (zi kd), .int (zi 0), .ref (B 49 0)]))))) (up_up _ _ _ _) dX7_next_122 (fun H locs hX hS => ?_)
                  refine lv_goto (tgt := 94) C.x C.b dX7_next_125 (by decide) ?_
                  exact ih94 (w2 + 1) (by omega) (IsRn.st hlt (show 97 ≤ lk (t8 b) n w2 ∧ lk (t8 b) n w2 ≤ 122 by omega)) (by omega) H locs ls hX hS hl
            exact L94 _ (w1 + 1) (by omega) (fun j a c => by rw [show j = w1 by omega]; exact hl1_) (Nat.lt_succ_self _) H locs ls hX hS (lv_sub hl [1, 0] rfl)
        · refine lv_aload_n C.x C.b dX7_next_64 rfl (lv_at hl 1 rfl) ?_
          refine lv_aload_n C.x C.b dX7_next_65 rfl (lv_at hl 1 rfl) ?_
          refine x_tog C hX 3 (by decide) (fs := [.ref aT, .int (zi w1), .int (zi (w1 + 1)), .int (zi kd), .int (zi 0), .ref (B 49 0)]) (ci := 6) rfl in_X7 rfl 1 (by decide) q604 (fun _ h => h) rfl dX7_next_66 ?_
          refine x_top C hX hS 3 (by decide) (fs := [.ref aT, .int (zi w1), .int (zi (w1 + 1)), .int (zi kd), .int (zi 0), .ref (B 49 0)]) (ci := 6) rfl in_X7 rfl tyX7 tyX7_ok nmX7 2 (by decide) q605 (fun _ h => h) rfl rfl rfl (by show 2 < 6; decide) (T' := (va_up (va_up T 2 (some (aT, .inl (E.2 1, n.toNat, .inl (fun j : Nat => zi (b j)))))) 3 (some (o, .inr (6, [.ref aT, .int (zi w1), .int (zi w1), .int (zi kd), .int (zi 0), .ref (B 49 0)]))))) (up_up _ _ _ _) dX7_next_69 (fun H locs hX hS => ?_)
          refine lv_aload_n C.x C.b dX7_next_72 rfl (lv_at hl 1 rfl) ?_
          refine r_const C dX7_next_73 ?_
          refine x_top C hX hS 3 (by decide) (fs := [.ref aT, .int (zi w1), .int (zi w1), .int (zi kd), .int (zi 0), .ref (B 49 0)]) (ci := 6) rfl in_X7 rfl tyX7 tyX7_ok nmX7 3 (by decide) q606 (fun _ h => h) rfl rfl rfl (by show 3 < 6; decide) (T' := (va_up (va_up T 2 (some (aT, .inl (E.2 1, n.toNat, .inl (fun j : Nat => zi (b j)))))) 3 (some (o, .inr (6, [.ref aT, .int (zi w1), .int (zi w1), .int (zi 0), .int (zi 0), .ref (B 49 0)]))))) (up_up _ _ _ _) dX7_next_74 (fun H locs hX hS => ?_)
          refine lv_goto (tgt := 358) C.x C.b dX7_next_77 (by decide) ?_
          rw [← hQQ]
          refine vq_ret ?_
          exact r_vret C hS (Nat.le_of_ble_eq_true rfl) (Nat.le_of_ble_eq_true rfl) dX7_next_358 ⟨w1, w1, 0, 0, (by first | exact hok_ (by omega) | (rw [etf]; exact tokx_end (by omega))), (by omega), hX⟩
      · refine lv_aload_n C.x C.b dX7_next_21 rfl (lv_at hl 0 rfl) ?_
        refine lv_dup C.x C.b dX7_next_22 rfl ?_
        refine x_tog C hX 3 (by decide) (fs := [.ref aT, .int (zi w1), .int (zi to_), .int (zi kd), .int (zi vl), .ref (B 49 0)]) (ci := 6) rfl in_X7 rfl 1 (by decide) q604 (fun _ h => h) rfl dX7_next_23 ?_
        refine r_const C dX7_next_26 ?_
        refine r_iadd C dX7_next_27 ?_
        refine x_top C hX hS 3 (by decide) (fs := [.ref aT, .int (zi w1), .int (zi to_), .int (zi kd), .int (zi vl), .ref (B 49 0)]) (ci := 6) rfl in_X7 rfl tyX7 tyX7_ok nmX7 1 (by decide) q604 (fun _ h => h) rfl rfl rfl (by show 1 < 6; decide) (T' := (va_up (va_up T 2 (some (aT, .inl (E.2 1, n.toNat, .inl (fun j : Nat => zi (b j)))))) 3 (some (o, .inr (6, [.ref aT, .int (zi (w1 + 1)), .int (zi to_), .int (zi kd), .int (zi vl), .ref (B 49 0)]))))) (up_up _ _ _ _) dX7_next_28 (fun H locs hX hS => ?_)
        refine lv_goto (tgt := 8) C.x C.b dX7_next_31 (by decide) ?_
        exact ih8 (w1 + 1) (by omega) (IsRn.st hsp (show lk (t8 b) n w1 = 32 by omega)) (by omega) H locs ls hX hS hl
  exact L8 _ to_ (by omega) (fun j a c => absurd a (by omega)) (Nat.lt_succ_self _) H locs ls hX hS hl
