set_option maxRecDepth 100000

theorem hd_X7_at : yX7_at.cls = RX7 ∧ yX7_at.cls ≠ "java/lang/invoke/MethodHandle" ∧ yX7_at.cls ≠ "java/lang/invoke/VarHandle" ∧ (parseMethodDescriptor yX7_at.desc).map (fun d => d.parameters.length) = some 1 := by decide +kernel
abbrev rm_X7_at : Room := { frames := 0, cells := 0, slots := 0, locals := 0 }
set_option maxHeartbeats 8000000 in
theorem met_X7_at (l : Launch) (E : us_E) (A : Nat → Prop) (B : Nat → Int → Nat) (F : Nat → Int) (M : Nat → Int → Int) (G : Nat → Int → Option Nat) (T : x_T) (aT : Nat) (n : Int) (b : Int → Int) (fr : Int) (to_ : Int) (kd : Int) (vl : Int) (o : Nat) (k : Int) (hn : 0 ≤ n ∧ n ≤ 160) (hT2 : T 2 = some (aT, .inl (E.2 1, n.toNat, .inl (fun j : Nat => zi (b j))))) (hT3 : T 3 = some (o, .inr (6, [.ref aT, .int (zi fr), .int (zi to_), .int (zi kd), .int (zi vl), .ref (B 49 0)]))) (hk : 0 ≤ k ∧ k < 2147483648) : cMet l yX7_at cX7_at 2 (some .int) rm_X7_at A E [.ref o, .int (zi k)] (fun H => XH E A B F M G T H) (qi A (fun r H => (-4 ≤ lkx b n k ∧ lkx b n k ≤ 255) ∧ (r = lkx b n k) ∧ XH E A B F M G T H)) := by
  refine cMet.of (by decide) (Nat.le_of_ble_eq_true rfl) (fun p e s m args below meth c C hnm hX hS ls hl => ?_)
  have C : Cx p s m args meth c A RX7 cX7_at 2 (some .int) E := C
  have hX : XH E A B F M G T s.heap := hX
  have hl : lv_has ls 2 [(0, .ref o), (1, .int (zi k))] := hl
  generalize hH : s.heap = H at hX
  have hS : va_S A s.heap H [] := by rw [← hH]; exact hS
  generalize hlocs : ([] : List Loc) = locs at hS ⊢
  obtain ⟨QQ, hQQ⟩ : ∃ zQQ, MQ below (qi A (fun r H => (-4 ≤ lkx b n k ∧ lkx b n k ≤ 255) ∧ (r = lkx b n k) ∧ XH E A B F M G T H)) args s (rm_X7_at).cells (rm_X7_at).slots A = zQQ := ⟨_, rfl⟩
  rw [hQQ]
  have hlc := lkx_c b n k
  have hX : XH E A B F M G (va_up T 2 (some (aT, .inl (E.2 1, n.toNat, .inl (fun j : Nat => zi (b j)))))) H := hX.to rfl rfl rfl rfl (up_id T hT2).symm
  have hX : XH E A B F M G (va_up (va_up T 2 (some (aT, .inl (E.2 1, n.toNat, .inl (fun j : Nat => zi (b j)))))) 3 (some (o, .inr (6, [.ref aT, .int (zi fr), .int (zi to_), .int (zi kd), .int (zi vl), .ref (B 49 0)])))) H := hX.to rfl rfl rfl rfl ((up_id ((va_up T 2 (some (aT, .inl (E.2 1, n.toNat, .inl (fun j : Nat => zi (b j))))))) (k := 3) (a := some (o, .inr (6, [.ref aT, .int (zi fr), .int (zi to_), .int (zi kd), .int (zi vl), .ref (B 49 0)]))) hT3).symm)
  refine lv_iload_n C.x C.b dX7_at_0 rfl (lv_at hl 1 rfl) ?_
  refine lv_aload_n C.x C.b dX7_at_1 rfl (lv_at hl 0 rfl) ?_
  refine x_tog C hX 3 (by decide) (fs := [.ref aT, .int (zi fr), .int (zi to_), .int (zi kd), .int (zi vl), .ref (B 49 0)]) (ci := 6) rfl in_X7 rfl 0 (by decide) q603 (fun _ h => h) rfl dX7_at_2 ?_
  refine x_tlen C hX 2 (by decide) (a := aT) (n := n.toNat) rfl (t := 1) rfl n (by omega) dX7_at_5 ?_
  refine r_icmp_ge (tgt := 22) C (by omega) (by omega) dX7_at_6 (by decide) (fun c_1 => ?_) (fun c_1 => ?_)
  · refine r_bipush C (by decide) dX7_at_22 ?_
    have hX : XH E A B F M G T H := hX.to rfl rfl rfl rfl ((congrArg (fun z : x_T => va_up z 3 (some (o, .inr (6, [.ref aT, .int (zi fr), .int (zi to_), .int (zi kd), .int (zi vl), .ref (B 49 0)])))) (up_id T hT2)).trans (up_id T hT3))
    rw [← hQQ]
    exact r_iret C hS (Nat.le_of_ble_eq_true rfl) (Nat.le_of_ble_eq_true rfl) dX7_at_24 ⟨(by omega), (by unfold lkx; first | exact (sel_t (by omega)).symm | exact (sel_f (by omega)).symm), hX⟩
  · refine lv_aload_n C.x C.b dX7_at_9 rfl (lv_at hl 0 rfl) ?_
    refine x_tog C hX 3 (by decide) (fs := [.ref aT, .int (zi fr), .int (zi to_), .int (zi kd), .int (zi vl), .ref (B 49 0)]) (ci := 6) rfl in_X7 rfl 0 (by decide) q603 (fun _ h => h) rfl dX7_at_10 ?_
    refine lv_iload_n C.x C.b dX7_at_13 rfl (lv_at hl 1 rfl) ?_
    refine x_tlb C hX 2 (by decide) (a := aT) (n := n.toNat) (g := b) rfl (show 0 ≤ k ∧ k < ((n.toNat : Nat) : Int) from (by omega)) (by omega) (v := b k) rfl dX7_at_14 ?_
    refine r_sipush C (by decide) dX7_at_15 ?_
    refine r_iand C (zi_and255 _) dX7_at_18 ?_
    refine lv_goto (tgt := 24) C.x C.b dX7_at_19 (by decide) ?_
    have hX : XH E A B F M G T H := hX.to rfl rfl rfl rfl ((congrArg (fun z : x_T => va_up z 3 (some (o, .inr (6, [.ref aT, .int (zi fr), .int (zi to_), .int (zi kd), .int (zi vl), .ref (B 49 0)])))) (up_id T hT2)).trans (up_id T hT3))
    rw [← hQQ]
    exact r_iret C hS (Nat.le_of_ble_eq_true rfl) (Nat.le_of_ble_eq_true rfl) dX7_at_24 ⟨(by omega), (by unfold lkx; first | exact (sel_t (by omega)).symm | exact (sel_f (by omega)).symm), hX⟩

theorem hd_X7_isMark : yX7_isMark.cls = RX7 ∧ yX7_isMark.cls ≠ "java/lang/invoke/MethodHandle" ∧ yX7_isMark.cls ≠ "java/lang/invoke/VarHandle" ∧ (parseMethodDescriptor yX7_isMark.desc).map (fun d => d.parameters.length) = some 1 := by decide +kernel
abbrev rm_X7_isMark : Room := { frames := 0, cells := 0, slots := 0, locals := 0 }
set_option maxHeartbeats 8000000 in
theorem met_X7_isMark (l : Launch) (E : us_E) (A : Nat → Prop) (B : Nat → Int → Nat) (F : Nat → Int) (M : Nat → Int → Int) (G : Nat → Int → Option Nat) (T : x_T) (aT : Nat) (n : Int) (b : Int → Int) (fr : Int) (to_ : Int) (kd : Int) (vl : Int) (o : Nat) (c_ : Int) (hn : 0 ≤ n ∧ n ≤ 160) (hT2 : T 2 = some (aT, .inl (E.2 1, n.toNat, .inl (fun j : Nat => zi (b j))))) (hT3 : T 3 = some (o, .inr (6, [.ref aT, .int (zi fr), .int (zi to_), .int (zi kd), .int (zi vl), .ref (B 49 0)]))) (hc_ : -2147483648 ≤ c_ ∧ c_ < 2147483648) (hkd : 0 ≤ kd ∧ kd ≤ 3) (hvl : -2147483648 ≤ vl ∧ vl < 2147483648) : cMet l yX7_isMark cX7_isMark 2 (some .boolean) rm_X7_isMark A E [.ref o, .int (zi c_)] (fun H => XH E A B F M G T H) (qi A (fun r H => (r = bI (kd = 3 ∧ vl = c_)) ∧ XH E A B F M G T H)) := by
  refine cMet.of (by decide) (Nat.le_of_ble_eq_true rfl) (fun p e s m args below meth c C hnm hX hS ls hl => ?_)
  have C : Cx p s m args meth c A RX7 cX7_isMark 2 (some .boolean) E := C
  have hX : XH E A B F M G T s.heap := hX
  have hl : lv_has ls 2 [(0, .ref o), (1, .int (zi c_))] := hl
  generalize hH : s.heap = H at hX
  have hS : va_S A s.heap H [] := by rw [← hH]; exact hS
  generalize hlocs : ([] : List Loc) = locs at hS ⊢
  obtain ⟨QQ, hQQ⟩ : ∃ zQQ, MQ below (qi A (fun r H => (r = bI (kd = 3 ∧ vl = c_)) ∧ XH E A B F M G T H)) args s (rm_X7_isMark).cells (rm_X7_isMark).slots A = zQQ := ⟨_, rfl⟩
  rw [hQQ]
  have hX : XH E A B F M G (va_up T 2 (some (aT, .inl (E.2 1, n.toNat, .inl (fun j : Nat => zi (b j)))))) H := hX.to rfl rfl rfl rfl (up_id T hT2).symm
  have hX : XH E A B F M G (va_up (va_up T 2 (some (aT, .inl (E.2 1, n.toNat, .inl (fun j : Nat => zi (b j)))))) 3 (some (o, .inr (6, [.ref aT, .int (zi fr), .int (zi to_), .int (zi kd), .int (zi vl), .ref (B 49 0)])))) H := hX.to rfl rfl rfl rfl ((up_id ((va_up T 2 (some (aT, .inl (E.2 1, n.toNat, .inl (fun j : Nat => zi (b j))))))) (k := 3) (a := some (o, .inr (6, [.ref aT, .int (zi fr), .int (zi to_), .int (zi kd), .int (zi vl), .ref (B 49 0)]))) hT3).symm)
  refine lv_aload_n C.x C.b dX7_isMark_0 rfl (lv_at hl 0 rfl) ?_
  refine x_tog C hX 3 (by decide) (fs := [.ref aT, .int (zi fr), .int (zi to_), .int (zi kd), .int (zi vl), .ref (B 49 0)]) (ci := 6) rfl in_X7 rfl 3 (by decide) q606 (fun _ h => h) rfl dX7_isMark_1 ?_
  refine r_const C dX7_isMark_4 ?_
  have J21_1 : ∀ (t0 : Int) (ht0 : t0 = bI ((kd = 3) ∧ (vl = c_))) (H : Heap) (locs : List Loc) (ls : Array Slot) (hX : XH E A B F M G (va_up (va_up T 2 (some (aT, .inl (E.2 1, n.toNat, .inl (fun j : Nat => zi (b j)))))) 3 (some (o, .inr (6, [.ref aT, .int (zi fr), .int (zi to_), .int (zi kd), .int (zi vl), .ref (B 49 0)])))) H) (hS : va_S A s.heap H locs) (hl : lv_has ls 2 [(0, .ref o), (1, .int (zi c_))]), W p l e rm_X7_isMark s m args below meth c H locs 0 0 QQ (F0 m 21 ls [.int (zi t0)]) := by
    intro t0 ht0 H locs ls hX hS hl
    subst ht0
    have hX : XH E A B F M G T H := hX.to rfl rfl rfl rfl ((congrArg (fun z : x_T => va_up z 3 (some (o, .inr (6, [.ref aT, .int (zi fr), .int (zi to_), .int (zi kd), .int (zi vl), .ref (B 49 0)])))) (up_id T hT2)).trans (up_id T hT3))
    rw [← hQQ]
    exact r_zret C (bI_e _) hS (Nat.le_of_ble_eq_true rfl) (Nat.le_of_ble_eq_true rfl) dX7_isMark_21 ⟨(bI_c (by first | exact Iff.rfl | (constructor <;> intro _ <;> omega))), hX⟩
  refine r_icmp_ne (tgt := 20) C (by omega) (by decide) dX7_isMark_5 (by decide) (fun c_2 => ?_) (fun c_2 => ?_)
  · refine r_const C dX7_isMark_20 ?_
    exact J21_1 0 ((bI_f (fun q => c_2 q.1)).symm) H locs ls hX hS hl
  · refine lv_aload_n C.x C.b dX7_isMark_8 rfl (lv_at hl 0 rfl) ?_
    refine x_tog C hX 3 (by decide) (fs := [.ref aT, .int (zi fr), .int (zi to_), .int (zi kd), .int (zi vl), .ref (B 49 0)]) (ci := 6) rfl in_X7 rfl 4 (by decide) q607 (fun _ h => h) rfl dX7_isMark_9 ?_
    refine lv_iload_n C.x C.b dX7_isMark_12 rfl (lv_at hl 1 rfl) ?_
    refine r_icmp_ne (tgt := 20) C (by omega) (by omega) dX7_isMark_13 (by decide) (fun c_3 => ?_) (fun c_3 => ?_)
    · refine r_const C dX7_isMark_20 ?_
      exact J21_1 0 ((bI_f (fun q => c_3 q.2)).symm) H locs ls hX hS hl
    · refine r_const C dX7_isMark_16 ?_
      refine lv_goto (tgt := 21) C.x C.b dX7_isMark_17 (by decide) ?_
      exact J21_1 1 ((bI_t ⟨c_2, c_3⟩).symm) H locs ls hX hS hl

theorem hd_X7_isSpelt : yX7_isSpelt.cls = RX7 ∧ yX7_isSpelt.cls ≠ "java/lang/invoke/MethodHandle" ∧ yX7_isSpelt.cls ≠ "java/lang/invoke/VarHandle" ∧ (parseMethodDescriptor yX7_isSpelt.desc).map (fun d => d.parameters.length) = some 1 := by decide +kernel
abbrev rm_X7_isSpelt : Room := { frames := 4, cells := 0, slots := 0, locals := 85 }
set_option maxHeartbeats 8000000 in
theorem met_X7_isSpelt (l : Launch) (E : us_E) (A : Nat → Prop) (B : Nat → Int → Nat) (F : Nat → Int) (M : Nat → Int → Int) (G : Nat → Int → Option Nat) (T : x_T) (aT : Nat) (n : Int) (b : Int → Int) (fr : Int) (to_ : Int) (kd : Int) (vl : Int) (o : Nat) (i : Nat) (hn : 0 ≤ n ∧ n ≤ 160) (hT2 : T 2 = some (aT, .inl (E.2 1, n.toNat, .inl (fun j : Nat => zi (b j))))) (hT3 : T 3 = some (o, .inr (6, [.ref aT, .int (zi fr), .int (zi to_), .int (zi kd), .int (zi vl), .ref (B 49 0)]))) (hi : i < 6) (hft : 0 ≤ fr ∧ fr ≤ to_ ∧ to_ ≤ 161) : cMet l yX7_isSpelt cX7_isSpelt 4 (some .boolean) rm_X7_isSpelt A E [.ref o, .ref (E.2 (110 + i))] (fun H => XH E A B F M G T H) (qi A (fun r H => (r = bI (spW b n fr to_ i)) ∧ XH E A B F M G T H)) := by
  refine cMet.of (by decide) (Nat.le_of_ble_eq_true rfl) (fun p e s m args below meth c C hnm hX hS ls hl => ?_)
  have C : Cx p s m args meth c A RX7 cX7_isSpelt 4 (some .boolean) E := C
  have hX : XH E A B F M G T s.heap := hX
  have hl : lv_has ls 4 [(0, .ref o), (1, .ref (E.2 (110 + i)))] := hl
  generalize hH : s.heap = H at hX
  have hS : va_S A s.heap H [] := by rw [← hH]; exact hS
  generalize hlocs : ([] : List Loc) = locs at hS ⊢
  obtain ⟨QQ, hQQ⟩ : ∃ zQQ, MQ below (qi A (fun r H => (r = bI (spW b n fr to_ i)) ∧ XH E A B F M G T H)) args s (rm_X7_isSpelt).cells (rm_X7_isSpelt).slots A = zQQ := ⟨_, rfl⟩
  rw [hQQ]
  have hlz := lenZ_r i hi
  have hX : XH E A B F M G (va_up T 2 (some (aT, .inl (E.2 1, n.toNat, .inl (fun j : Nat => zi (b j)))))) H := hX.to rfl rfl rfl rfl (up_id T hT2).symm
  have hX : XH E A B F M G (va_up (va_up T 2 (some (aT, .inl (E.2 1, n.toNat, .inl (fun j : Nat => zi (b j)))))) 3 (some (o, .inr (6, [.ref aT, .int (zi fr), .int (zi to_), .int (zi kd), .int (zi vl), .ref (B 49 0)])))) H := hX.to rfl rfl rfl rfl ((up_id ((va_up T 2 (some (aT, .inl (E.2 1, n.toNat, .inl (fun j : Nat => zi (b j))))))) (k := 3) (a := some (o, .inr (6, [.ref aT, .int (zi fr), .int (zi to_), .int (zi kd), .int (zi vl), .ref (B 49 0)]))) hT3).symm)
  refine lv_aload_n C.x C.b dX7_isSpelt_0 rfl (lv_at hl 1 rfl) ?_
  refine r_callVi (As := []) (rest := []) (cells' := 0) (slots' := 0) C (met_J6_length l E A H i (show i < 6 from (by omega))) (lw_V q459 q460 q461 q95 q462) hd_J6_length rfl (by decide) (xs_recv C hS hi) rfl hS hl.1 rfl (Nat.le_of_ble_eq_true rfl) dX7_isSpelt_1 rfl rfl ⟨Nat.le_of_ble_eq_true rfl, Nat.le_of_ble_eq_true rfl⟩ (fun rr H locs hp hS => ?_)
  obtain ⟨hrr, hH⟩ := hp
  have hrr : rr = lenZ i := hrr
  subst hrr
  have hX : XH E A B F M G (va_up (va_up T 2 (some (aT, .inl (E.2 1, n.toNat, .inl (fun j : Nat => zi (b j)))))) 3 (some (o, .inr (6, [.ref aT, .int (zi fr), .int (zi to_), .int (zi kd), .int (zi vl), .ref (B 49 0)])))) H := by rw [hH]; exact hX
  refine lv_aload_n C.x C.b dX7_isSpelt_4 rfl (lv_at hl 0 rfl) ?_
  refine x_tog C hX 3 (by decide) (fs := [.ref aT, .int (zi fr), .int (zi to_), .int (zi kd), .int (zi vl), .ref (B 49 0)]) (ci := 6) rfl in_X7 rfl 2 (by decide) q605 (fun _ h => h) rfl dX7_isSpelt_5 ?_
  refine lv_aload_n C.x C.b dX7_isSpelt_8 rfl (lv_at hl 0 rfl) ?_
  refine x_tog C hX 3 (by decide) (fs := [.ref aT, .int (zi fr), .int (zi to_), .int (zi kd), .int (zi vl), .ref (B 49 0)]) (ci := 6) rfl in_X7 rfl 1 (by decide) q604 (fun _ h => h) rfl dX7_isSpelt_9 ?_
  refine r_isub C dX7_isSpelt_12 ?_
  have J21_1 : ∀ (t0 : Int) (ht0 : t0 = bI ((lenZ i) = (to_ - fr))) (H : Heap) (locs : List Loc) (ls : Array Slot) (hX : XH E A B F M G (va_up (va_up T 2 (some (aT, .inl (E.2 1, n.toNat, .inl (fun j : Nat => zi (b j)))))) 3 (some (o, .inr (6, [.ref aT, .int (zi fr), .int (zi to_), .int (zi kd), .int (zi vl), .ref (B 49 0)])))) H) (hS : va_S A s.heap H locs) (hl : lv_has ls 4 [(0, .ref o), (1, .ref (E.2 (110 + i)))]), W p l e rm_X7_isSpelt s m args below meth c H locs 0 0 QQ (F0 m 21 ls [.int (zi t0)]) := by
    intro t0 ht0 H locs ls hX hS hl
    subst ht0
    refine lv_istore_n (lv' := [(2, .int (zi (bI ((lenZ i) = (to_ - fr))))), (0, .ref o), (1, .ref (E.2 (110 + i)))]) C.x C.b dX7_isSpelt_21 rfl hl (by decide) rfl (fun ls hl => ?_)
    refine r_const C dX7_isSpelt_22 ?_
    refine lv_istore_n (lv' := [(3, .int (zi 0)), (2, .int (zi (bI ((lenZ i) = (to_ - fr))))), (0, .ref o), (1, .ref (E.2 (110 + i)))]) C.x C.b dX7_isSpelt_23 rfl hl (by decide) rfl (fun ls hl => ?_)
    have L24 : ∀ (fu : Nat) (v2 : Prop) (xv2 : Int) (hv2 : xv2 = bI v2) (v3 : Int) (h3 : 0 ≤ v3 ∧ v3 ≤ lenZ i) (hv : v2 ↔ (lenZ i = to_ - fr ∧ ∀ j : Int, 0 ≤ j → j < v3 → byZ i j = lkx b n (fr + j))) (hm : Int.toNat (lenZ i - v3) < fu) (H : Heap) (locs : List Loc) (ls : Array Slot) (hX : XH E A B F M G (va_up (va_up T 2 (some (aT, .inl (E.2 1, n.toNat, .inl (fun j : Nat => zi (b j)))))) 3 (some (o, .inr (6, [.ref aT, .int (zi fr), .int (zi to_), .int (zi kd), .int (zi vl), .ref (B 49 0)])))) H) (hS : va_S A s.heap H locs) (hl : lv_has ls 4 [(0, .ref o), (1, .ref (E.2 (110 + i))), (2, .int (zi xv2)), (3, .int (zi v3))]), W p l e rm_X7_isSpelt s m args below meth c H locs 0 0 QQ (F0 m 24 ls []) := by
      intro fu
      induction fu with
      | zero => intro v2 xv2 hv2 v3 h3 hv hm; exact absurd hm (Nat.not_lt_zero _)
      | succ fu ih24 =>
        intro v2 xv2 hv2 v3 h3 hv hm H locs ls hX hS hl
        subst hv2
        refine lv_iload_n C.x C.b dX7_isSpelt_24 rfl (lv_at hl 3 rfl) ?_
        refine lv_aload_n C.x C.b dX7_isSpelt_25 rfl (lv_at hl 1 rfl) ?_
        refine r_callVi (As := []) (rest := [.int (zi v3)]) (cells' := 0) (slots' := 0) C (met_J6_length l E A H i (show i < 6 from (by omega))) (lw_V q459 q460 q461 q95 q462) hd_J6_length rfl (by decide) (xs_recv C hS hi) rfl hS hl.1 rfl (Nat.le_of_ble_eq_true rfl) dX7_isSpelt_26 rfl rfl ⟨Nat.le_of_ble_eq_true rfl, Nat.le_of_ble_eq_true rfl⟩ (fun rr H locs hp hS => ?_)
        obtain ⟨hrr, hH⟩ := hp
        have hrr : rr = lenZ i := hrr
        subst hrr
        have hX : XH E A B F M G (va_up (va_up T 2 (some (aT, .inl (E.2 1, n.toNat, .inl (fun j : Nat => zi (b j)))))) 3 (some (o, .inr (6, [.ref aT, .int (zi fr), .int (zi to_), .int (zi kd), .int (zi vl), .ref (B 49 0)])))) H := by rw [hH]; exact hX
        refine r_icmp_ge (tgt := 66) C (by omega) (by omega) dX7_isSpelt_29 (by decide) (fun c_2 => ?_) (fun c_2 => ?_)
        · refine lv_iload_n C.x C.b dX7_isSpelt_66 rfl (lv_at hl 2 rfl) ?_
          have hX : XH E A B F M G T H := hX.to rfl rfl rfl rfl ((congrArg (fun z : x_T => va_up z 3 (some (o, .inr (6, [.ref aT, .int (zi fr), .int (zi to_), .int (zi kd), .int (zi vl), .ref (B 49 0)])))) (up_id T hT2)).trans (up_id T hT3))
          rw [← hQQ]
          exact r_zret C (bI_e _) hS (Nat.le_of_ble_eq_true rfl) (Nat.le_of_ble_eq_true rfl) dX7_isSpelt_67 ⟨(bI_c (by unfold spW; first | (have e3 : v3 = lenZ i := by omega); rw [e3] at hv; exact hv | (constructor <;> intro q; exact absurd q (by assumption); refine absurd (hv.2 ⟨q.1, fun j a c => q.2 j a (by omega)⟩) (by assumption)))), hX⟩
        · refine lv_iload_n C.x C.b dX7_isSpelt_32 rfl (lv_at hl 2 rfl) ?_
          refine r_if_eq_b (tgt := 66) C dX7_isSpelt_33 (by decide) (fun c_3 => ?_) (fun c_3 => ?_)
          · refine lv_iload_n C.x C.b dX7_isSpelt_66 rfl (lv_at hl 2 rfl) ?_
            have hX : XH E A B F M G T H := hX.to rfl rfl rfl rfl ((congrArg (fun z : x_T => va_up z 3 (some (o, .inr (6, [.ref aT, .int (zi fr), .int (zi to_), .int (zi kd), .int (zi vl), .ref (B 49 0)])))) (up_id T hT2)).trans (up_id T hT3))
            rw [← hQQ]
            exact r_zret C (bI_e _) hS (Nat.le_of_ble_eq_true rfl) (Nat.le_of_ble_eq_true rfl) dX7_isSpelt_67 ⟨(bI_c (by unfold spW; first | (have e3 : v3 = lenZ i := by omega); rw [e3] at hv; exact hv | (constructor <;> intro q; exact absurd q (by assumption); refine absurd (hv.2 ⟨q.1, fun j a c => q.2 j a (by omega)⟩) (by assumption)))), hX⟩
          · refine lv_aload_n C.x C.b dX7_isSpelt_36 rfl (lv_at hl 1 rfl) ?_
            refine lv_iload_n C.x C.b dX7_isSpelt_37 rfl (lv_at hl 3 rfl) ?_
            refine r_callVi (As := [.int (zi v3)]) (rest := []) (cells' := 0) (slots' := 0) C (met_J6_charAt l E A H i v3 (show i < 6 from (by omega)) (show 0 ≤ v3 ∧ v3 < lenZ i from (by omega))) (lw_V q469 q470 q471 q95 q472) hd_J6_charAt rfl (by decide) (xs_recv C hS hi) rfl hS hl.1 rfl (Nat.le_of_ble_eq_true rfl) dX7_isSpelt_38 rfl rfl ⟨Nat.le_of_ble_eq_true rfl, Nat.le_of_ble_eq_true rfl⟩ (fun rr H locs hp hS => ?_)
            obtain ⟨hrr, hH⟩ := hp
            have hrr : rr = byZ i v3 := hrr
            subst hrr
            have hX : XH E A B F M G (va_up (va_up T 2 (some (aT, .inl (E.2 1, n.toNat, .inl (fun j : Nat => zi (b j)))))) 3 (some (o, .inr (6, [.ref aT, .int (zi fr), .int (zi to_), .int (zi kd), .int (zi vl), .ref (B 49 0)])))) H := by rw [hH]; exact hX
            refine lv_aload_n C.x C.b dX7_isSpelt_41 rfl (lv_at hl 0 rfl) ?_
            refine lv_aload_n C.x C.b dX7_isSpelt_42 rfl (lv_at hl 0 rfl) ?_
            refine x_tog C hX 3 (by decide) (fs := [.ref aT, .int (zi fr), .int (zi to_), .int (zi kd), .int (zi vl), .ref (B 49 0)]) (ci := 6) rfl in_X7 rfl 1 (by decide) q604 (fun _ h => h) rfl dX7_isSpelt_43 ?_
            refine lv_iload_n C.x C.b dX7_isSpelt_46 rfl (lv_at hl 3 rfl) ?_
            refine r_iadd C dX7_isSpelt_47 ?_
            refine r_callVi (As := [.int (zi (fr + v3))]) (rest := [.int (zi (byZ i v3))]) (cells' := 0) (slots' := 0) C (met_X7_at l E A B F M G (va_up (va_up T 2 (some (aT, .inl (E.2 1, n.toNat, .inl (fun j : Nat => zi (b j)))))) 3 (some (o, .inr (6, [.ref aT, .int (zi fr), .int (zi to_), .int (zi kd), .int (zi vl), .ref (B 49 0)])))) aT n b fr to_ kd vl o (fr + v3) (show 0 ≤ n ∧ n ≤ 160 from (by omega)) rfl rfl (show 0 ≤ (fr + v3) ∧ (fr + v3) < 2147483648 from (by omega))) (lw_V q446 q448 qs31 q105 q449) hd_X7_at rfl (by decide) (x_trecv C hX (j := 3) (by decide) rfl (ci := 6) (q := (RX7, TX7, 6)) rfl) hX hS hl.1 rfl (Nat.le_of_ble_eq_true rfl) dX7_isSpelt_48 rfl rfl ⟨Nat.le_of_ble_eq_true rfl, Nat.le_of_ble_eq_true rfl⟩ (fun rr H locs hp hS => ?_)
            obtain ⟨hlx, hrr, hX⟩ := hp
            have hrr : rr = lkx b n (fr + v3) := hrr
            subst hrr
            replace hlx : -4 ≤ lkx b n (fr + v3) ∧ lkx b n (fr + v3) ≤ 255 := hlx
            have hbz := byZ_i hi (show 0 ≤ v3 ∧ v3 < lenZ i by omega)
            have J59_4 : ∀ (t0 : Int) (ht0 : t0 = bI ((byZ i v3) = (lkx b n (fr + v3)))) (H : Heap) (locs : List Loc) (ls : Array Slot) (hX : XH E A B F M G (va_up (va_up T 2 (some (aT, .inl (E.2 1, n.toNat, .inl (fun j : Nat => zi (b j)))))) 3 (some (o, .inr (6, [.ref aT, .int (zi fr), .int (zi to_), .int (zi kd), .int (zi vl), .ref (B 49 0)])))) H) (hS : va_S A s.heap H locs) (hl : lv_has ls 4 [(0, .ref o), (1, .ref (E.2 (110 + i))), (2, .int (zi (bI v2))), (3, .int (zi v3))]), W p l e rm_X7_isSpelt s m args below meth c H locs 0 0 QQ (F0 m 59 ls [.int (zi t0)]) := by
              intro t0 ht0 H locs ls hX hS hl
              subst ht0
              refine lv_istore_n (lv' := [(2, .int (zi (bI ((byZ i v3) = (lkx b n (fr + v3)))))), (0, .ref o), (1, .ref (E.2 (110 + i))), (3, .int (zi v3))]) C.x C.b dX7_isSpelt_59 rfl hl (by decide) rfl (fun ls hl => ?_)
              have hst : (byZ i v3 = lkx b n (fr + v3)) ↔ (lenZ i = to_ - fr ∧ ∀ j : Int, 0 ≤ j → j < v3 + 1 → byZ i j = lkx b n (fr + j)) := by
                have q := ba_st (P := fun j => byZ i j = lkx b n (fr + j)) h3.1 hv
                rw [← q]
                exact ⟨fun z => ⟨by assumption, z⟩, fun z => z.2⟩
              refine r_iinc (lv' := [(3, .int (zi (v3 + 1))), (2, .int (zi (bI ((byZ i v3) = (lkx b n (fr + v3)))))), (0, .ref o), (1, .ref (E.2 (110 + i)))]) C dX7_isSpelt_60 hl (k := 3) rfl (by decide) rfl (fun ls hl => ?_)
              refine lv_goto (tgt := 24) C.x C.b dX7_isSpelt_63 (by decide) ?_
              exact ih24 ((byZ i v3) = (lkx b n (fr + v3))) (bI ((byZ i v3) = (lkx b n (fr + v3)))) rfl (v3 + 1) (by omega) hst (by omega) H locs ls hX hS (lv_sub hl [2, 3, 1, 0] rfl)
            refine r_icmp_ne (tgt := 58) C (by omega) (by omega) dX7_isSpelt_51 (by decide) (fun c_5 => ?_) (fun c_5 => ?_)
            · refine r_const C dX7_isSpelt_58 ?_
              exact J59_4 0 ((bI_f c_5).symm) H locs ls hX hS hl
            · refine r_const C dX7_isSpelt_54 ?_
              refine lv_goto (tgt := 59) C.x C.b dX7_isSpelt_55 (by decide) ?_
              exact J59_4 1 ((bI_t c_5).symm) H locs ls hX hS hl
    exact L24 _ ((lenZ i) = (to_ - fr)) (bI ((lenZ i) = (to_ - fr))) rfl 0 (by omega) ba_0 (Nat.lt_succ_self _) H locs ls hX hS (lv_sub hl [2, 3, 1, 0] rfl)
  refine r_icmp_ne (tgt := 20) C (by omega) (by omega) dX7_isSpelt_13 (by decide) (fun c_6 => ?_) (fun c_6 => ?_)
  · refine r_const C dX7_isSpelt_20 ?_
    exact J21_1 0 ((bI_f c_6).symm) H locs ls hX hS hl
  · refine r_const C dX7_isSpelt_16 ?_
    refine lv_goto (tgt := 21) C.x C.b dX7_isSpelt_17 (by decide) ?_
    exact J21_1 1 ((bI_t c_6).symm) H locs ls hX hS hl

theorem hd_X7_must : yX7_must.cls = RX7 ∧ yX7_must.cls ≠ "java/lang/invoke/MethodHandle" ∧ yX7_must.cls ≠ "java/lang/invoke/VarHandle" ∧ (parseMethodDescriptor yX7_must.desc).map (fun d => d.parameters.length) = some 2 := by decide +kernel
abbrev rm_X7_must : Room := { frames := 5, cells := 1, slots := 8, locals := 114 }
set_option maxHeartbeats 8000000 in
theorem met_X7_must (l : Launch) (E : us_E) (A : Nat → Prop) (B : Nat → Int → Nat) (F : Nat → Int) (M : Nat → Int → Int) (G : Nat → Int → Option Nat) (T : x_T) (aT : Nat) (n : Int) (b : Int → Int) (fr : Int) (to_ : Int) (kd : Int) (vl : Int) (o : Nat) (g : Prop) (c_ : Int) (hn : 0 ≤ n ∧ n ≤ 160) (hT2 : T 2 = some (aT, .inl (E.2 1, n.toNat, .inl (fun j : Nat => zi (b j))))) (hT3 : T 3 = some (o, .inr (6, [.ref aT, .int (zi fr), .int (zi to_), .int (zi kd), .int (zi vl), .ref (B 49 0)]))) (hc_ : -2147483648 ≤ c_ ∧ c_ < 2147483648) (hfr : 0 ≤ fr ∧ fr ≤ 160) : cMetX l yX7_must cX7_must 3 none rm_X7_must A E [.ref o, .int (zi (bI g)), .int (zi c_)] (fun H => XH E A B F M G T H) (qv A (fun H => g ∧ XH E A B F M G T H)) (fun qf En H => En = "UnreadScript$Fault" ∧ ¬ g ∧ (XH E A B F M G (va_up (va_up (va_up T 2 (some (aT, .inl (E.2 1, n.toNat, .inl (fun j : Nat => zi (b j)))))) 3 (some (o, .inr (6, [.ref aT, .int (zi fr), .int (zi to_), .int (zi kd), .int (zi vl), .ref (B 49 0)])))) 5 (some (qf, .inr (8, [.null, .null, .null, .null, .null, .int (zi 0), .int (zi c_), .int (zi fr)])))) H)) := by
  refine cMetX.of (by decide) (Nat.le_of_ble_eq_true rfl) (fun p e s m args below meth c C hnm hnt hX hS ls hl => ?_)
  have C : Cx p s m args meth c A RX7 cX7_must 3 none E := C
  have hX : XH E A B F M G T s.heap := hX
  have hl : lv_has ls 3 [(0, .ref o), (1, .int (zi (bI g))), (2, .int (zi c_))] := hl
  generalize hH : s.heap = H at hX
  have hS : va_S A s.heap H [] := by rw [← hH]; exact hS
  generalize hlocs : ([] : List Loc) = locs at hS ⊢
  obtain ⟨QQ, hQQ⟩ : ∃ zQQ, vq_MQ below (qv A (fun H => g ∧ XH E A B F M G T H)) (qx A (fun qf En H => En = "UnreadScript$Fault" ∧ ¬ g ∧ (XH E A B F M G (va_up (va_up (va_up T 2 (some (aT, .inl (E.2 1, n.toNat, .inl (fun j : Nat => zi (b j)))))) 3 (some (o, .inr (6, [.ref aT, .int (zi fr), .int (zi to_), .int (zi kd), .int (zi vl), .ref (B 49 0)])))) 5 (some (qf, .inr (8, [.null, .null, .null, .null, .null, .int (zi 0), .int (zi c_), .int (zi fr)])))) H))) args s (rm_X7_must).cells (rm_X7_must).slots A = zQQ := ⟨_, rfl⟩
  rw [hQQ]
  have hX : XH E A B F M G (va_up T 2 (some (aT, .inl (E.2 1, n.toNat, .inl (fun j : Nat => zi (b j)))))) H := hX.to rfl rfl rfl rfl (up_id T hT2).symm
  have hX : XH E A B F M G (va_up (va_up T 2 (some (aT, .inl (E.2 1, n.toNat, .inl (fun j : Nat => zi (b j)))))) 3 (some (o, .inr (6, [.ref aT, .int (zi fr), .int (zi to_), .int (zi kd), .int (zi vl), .ref (B 49 0)])))) H := hX.to rfl rfl rfl rfl ((up_id ((va_up T 2 (some (aT, .inl (E.2 1, n.toNat, .inl (fun j : Nat => zi (b j))))))) (k := 3) (a := some (o, .inr (6, [.ref aT, .int (zi fr), .int (zi to_), .int (zi kd), .int (zi vl), .ref (B 49 0)]))) hT3).symm)
  refine lv_iload_n C.x C.b dX7_must_0 rfl (lv_at hl 1 rfl) ?_
  refine r_if_ne_b (tgt := 17) C dX7_must_1 (by decide) (fun c_1 => ?_) (fun c_1 => ?_)
  · have hX : XH E A B F M G T H := hX.to rfl rfl rfl rfl ((congrArg (fun z : x_T => va_up z 3 (some (o, .inr (6, [.ref aT, .int (zi fr), .int (zi to_), .int (zi kd), .int (zi vl), .ref (B 49 0)])))) (up_id T hT2)).trans (up_id T hT3))
    rw [← hQQ]
    refine vq_ret ?_
    exact r_vret C hS (Nat.le_of_ble_eq_true rfl) (Nat.le_of_ble_eq_true rfl) dX7_must_17 ⟨(by assumption), hX⟩
  · refine x_newo C hX hS 5 (by decide) (ci := 8) rfl in_X8 tyX8 tyX8_ok q511 q512 q109 [.null, .null, .null, .null, .null, .int (zi 0), .int (zi 0), .int (zi 0)] (fun j hj => by rcases (show j = 0 ∨ j = 1 ∨ j = 2 ∨ j = 3 ∨ j = 4 ∨ j = 5 ∨ j = 6 ∨ j = 7 by omega) with rfl | rfl | rfl | rfl | rfl | rfl | rfl | rfl <;> rfl) (show 0 + 1 ≤ 1 from (by omega)) (show 0 + 8 ≤ 8 from (by omega)) dX7_must_4 (fun ob_2 H hX hS => ?_)
    refine lv_dup C.x C.b dX7_must_7 rfl ?_
    refine lv_iload_n C.x C.b dX7_must_8 rfl (lv_at hl 2 rfl) ?_
    refine lv_aload_n C.x C.b dX7_must_9 rfl (lv_at hl 0 rfl) ?_
    refine x_tog C hX 3 (by decide) (fs := [.ref aT, .int (zi fr), .int (zi to_), .int (zi kd), .int (zi vl), .ref (B 49 0)]) (ci := 6) rfl in_X7 rfl 1 (by decide) q604 (fun _ h => h) rfl dX7_must_10 ?_
    refine r_callIv (As := [.int (zi c_), .int (zi fr)]) (rest := [.ref ob_2]) (cells' := 1) (slots' := 8) C (met_X8_init l E A B F M G (va_up (va_up (va_up T 2 (some (aT, .inl (E.2 1, n.toNat, .inl (fun j : Nat => zi (b j)))))) 3 (some (o, .inr (6, [.ref aT, .int (zi fr), .int (zi to_), .int (zi kd), .int (zi vl), .ref (B 49 0)])))) 5 (some (ob_2, .inr (8, [.null, .null, .null, .null, .null, .int (zi 0), .int (zi 0), .int (zi 0)])))) ob_2 c_ fr (show -2147483648 ≤ c_ ∧ c_ < 2147483648 from (by omega)) (show -2147483648 ≤ fr ∧ fr < 2147483648 from (by omega)) rfl) q569 q109 q567 q568 rfl hd_X8_init.2 rfl (by decide) hX hS hl.1 rfl (Nat.le_of_ble_eq_true rfl) dX7_must_13 rfl rfl ⟨Nat.le_of_ble_eq_true rfl, Nat.le_of_ble_eq_true rfl⟩ (fun H locs hp hS => ?_)
    have hX := hp
    have hX : XH E A B F M G (va_up (va_up (va_up T 2 (some (aT, .inl (E.2 1, n.toNat, .inl (fun j : Nat => zi (b j)))))) 3 (some (o, .inr (6, [.ref aT, .int (zi fr), .int (zi to_), .int (zi kd), .int (zi vl), .ref (B 49 0)])))) 5 (some (ob_2, .inr (8, [.null, .null, .null, .null, .null, .int (zi 0), .int (zi c_), .int (zi fr)])))) H := hX.to rfl rfl rfl rfl (up_up _ _ _ _)
    refine vx_athrow C.x C.b dX7_must_16 ?_
    rw [← hQQ]
    exact r_xthrow C hnt hX hS (Nat.le_of_ble_eq_true rfl) (Nat.le_of_ble_eq_true rfl) (j := 5) (by decide) rfl (r := (RX8, TX8, 8)) rfl ⟨rfl, (by assumption), hX⟩
