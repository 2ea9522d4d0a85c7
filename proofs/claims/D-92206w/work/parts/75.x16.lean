set_option maxRecDepth 100000

theorem hd_X4_init : yX4_init.cls = RX4 ∧ yX4_init.cls ≠ "java/lang/invoke/MethodHandle" ∧ yX4_init.cls ≠ "java/lang/invoke/VarHandle" ∧ (parseMethodDescriptor yX4_init.desc).map (fun d => d.parameters.length) = some 2 := by decide +kernel
abbrev rm_X4_init_n : Room := { frames := 1, cells := 1, slots := 8, locals := 20 }
set_option maxHeartbeats 8000000 in
theorem met_X4_init_n (l : Launch) (E : us_E) (A : Nat → Prop) (B : Nat → Int → Nat) (F : Nat → Int) (M : Nat → Int → Int) (G : Nat → Int → Option Nat) (T : x_T) (o : Nat) (n : Int) (v : Int) (hn : 1 ≤ n ∧ n ≤ 8) (hv : 0 ≤ v ∧ v < 2147483648) (hT1 : T 1 = some (o, .inr (2, [.null]))) : cMet l yX4_init cX4_init 4 none rm_X4_init_n A E [.ref o, .int (zi n), .int (zi v)] (fun H => XH E A B F M G T H) (qv A (fun H => ∃ a : Nat, ∃ g : Int → Int, (∀ j : Int, 0 ≤ j → j < n → g j = snd v (n - 1 - j)) ∧ (∀ j : Int, n ≤ j → g j = 0) ∧ (∀ j : Int, 0 ≤ g j ∧ g j ≤ 3) ∧ XH E A B F M G (va_up (va_up T 0 (some (tA E a n.toNat g))) 1 (some (o, .inr (2, [.ref a])))) H)) := by
  refine cMet.of (by decide) (Nat.le_of_ble_eq_true rfl) (fun p e s m args below meth c C hnm hX hS ls hl => ?_)
  have C : Cx p s m args meth c A RX4 cX4_init 4 none E := C
  have hX : XH E A B F M G T s.heap := hX
  have hl : lv_has ls 4 [(0, .ref o), (1, .int (zi n)), (2, .int (zi v))] := hl
  generalize hH : s.heap = H at hX
  have hS : va_S A s.heap H [] := by rw [← hH]; exact hS
  generalize hlocs : ([] : List Loc) = locs at hS ⊢
  obtain ⟨QQ, hQQ⟩ : ∃ zQQ, MQ below (qv A (fun H => ∃ a : Nat, ∃ g : Int → Int, (∀ j : Int, 0 ≤ j → j < n → g j = snd v (n - 1 - j)) ∧ (∀ j : Int, n ≤ j → g j = 0) ∧ (∀ j : Int, 0 ≤ g j ∧ g j ≤ 3) ∧ XH E A B F M G (va_up (va_up T 0 (some (tA E a n.toNat g))) 1 (some (o, .inr (2, [.ref a])))) H)) args s (rm_X4_init_n).cells (rm_X4_init_n).slots A = zQQ := ⟨_, rfl⟩
  rw [hQQ]
  have hX : XH E A B F M G (va_up T 1 (some (o, .inr (2, [.null])))) H := hX.to rfl rfl rfl rfl ((up_id (T) hT1).symm)
  refine lv_aload_n C.x C.b dX4_init_0 rfl (lv_at hl 0 rfl) ?_
  refine r_obj C hl.1 q316 (Nat.le_of_ble_eq_true rfl) (by decide) dX4_init_1 ?_
  refine lv_aload_n C.x C.b dX4_init_4 rfl (lv_at hl 0 rfl) ?_
  refine lv_iload_n C.x C.b dX4_init_5 rfl (lv_at hl 1 rfl) ?_
  refine x_newi C hX hS 0 (by decide) (v := n) (show 0 ≤ n ∧ n ≤ 1000 from (by omega)) q325 (show 0 + 1 ≤ 1 from (by omega)) (show 0 + (n).toNat ≤ 8 from (by omega)) dX4_init_6 (fun ta_1 H hX hS => ?_)
  have hX : XH E A B F M G (va_up (va_up T 0 (some (tA E ta_1 (n).toNat (fun _ => 0)))) 1 (some (o, .inr (2, [.null])))) H := hX.to rfl rfl rfl rfl (up_in (by decide) rfl)
  refine x_topF C hX hS 1 (by decide) (fs := [.null]) (ci := 2) rfl in_X5 rfl tyX5 tyX5_ok nmX5 0 (by decide) q319 (fun _ h => h) rfl hnm rfl rfl rfl (by show 0 < 1; decide) (T' := (va_up (va_up T 0 (some (tA E ta_1 (n).toNat (fun _ => 0)))) 1 (some (o, .inr (2, [.ref ta_1]))))) (up_up _ _ _ _) dX4_init_8 (fun H locs hX hS => ?_)
  refine r_const C dX4_init_11 ?_
  refine lv_istore_n (lv' := [(3, .int (zi 0)), (0, .ref o), (1, .int (zi n)), (2, .int (zi v))]) C.x C.b dX4_init_12 rfl hl (by decide) rfl (fun ls hl => ?_)
  have L13 : ∀ (fu : Nat) (v3 : Int) (tt0 : Option (Nat × va_E)) (g13 : Int → Int) (h3 : 0 ≤ v3 ∧ v3 ≤ n) (hg1 : ∀ j : Int, 0 ≤ j → j < v3 → g13 j = snd v (n - 1 - j)) (hg0 : ∀ j : Int, v3 ≤ j → g13 j = 0) (hgb : ∀ j : Int, 0 ≤ g13 j ∧ g13 j ≤ 3) (hm : Int.toNat (n - v3) < fu) (H : Heap) (locs : List Loc) (ls : Array Slot) (hX : XH E A B F M G (va_up (va_up T 0 (some (tA E ta_1 (n).toNat g13))) 1 (some (o, .inr (2, [.ref ta_1])))) H) (hS : va_S A s.heap H locs) (hl : lv_has ls 4 [(0, .ref o), (1, .int (zi n)), (2, .int (zi v)), (3, .int (zi v3))]), W p l e rm_X4_init_n s m args below meth c H locs 1 (0 + (n).toNat) QQ (F0 m 13 ls []) := by
    intro fu
    induction fu with
    | zero => intro v3 tt0 g13 h3 hg1 hg0 hgb hm; exact absurd hm (Nat.not_lt_zero _)
    | succ fu ih13 =>
      intro v3 tt0 g13 h3 hg1 hg0 hgb hm H locs ls hX hS hl
      refine lv_iload_n C.x C.b dX4_init_13 rfl (lv_at hl 3 rfl) ?_
      refine lv_iload_n C.x C.b dX4_init_14 rfl (lv_at hl 1 rfl) ?_
      refine r_icmp_ge (tgt := 41) C (by omega) (by omega) dX4_init_15 (by decide) (fun c_2 => ?_) (fun c_2 => ?_)
      · rw [← hQQ]
        exact r_vret C hS (Nat.le_of_ble_eq_true rfl) (show 0 + (n).toNat ≤ 8 from by omega) dX4_init_41 ⟨ta_1, g13, (fun j a b => hg1 j a (by omega)), (fun j a => hg0 j (by omega)), hgb, hX⟩
      · refine lv_aload_n C.x C.b dX4_init_18 rfl (lv_at hl 0 rfl) ?_
        refine x_tog C hX 1 (by decide) (fs := [.ref ta_1]) (ci := 2) rfl in_X5 rfl 0 (by decide) q319 (fun _ h => h) rfl dX4_init_19 ?_
        refine lv_iload_n C.x C.b dX4_init_22 rfl (lv_at hl 3 rfl) ?_
        refine lv_iload_n C.x C.b dX4_init_23 rfl (lv_at hl 2 rfl) ?_
        refine r_const C dX4_init_24 ?_
        refine lv_iload_n C.x C.b dX4_init_25 rfl (lv_at hl 1 rfl) ?_
        refine r_const C dX4_init_26 ?_
        refine r_isub C dX4_init_27 ?_
        refine lv_iload_n C.x C.b dX4_init_28 rfl (lv_at hl 3 rfl) ?_
        refine r_isub C dX4_init_29 ?_
        refine r_imul C dX4_init_30 ?_
        refine r_ishr C (by omega) (by omega) rfl dX4_init_31 ?_
        refine r_const C dX4_init_32 ?_
        refine r_iand C (zi_and3 _) dX4_init_33 ?_
        refine x_tsi C hX hS 0 (by decide) (a := ta_1) (n := (n).toNat) (g := g13) rfl (show 0 ≤ v3 ∧ v3 < (((n).toNat : Nat) : Int) from (by omega)) (show (n).toNat < 2147483648 from by omega) (T' := (va_up (va_up T 0 (some (tA E ta_1 (n).toNat (fup g13 v3 ((v / 2 ^ (2 * ((n - 1) - v3)).toNat) % 4))))) 1 (some (o, .inr (2, [.ref ta_1]))))) (up_in (by decide) (up_up _ _ _ _)) dX4_init_34 (fun H locs hX hS => ?_)
        refine r_iinc (lv' := [(3, .int (zi (v3 + 1))), (0, .ref o), (1, .int (zi n)), (2, .int (zi v))]) C dX4_init_35 hl (k := 3) rfl (by decide) rfl (fun ls hl => ?_)
        refine lv_goto (tgt := 13) C.x C.b dX4_init_38 (by decide) ?_
        exact ih13 (v3 + 1) (some (tA E ta_1 (n).toNat (fup g13 v3 ((v / 2 ^ (2 * ((n - 1) - v3)).toNat) % 4)))) (fup g13 v3 ((v / 2 ^ (2 * ((n - 1) - v3)).toNat) % 4)) (by omega) (fup_st (P := fun j x => x = snd v (n - 1 - j)) hg1 rfl) (fun j a => by rw [fup_n _ _ (by omega)]; exact hg0 j (by omega)) (fun j => by by_cases q : j = v3; exact (by rw [q, fup_s]; omega); rw [fup_n _ _ q]; exact hgb j) (by omega) H locs ls hX hS (lv_sub hl [1, 2, 3, 0] rfl)
  exact L13 _ 0 (some (tA E ta_1 (n).toNat (fun _ => 0))) (fun _ => 0) (by omega) (fun j a b => absurd a (by omega)) (fun _ _ => rfl) (fun _ => ⟨Int.le_refl 0, by show (0 : Int) ≤ 3; omega⟩) (Nat.lt_succ_self _) H locs ls hX hS (lv_sub hl [1, 2, 3, 0] rfl)

abbrev rm_X4_init_w : Room := { frames := 1, cells := 1, slots := 8, locals := 20 }
set_option maxHeartbeats 8000000 in
theorem met_X4_init_w (l : Launch) (E : us_E) (A : Nat → Prop) (B : Nat → Int → Nat) (F : Nat → Int) (M : Nat → Int → Int) (G : Nat → Int → Option Nat) (T : x_T) (o : Nat) (n : Int) (v : Int) (hn : 1 ≤ n ∧ n ≤ 8) (hv : 0 ≤ v ∧ v < 2147483648) (hT1 : T 1 = some (o, .inr (3, [.null]))) : cMet l yX4_init cX4_init 4 none rm_X4_init_w A E [.ref o, .int (zi n), .int (zi v)] (fun H => XH E A B F M G T H) (qv A (fun H => ∃ a : Nat, ∃ g : Int → Int, (∀ j : Int, 0 ≤ j → j < n → g j = snd v (n - 1 - j)) ∧ (∀ j : Int, n ≤ j → g j = 0) ∧ (∀ j : Int, 0 ≤ g j ∧ g j ≤ 3) ∧ XH E A B F M G (va_up (va_up T 0 (some (tA E a n.toNat g))) 1 (some (o, .inr (3, [.ref a])))) H)) := by
  refine cMet.of (by decide) (Nat.le_of_ble_eq_true rfl) (fun p e s m args below meth c C hnm hX hS ls hl => ?_)
  have C : Cx p s m args meth c A RX4 cX4_init 4 none E := C
  have hX : XH E A B F M G T s.heap := hX
  have hl : lv_has ls 4 [(0, .ref o), (1, .int (zi n)), (2, .int (zi v))] := hl
  generalize hH : s.heap = H at hX
  have hS : va_S A s.heap H [] := by rw [← hH]; exact hS
  generalize hlocs : ([] : List Loc) = locs at hS ⊢
  obtain ⟨QQ, hQQ⟩ : ∃ zQQ, MQ below (qv A (fun H => ∃ a : Nat, ∃ g : Int → Int, (∀ j : Int, 0 ≤ j → j < n → g j = snd v (n - 1 - j)) ∧ (∀ j : Int, n ≤ j → g j = 0) ∧ (∀ j : Int, 0 ≤ g j ∧ g j ≤ 3) ∧ XH E A B F M G (va_up (va_up T 0 (some (tA E a n.toNat g))) 1 (some (o, .inr (3, [.ref a])))) H)) args s (rm_X4_init_w).cells (rm_X4_init_w).slots A = zQQ := ⟨_, rfl⟩
  rw [hQQ]
  have hX : XH E A B F M G (va_up T 1 (some (o, .inr (3, [.null])))) H := hX.to rfl rfl rfl rfl ((up_id (T) hT1).symm)
  refine lv_aload_n C.x C.b dX4_init_0 rfl (lv_at hl 0 rfl) ?_
  refine r_obj C hl.1 q316 (Nat.le_of_ble_eq_true rfl) (by decide) dX4_init_1 ?_
  refine lv_aload_n C.x C.b dX4_init_4 rfl (lv_at hl 0 rfl) ?_
  refine lv_iload_n C.x C.b dX4_init_5 rfl (lv_at hl 1 rfl) ?_
  refine x_newi C hX hS 0 (by decide) (v := n) (show 0 ≤ n ∧ n ≤ 1000 from (by omega)) q325 (show 0 + 1 ≤ 1 from (by omega)) (show 0 + (n).toNat ≤ 8 from (by omega)) dX4_init_6 (fun ta_1 H hX hS => ?_)
  have hX : XH E A B F M G (va_up (va_up T 0 (some (tA E ta_1 (n).toNat (fun _ => 0)))) 1 (some (o, .inr (3, [.null])))) H := hX.to rfl rfl rfl rfl (up_in (by decide) rfl)
  refine x_topF C hX hS 1 (by decide) (fs := [.null]) (ci := 3) rfl in_X6 rfl tyX6 tyX6_ok nmX6 0 (by decide) q319 (fun _ h => h) rfl hnm rfl rfl rfl (by show 0 < 1; decide) (T' := (va_up (va_up T 0 (some (tA E ta_1 (n).toNat (fun _ => 0)))) 1 (some (o, .inr (3, [.ref ta_1]))))) (up_up _ _ _ _) dX4_init_8 (fun H locs hX hS => ?_)
  refine r_const C dX4_init_11 ?_
  refine lv_istore_n (lv' := [(3, .int (zi 0)), (0, .ref o), (1, .int (zi n)), (2, .int (zi v))]) C.x C.b dX4_init_12 rfl hl (by decide) rfl (fun ls hl => ?_)
  have L13 : ∀ (fu : Nat) (v3 : Int) (tt0 : Option (Nat × va_E)) (g13 : Int → Int) (h3 : 0 ≤ v3 ∧ v3 ≤ n) (hg1 : ∀ j : Int, 0 ≤ j → j < v3 → g13 j = snd v (n - 1 - j)) (hg0 : ∀ j : Int, v3 ≤ j → g13 j = 0) (hgb : ∀ j : Int, 0 ≤ g13 j ∧ g13 j ≤ 3) (hm : Int.toNat (n - v3) < fu) (H : Heap) (locs : List Loc) (ls : Array Slot) (hX : XH E A B F M G (va_up (va_up T 0 (some (tA E ta_1 (n).toNat g13))) 1 (some (o, .inr (3, [.ref ta_1])))) H) (hS : va_S A s.heap H locs) (hl : lv_has ls 4 [(0, .ref o), (1, .int (zi n)), (2, .int (zi v)), (3, .int (zi v3))]), W p l e rm_X4_init_w s m args below meth c H locs 1 (0 + (n).toNat) QQ (F0 m 13 ls []) := by
    intro fu
    induction fu with
    | zero => intro v3 tt0 g13 h3 hg1 hg0 hgb hm; exact absurd hm (Nat.not_lt_zero _)
    | succ fu ih13 =>
      intro v3 tt0 g13 h3 hg1 hg0 hgb hm H locs ls hX hS hl
      refine lv_iload_n C.x C.b dX4_init_13 rfl (lv_at hl 3 rfl) ?_
      refine lv_iload_n C.x C.b dX4_init_14 rfl (lv_at hl 1 rfl) ?_
      refine r_icmp_ge (tgt := 41) C (by omega) (by omega) dX4_init_15 (by decide) (fun c_2 => ?_) (fun c_2 => ?_)
      · rw [← hQQ]
        exact r_vret C hS (Nat.le_of_ble_eq_true rfl) (show 0 + (n).toNat ≤ 8 from by omega) dX4_init_41 ⟨ta_1, g13, (fun j a b => hg1 j a (by omega)), (fun j a => hg0 j (by omega)), hgb, hX⟩
      · refine lv_aload_n C.x C.b dX4_init_18 rfl (lv_at hl 0 rfl) ?_
        refine x_tog C hX 1 (by decide) (fs := [.ref ta_1]) (ci := 3) rfl in_X6 rfl 0 (by decide) q319 (fun _ h => h) rfl dX4_init_19 ?_
        refine lv_iload_n C.x C.b dX4_init_22 rfl (lv_at hl 3 rfl) ?_
        refine lv_iload_n C.x C.b dX4_init_23 rfl (lv_at hl 2 rfl) ?_
        refine r_const C dX4_init_24 ?_
        refine lv_iload_n C.x C.b dX4_init_25 rfl (lv_at hl 1 rfl) ?_
        refine r_const C dX4_init_26 ?_
        refine r_isub C dX4_init_27 ?_
        refine lv_iload_n C.x C.b dX4_init_28 rfl (lv_at hl 3 rfl) ?_
        refine r_isub C dX4_init_29 ?_
        refine r_imul C dX4_init_30 ?_
        refine r_ishr C (by omega) (by omega) rfl dX4_init_31 ?_
        refine r_const C dX4_init_32 ?_
        refine r_iand C (zi_and3 _) dX4_init_33 ?_
        refine x_tsi C hX hS 0 (by decide) (a := ta_1) (n := (n).toNat) (g := g13) rfl (show 0 ≤ v3 ∧ v3 < (((n).toNat : Nat) : Int) from (by omega)) (show (n).toNat < 2147483648 from by omega) (T' := (va_up (va_up T 0 (some (tA E ta_1 (n).toNat (fup g13 v3 ((v / 2 ^ (2 * ((n - 1) - v3)).toNat) % 4))))) 1 (some (o, .inr (3, [.ref ta_1]))))) (up_in (by decide) (up_up _ _ _ _)) dX4_init_34 (fun H locs hX hS => ?_)
        refine r_iinc (lv' := [(3, .int (zi (v3 + 1))), (0, .ref o), (1, .int (zi n)), (2, .int (zi v))]) C dX4_init_35 hl (k := 3) rfl (by decide) rfl (fun ls hl => ?_)
        refine lv_goto (tgt := 13) C.x C.b dX4_init_38 (by decide) ?_
        exact ih13 (v3 + 1) (some (tA E ta_1 (n).toNat (fup g13 v3 ((v / 2 ^ (2 * ((n - 1) - v3)).toNat) % 4)))) (fup g13 v3 ((v / 2 ^ (2 * ((n - 1) - v3)).toNat) % 4)) (by omega) (fup_st (P := fun j x => x = snd v (n - 1 - j)) hg1 rfl) (fun j a => by rw [fup_n _ _ (by omega)]; exact hg0 j (by omega)) (fun j => by by_cases q : j = v3; exact (by rw [q, fup_s]; omega); rw [fup_n _ _ q]; exact hgb j) (by omega) H locs ls hX hS (lv_sub hl [1, 2, 3, 0] rfl)
  exact L13 _ 0 (some (tA E ta_1 (n).toNat (fun _ => 0))) (fun _ => 0) (by omega) (fun j a b => absurd a (by omega)) (fun _ _ => rfl) (fun _ => ⟨Int.le_refl 0, by show (0 : Int) ≤ 3; omega⟩) (Nat.lt_succ_self _) H locs ls hX hS (lv_sub hl [1, 2, 3, 0] rfl)

theorem hd_X5_init : yX5_init.cls = RX5 ∧ yX5_init.cls ≠ "java/lang/invoke/MethodHandle" ∧ yX5_init.cls ≠ "java/lang/invoke/VarHandle" ∧ (parseMethodDescriptor yX5_init.desc).map (fun d => d.parameters.length) = some 2 := by decide +kernel
abbrev rm_X5_init : Room := { frames := 2, cells := 1, slots := 8, locals := 43 }
set_option maxHeartbeats 8000000 in
theorem met_X5_init (l : Launch) (E : us_E) (A : Nat → Prop) (B : Nat → Int → Nat) (F : Nat → Int) (M : Nat → Int → Int) (G : Nat → Int → Option Nat) (T : x_T) (o : Nat) (n : Int) (v : Int) (hn : 1 ≤ n ∧ n ≤ 8) (hv : 0 ≤ v ∧ v < 2147483648) (hT1 : T 1 = some (o, .inr (2, [.null]))) : cMet l yX5_init cX5_init 3 none rm_X5_init A E [.ref o, .int (zi n), .int (zi v)] (fun H => XH E A B F M G T H) (qv A (fun H => ∃ a : Nat, ∃ g : Int → Int, (∀ j : Int, 0 ≤ j → j < n → g j = snd v (n - 1 - j)) ∧ (∀ j : Int, n ≤ j → g j = 0) ∧ (∀ j : Int, 0 ≤ g j ∧ g j ≤ 3) ∧ XH E A B F M G (va_up (va_up T 0 (some (tA E a n.toNat g))) 1 (some (o, .inr (2, [.ref a])))) H)) := by
  refine cMet.of (by decide) (Nat.le_of_ble_eq_true rfl) (fun p e s m args below meth c C hnm hX hS ls hl => ?_)
  have C : Cx p s m args meth c A RX5 cX5_init 3 none E := C
  have hX : XH E A B F M G T s.heap := hX
  have hl : lv_has ls 3 [(0, .ref o), (1, .int (zi n)), (2, .int (zi v))] := hl
  generalize hH : s.heap = H at hX
  have hS : va_S A s.heap H [] := by rw [← hH]; exact hS
  generalize hlocs : ([] : List Loc) = locs at hS ⊢
  obtain ⟨QQ, hQQ⟩ : ∃ zQQ, MQ below (qv A (fun H => ∃ a : Nat, ∃ g : Int → Int, (∀ j : Int, 0 ≤ j → j < n → g j = snd v (n - 1 - j)) ∧ (∀ j : Int, n ≤ j → g j = 0) ∧ (∀ j : Int, 0 ≤ g j ∧ g j ≤ 3) ∧ XH E A B F M G (va_up (va_up T 0 (some (tA E a n.toNat g))) 1 (some (o, .inr (2, [.ref a])))) H)) args s (rm_X5_init).cells (rm_X5_init).slots A = zQQ := ⟨_, rfl⟩
  rw [hQQ]
  have hX : XH E A B F M G (va_up T 1 (some (o, .inr (2, [.null])))) H := hX.to rfl rfl rfl rfl ((up_id (T) hT1).symm)
  refine lv_aload_n C.x C.b dX5_init_0 rfl (lv_at hl 0 rfl) ?_
  refine lv_iload_n C.x C.b dX5_init_1 rfl (lv_at hl 1 rfl) ?_
  refine lv_iload_n C.x C.b dX5_init_2 rfl (lv_at hl 2 rfl) ?_
  refine r_callIv (As := [.int (zi n), .int (zi v)]) (rest := []) (cells' := 1) (slots' := 8) C (met_X4_init_n l E A B F M G (va_up T 1 (some (o, .inr (2, [.null])))) o n v (show 1 ≤ n ∧ n ≤ 8 from (by omega)) (show 0 ≤ v ∧ v < 2147483648 from (by omega)) rfl) q315 q102 q313 q314 rfl hd_X4_init.2 rfl (by decide) hX hS hl.1 rfl (Nat.le_of_ble_eq_true rfl) dX5_init_3 rfl rfl ⟨Nat.le_of_ble_eq_true rfl, Nat.le_of_ble_eq_true rfl⟩ (fun H locs hp hS => ?_)
  obtain ⟨a0, g0, hg, hgz, hgb, hX⟩ := hp
  replace hg : ∀ j : Int, 0 ≤ j → j < n → g0 j = snd v (n - 1 - j) := hg
  replace hgz : ∀ j : Int, n ≤ j → g0 j = 0 := hgz
  replace hgb : ∀ j : Int, 0 ≤ g0 j ∧ g0 j ≤ 3 := hgb
  have hX : XH E A B F M G (va_up (va_up T 0 (some (tA E a0 n.toNat g0))) 1 (some (o, .inr (2, [.ref a0])))) H := hX.to rfl rfl rfl rfl ((congrArg (fun z : x_T => va_up z 1 (some (o, .inr (2, [.ref a0])))) (up_in (by decide) rfl)).trans (up_up _ _ _ _))
  rw [← hQQ]
  exact r_vret C hS (Nat.le_of_ble_eq_true rfl) (Nat.le_of_ble_eq_true rfl) dX5_init_6 ⟨a0, g0, hg, hgz, hgb, hX⟩

theorem hd_X6_init : yX6_init.cls = RX6 ∧ yX6_init.cls ≠ "java/lang/invoke/MethodHandle" ∧ yX6_init.cls ≠ "java/lang/invoke/VarHandle" ∧ (parseMethodDescriptor yX6_init.desc).map (fun d => d.parameters.length) = some 2 := by decide +kernel
abbrev rm_X6_init : Room := { frames := 2, cells := 1, slots := 8, locals := 43 }
set_option maxHeartbeats 8000000 in
theorem met_X6_init (l : Launch) (E : us_E) (A : Nat → Prop) (B : Nat → Int → Nat) (F : Nat → Int) (M : Nat → Int → Int) (G : Nat → Int → Option Nat) (T : x_T) (o : Nat) (n : Int) (v : Int) (hn : 1 ≤ n ∧ n ≤ 8) (hv : 0 ≤ v ∧ v < 2147483648) (hT1 : T 1 = some (o, .inr (3, [.null]))) : cMet l yX6_init cX6_init 3 none rm_X6_init A E [.ref o, .int (zi n), .int (zi v)] (fun H => XH E A B F M G T H) (qv A (fun H => ∃ a : Nat, ∃ g : Int → Int, (∀ j : Int, 0 ≤ j → j < n → g j = snd v (n - 1 - j)) ∧ (∀ j : Int, n ≤ j → g j = 0) ∧ (∀ j : Int, 0 ≤ g j ∧ g j ≤ 3) ∧ XH E A B F M G (va_up (va_up T 0 (some (tA E a n.toNat g))) 1 (some (o, .inr (3, [.ref a])))) H)) := by
  refine cMet.of (by decide) (Nat.le_of_ble_eq_true rfl) (fun p e s m args below meth c C hnm hX hS ls hl => ?_)
  have C : Cx p s m args meth c A RX6 cX6_init 3 none E := C
  have hX : XH E A B F M G T s.heap := hX
  have hl : lv_has ls 3 [(0, .ref o), (1, .int (zi n)), (2, .int (zi v))] := hl
  generalize hH : s.heap = H at hX
  have hS : va_S A s.heap H [] := by rw [← hH]; exact hS
  generalize hlocs : ([] : List Loc) = locs at hS ⊢
  obtain ⟨QQ, hQQ⟩ : ∃ zQQ, MQ below (qv A (fun H => ∃ a : Nat, ∃ g : Int → Int, (∀ j : Int, 0 ≤ j → j < n → g j = snd v (n - 1 - j)) ∧ (∀ j : Int, n ≤ j → g j = 0) ∧ (∀ j : Int, 0 ≤ g j ∧ g j ≤ 3) ∧ XH E A B F M G (va_up (va_up T 0 (some (tA E a n.toNat g))) 1 (some (o, .inr (3, [.ref a])))) H)) args s (rm_X6_init).cells (rm_X6_init).slots A = zQQ := ⟨_, rfl⟩
  rw [hQQ]
  have hX : XH E A B F M G (va_up T 1 (some (o, .inr (3, [.null])))) H := hX.to rfl rfl rfl rfl ((up_id (T) hT1).symm)
  refine lv_aload_n C.x C.b dX6_init_0 rfl (lv_at hl 0 rfl) ?_
  refine lv_iload_n C.x C.b dX6_init_1 rfl (lv_at hl 1 rfl) ?_
  refine lv_iload_n C.x C.b dX6_init_2 rfl (lv_at hl 2 rfl) ?_
  refine r_callIv (As := [.int (zi n), .int (zi v)]) (rest := []) (cells' := 1) (slots' := 8) C (met_X4_init_w l E A B F M G (va_up T 1 (some (o, .inr (3, [.null])))) o n v (show 1 ≤ n ∧ n ≤ 8 from (by omega)) (show 0 ≤ v ∧ v < 2147483648 from (by omega)) rfl) q315 q102 q361 q314 rfl hd_X4_init.2 rfl (by decide) hX hS hl.1 rfl (Nat.le_of_ble_eq_true rfl) dX6_init_3 rfl rfl ⟨Nat.le_of_ble_eq_true rfl, Nat.le_of_ble_eq_true rfl⟩ (fun H locs hp hS => ?_)
  obtain ⟨a0, g0, hg, hgz, hgb, hX⟩ := hp
  replace hg : ∀ j : Int, 0 ≤ j → j < n → g0 j = snd v (n - 1 - j) := hg
  replace hgz : ∀ j : Int, n ≤ j → g0 j = 0 := hgz
  replace hgb : ∀ j : Int, 0 ≤ g0 j ∧ g0 j ≤ 3 := hgb
  have hX : XH E A B F M G (va_up (va_up T 0 (some (tA E a0 n.toNat g0))) 1 (some (o, .inr (3, [.ref a0])))) H := hX.to rfl rfl rfl rfl ((congrArg (fun z : x_T => va_up z 1 (some (o, .inr (3, [.ref a0])))) (up_in (by decide) rfl)).trans (up_up _ _ _ _))
  rw [← hQQ]
  exact r_vret C hS (Nat.le_of_ble_eq_true rfl) (Nat.le_of_ble_eq_true rfl) dX6_init_6 ⟨a0, g0, hg, hgz, hgb, hX⟩

theorem snd_rowS {n v : Int} (hn : 0 ≤ n) (hv : 0 ≤ v ∧ v < 2 ^ (2 * n).toNat) {g : Int → Int} (hg : ∀ j : Int, 0 ≤ j → j < n → g j = snd v (n - 1 - j)) (hgb : ∀ j : Int, 0 ≤ g j ∧ g j ≤ 3) : rowS g n = v := by
  have h := rowS_dig (f := g) hn hgb
  refine DigS.uq (s := snd v) hn ⟨h.1, fun j a b => ?_⟩ ⟨hv, fun j _ _ => rfl⟩
  rw [h.2 j a b]
  show g (n - 1 - j) = _
  rw [hg (n - 1 - j) (by omega) (by omega), show n - 1 - (n - 1 - j) = j by omega]

theorem hd_X4_number : yX4_number.cls = RX4 ∧ yX4_number.cls ≠ "java/lang/invoke/MethodHandle" ∧ yX4_number.cls ≠ "java/lang/invoke/VarHandle" ∧ (parseMethodDescriptor yX4_number.desc).map (fun d => d.parameters.length) = some 0 := by decide +kernel
abbrev rm_X4_number : Room := { frames := 0, cells := 0, slots := 0, locals := 0 }
set_option maxHeartbeats 8000000 in
theorem met_X4_number (l : Launch) (E : us_E) (A : Nat → Prop) (B : Nat → Int → Nat) (F : Nat → Int) (M : Nat → Int → Int) (G : Nat → Int → Option Nat) (T : x_T) (a : Nat) (n : Int) (g : Int → Int) (o : Nat) (hn : 0 ≤ n ∧ n ≤ 6) (hgb : ∀ j : Int, 0 ≤ g j ∧ g j ≤ 3) (hT0 : T 0 = some (tA E a n.toNat g)) (hT1 : T 1 = some (o, .inr (3, [.ref a]))) : cMet l yX4_number cX4_number 6 (some .int) rm_X4_number A E [.ref o] (fun H => XH E A B F M G T H) (qi A (fun r H => (r = rowS g n) ∧ XH E A B F M G T H)) := by
  refine cMet.of (by decide) (Nat.le_of_ble_eq_true rfl) (fun p e s m args below meth c C hnm hX hS ls hl => ?_)
  have C : Cx p s m args meth c A RX4 cX4_number 6 (some .int) E := C
  have hX : XH E A B F M G T s.heap := hX
  have hl : lv_has ls 6 [(0, .ref o)] := hl
  generalize hH : s.heap = H at hX
  have hS : va_S A s.heap H [] := by rw [← hH]; exact hS
  generalize hlocs : ([] : List Loc) = locs at hS ⊢
  obtain ⟨QQ, hQQ⟩ : ∃ zQQ, MQ below (qi A (fun r H => (r = rowS g n) ∧ XH E A B F M G T H)) args s (rm_X4_number).cells (rm_X4_number).slots A = zQQ := ⟨_, rfl⟩
  rw [hQQ]
  have hX : XH E A B F M G (va_up T 1 (some (o, .inr (3, [.ref a])))) H := hX.to rfl rfl rfl rfl ((up_id (T) hT1).symm)
  have hX : XH E A B F M G (va_up (va_up T 0 (some (tA E a n.toNat g))) 1 (some (o, .inr (3, [.ref a])))) H := hX.to rfl rfl rfl rfl ((up_id ((va_up T 1 (some (o, .inr (3, [.ref a]))))) (k := 0) (a := some (tA E a n.toNat g)) hT0).symm.trans ((up_in (by decide) rfl)))
  refine r_const C dX4_number_0 ?_
  refine lv_istore_n (lv' := [(1, .int (zi 0)), (0, .ref o)]) C.x C.b dX4_number_1 rfl hl (by decide) rfl (fun ls hl => ?_)
  refine lv_aload_n C.x C.b dX4_number_2 rfl (lv_at hl 1 rfl) ?_
  refine x_tog C hX 1 (by decide) (fs := [.ref a]) (ci := 3) rfl in_X6 rfl 0 (by decide) q319 (fun _ h => h) rfl dX4_number_3 ?_
  refine lv_astore_n (lv' := [(2, .ref a), (1, .int (zi 0)), (0, .ref o)]) C.x C.b dX4_number_6 rfl hl (by decide) rfl (fun ls hl => ?_)
  refine lv_aload_n C.x C.b dX4_number_7 rfl (lv_at hl 0 rfl) ?_
  refine x_tlen C hX 0 (by decide) (a := a) (n := n.toNat) rfl (t := 0) rfl n (by omega) dX4_number_8 ?_
  refine lv_istore_n (lv' := [(3, .int (zi n)), (2, .ref a), (1, .int (zi 0)), (0, .ref o)]) C.x C.b dX4_number_9 rfl hl (by decide) rfl (fun ls hl => ?_)
  refine r_const C dX4_number_10 ?_
  refine lv_istore (lv' := [(4, .int (zi 0)), (3, .int (zi n)), (2, .ref a), (1, .int (zi 0)), (0, .ref o)]) C.x C.b dX4_number_11 hl (by decide) rfl (fun ls hl => ?_)
  have L13 : ∀ (fu : Nat) (v1 : Int) (v4 : Int) (h4 : 0 ≤ v4 ∧ v4 ≤ n) (hv : v1 = rowS g v4) (hvr : 0 ≤ v1 ∧ v1 ≤ 4095) (hm : Int.toNat (n - v4) < fu) (H : Heap) (locs : List Loc) (ls : Array Slot) (hX : XH E A B F M G (va_up (va_up T 0 (some (tA E a n.toNat g))) 1 (some (o, .inr (3, [.ref a])))) H) (hS : va_S A s.heap H locs) (hl : lv_has ls 6 [(0, .ref o), (1, .int (zi v1)), (2, .ref a), (3, .int (zi n)), (4, .int (zi v4))]), W p l e rm_X4_number s m args below meth c H locs 0 0 QQ (F0 m 13 ls []) := by
    intro fu
    induction fu with
    | zero => intro v1 v4 h4 hv hvr hm; exact absurd hm (Nat.not_lt_zero _)
    | succ fu ih13 =>
      intro v1 v4 h4 hv hvr hm H locs ls hX hS hl
      refine lv_iload C.x C.b dX4_number_13 (lv_at hl 4 rfl) ?_
      refine lv_iload_n C.x C.b dX4_number_15 rfl (lv_at hl 3 rfl) ?_
      refine r_icmp_ge (tgt := 38) C (by omega) (by omega) dX4_number_16 (by decide) (fun c_1 => ?_) (fun c_1 => ?_)
      · have e4 : v4 = n := by omega
        rw [e4] at hv
        refine lv_iload_n C.x C.b dX4_number_38 rfl (lv_at hl 1 rfl) ?_
        have hX : XH E A B F M G T H := hX.to rfl rfl rfl rfl ((congrArg (fun z : x_T => va_up z 1 _) (up_id T hT0)).trans (up_id T hT1))
        rw [← hQQ]
        exact r_iret C hS (Nat.le_of_ble_eq_true rfl) (Nat.le_of_ble_eq_true rfl) dX4_number_39 ⟨hv, hX⟩
      · refine lv_aload_n C.x C.b dX4_number_19 rfl (lv_at hl 2 rfl) ?_
        refine lv_iload C.x C.b dX4_number_20 (lv_at hl 4 rfl) ?_
        refine x_tli C hX 0 (by decide) (a := a) (n := n.toNat) (g := g) rfl (show 0 ≤ v4 ∧ v4 < ((n.toNat : Nat) : Int) from (by omega)) (show n.toNat < 2147483648 from by omega) (v := g v4) rfl dX4_number_22 ?_
        refine lv_istore (lv' := [(5, .int (zi (g v4))), (0, .ref o), (1, .int (zi v1)), (2, .ref a), (3, .int (zi n)), (4, .int (zi v4))]) C.x C.b dX4_number_23 hl (by decide) rfl (fun ls hl => ?_)
        have hov := oo_4 (v := v1) (x := g v4) hvr.1 (hgb _)
        have hgv := hgb v4
        refine lv_iload_n C.x C.b dX4_number_25 rfl (lv_at hl 2 rfl) ?_
        refine r_const C dX4_number_26 ?_
        refine r_ishlc (q := 4) C rfl (by decide) (by omega) rfl dX4_number_27 ?_
        refine lv_iload C.x C.b dX4_number_28 (lv_at hl 0 rfl) ?_
        refine r_ior (v := oo (v1 * 4) (g v4)) C (zi_or (by omega) (by omega)) dX4_number_30 ?_
        refine lv_istore_n (lv' := [(1, .int (zi (oo (v1 * 4) (g v4)))), (5, .int (zi (g v4))), (0, .ref o), (2, .ref a), (3, .int (zi n)), (4, .int (zi v4))]) C.x C.b dX4_number_31 rfl hl (by decide) rfl (fun ls hl => ?_)
        refine r_iinc (lv' := [(4, .int (zi (v4 + 1))), (1, .int (zi (oo (v1 * 4) (g v4)))), (5, .int (zi (g v4))), (0, .ref o), (2, .ref a), (3, .int (zi n))]) C dX4_number_32 hl (k := 5) rfl (by decide) rfl (fun ls hl => ?_)
        refine lv_goto (tgt := 13) C.x C.b dX4_number_35 (by decide) ?_
        exact ih13 (oo (v1 * 4) (g v4)) (v4 + 1) (by omega) (by rw [hov, rowS_s h4.1, ← hv]) (by rw [hov, hv, ← rowS_s (f := g) h4.1]; have := rowS_r6 (f := g) (n := v4 + 1) ⟨by omega, by omega⟩ (fun j _ _ => hgb j); omega) (by omega) H locs ls hX hS (lv_sub hl [3, 1, 4, 5, 0] rfl)
  exact L13 _ 0 0 (by omega) rfl (by omega) (Nat.lt_succ_self _) H locs ls hX hS (lv_sub hl [4, 3, 2, 1, 0] rfl)

theorem hd_X0_name : yX0_name.cls = RX0 ∧ yX0_name.cls ≠ "java/lang/invoke/MethodHandle" ∧ yX0_name.cls ≠ "java/lang/invoke/VarHandle" ∧ (parseMethodDescriptor yX0_name.desc).map (fun d => d.parameters.length) = some 2 := by decide +kernel
abbrev rm_X0_name : Room := { frames := 3, cells := 2, slots := 9, locals := 65 }
set_option maxHeartbeats 8000000 in
theorem met_X0_name (l : Launch) (E : us_E) (A : Nat → Prop) (B : Nat → Int → Nat) (F : Nat → Int) (M : Nat → Int → Int) (G : Nat → Int → Option Nat) (T : x_T) (n : Int) (v : Int) (hn : -2147483648 ≤ n ∧ n < 2147483648) (hv : -2147483648 ≤ v ∧ v < 2147483648) (hT0 : T 0 = none) (hT1 : T 1 = none) : cMet l yX0_name cX0_name 3 (some .int) rm_X0_name A E [.ref (B 49 0), .int (zi n), .int (zi v)] (fun H => XH E A B F M G T H) (qi A (fun r H => ∃ b57 : Int → Nat, ∃ b58 : Int → Nat, ∃ f24 : Int, ∃ m58 : Int → Int, ∃ m201 : Int → Int, ∃ gg23 : Int → Option Nat, (((areS n 8 v) ∧ ¬ F 24 = 4) → f24 = F 24 + 1 ∧ (∀ i : Int, 0 ≤ i → i < n → m58 (8 * F 24 + i) = snd v (n - 1 - i)) ∧ (∀ x : Int, x < 8 * F 24 → m58 x = M 58 x) ∧ m201 = fup (M 201) (F 24) n) ∧ (¬ ((areS n 8 v) ∧ ¬ F 24 = 4) → f24 = F 24 ∧ m58 = M 58 ∧ m201 = M 201) ∧ (r = sel (areS n 8 v) (sel (F 24 = 4) (-3) (F 24)) (-1)) ∧ XH E A (va_up (va_up B 57 b57) 58 b58) (va_up F 24 f24) (va_up (va_up M 58 m58) 201 m201) (va_up G 23 gg23) T H)) := by
  refine cMet.of (by decide) (Nat.le_of_ble_eq_true rfl) (fun p e s m args below meth c C hnm hX hS ls hl => ?_)
  have C : Cx p s m args meth c A RX0 cX0_name 3 (some .int) E := C
  have hX : XH E A B F M G T s.heap := hX
  have hl : lv_has ls 3 [(0, .ref (B 49 0)), (1, .int (zi n)), (2, .int (zi v))] := hl
  generalize hH : s.heap = H at hX
  have hS : va_S A s.heap H [] := by rw [← hH]; exact hS
  generalize hlocs : ([] : List Loc) = locs at hS ⊢
  obtain ⟨QQ, hQQ⟩ : ∃ zQQ, MQ below (qi A (fun r H => ∃ b57 : Int → Nat, ∃ b58 : Int → Nat, ∃ f24 : Int, ∃ m58 : Int → Int, ∃ m201 : Int → Int, ∃ gg23 : Int → Option Nat, (((areS n 8 v) ∧ ¬ F 24 = 4) → f24 = F 24 + 1 ∧ (∀ i : Int, 0 ≤ i → i < n → m58 (8 * F 24 + i) = snd v (n - 1 - i)) ∧ (∀ x : Int, x < 8 * F 24 → m58 x = M 58 x) ∧ m201 = fup (M 201) (F 24) n) ∧ (¬ ((areS n 8 v) ∧ ¬ F 24 = 4) → f24 = F 24 ∧ m58 = M 58 ∧ m201 = M 201) ∧ (r = sel (areS n 8 v) (sel (F 24 = 4) (-3) (F 24)) (-1)) ∧ XH E A (va_up (va_up B 57 b57) 58 b58) (va_up F 24 f24) (va_up (va_up M 58 m58) 201 m201) (va_up G 23 gg23) T H)) args s (rm_X0_name).cells (rm_X0_name).slots A = zQQ := ⟨_, rfl⟩
  rw [hQQ]
  have rF24 : 0 ≤ F 24 ∧ F 24 ≤ 4 := hX.2.1 24 (0, 4) rfl
  have hX : XH E A B F M G (va_up (va_up T 0 none) 1 none) H := hX.to rfl rfl rfl rfl ((up_id T hT0).symm.trans (up_id (va_up T 0 none) (k := 1) hT1).symm)
  refine lv_iload_n C.x C.b dX0_name_0 rfl (lv_at hl 1 rfl) ?_
  refine r_bipush C (by decide) dX0_name_1 ?_
  refine lv_iload_n C.x C.b dX0_name_3 rfl (lv_at hl 2 rfl) ?_
  refine r_callSi (As := [.int (zi n), .int (zi 8), .int (zi v)]) (rest := []) (cells' := 0) (slots' := 0) C (met_X0_areSounds l E A H n 8 v (show -2147483648 ≤ n ∧ n < 2147483648 from (by omega)) (show 6 ≤ (8 : Int) ∧ (8 : Int) ≤ 8 from (by omega)) (show -2147483648 ≤ v ∧ v < 2147483648 from (by omega))) (lw_S q305 q306 q86 q307) hd_X0_areSounds rfl (by decide) rfl hS hl.1 rfl (Nat.le_of_ble_eq_true rfl) dX0_name_4 rfl rfl ⟨Nat.le_of_ble_eq_true rfl, Nat.le_of_ble_eq_true rfl⟩ (fun rr H locs hp hS => ?_)
  obtain ⟨hrr, hH⟩ := hp
  have hrr : rr = bI (areS n (8 : Int) v) := hrr
  subst hrr
  have hX : XH E A B F M G (va_up (va_up T 0 none) 1 none) H := by rw [hH]; exact hX
  refine r_if_ne_b (tgt := 12) C dX0_name_7 (by decide) (fun c_1 => ?_) (fun c_1 => ?_)
  · obtain ⟨hn12, hv12a⟩ := (show areS n 8 v by assumption)
    refine lv_aload_n C.x C.b dX0_name_12 rfl (lv_at hl 0 rfl) ?_
    refine x_gi C hX 24 (by decide) rfl q760 (fun _ h => h) (F 24) rfl (b := (0, 4)) rfl dX0_name_13 (fun _ => ?_)
    refine r_const C dX0_name_16 ?_
    refine r_icmp_ne (tgt := 23) C (by omega) (by decide) dX0_name_17 (by decide) (fun c_2 => ?_) (fun c_2 => ?_)
    · refine lv_aload_n C.x C.b dX0_name_23 rfl (lv_at hl 0 rfl) ?_
      refine x_ga C hX 23 (by decide) rfl q759 (fun _ h => h) dX0_name_24 ?_
      refine lv_aload_n C.x C.b dX0_name_27 rfl (lv_at hl 0 rfl) ?_
      refine x_gi C hX 24 (by decide) rfl q760 (fun _ h => h) (F 24) rfl (b := (0, 4)) rfl dX0_name_28 (fun _ => ?_)
      refine x_newo C hX hS 1 (by decide) (ci := 2) rfl in_X5 tyX5 tyX5_ok q308 q309 q103 [.null] (fun j hj => by rw [show j = 0 by omega]; rfl) (show 0 + 1 ≤ 2 from (by omega)) (show 0 + 1 ≤ 9 from (by omega)) dX0_name_31 (fun ob_3 H hX hS => ?_)
      have hX : XH E A B F M G (va_up (va_up T 0 none) 1 (some (ob_3, .inr (2, [.null])))) H := hX.to rfl rfl rfl rfl (up_up _ _ _ _)
      refine lv_dup C.x C.b dX0_name_34 rfl ?_
      refine lv_iload_n C.x C.b dX0_name_35 rfl (lv_at hl 1 rfl) ?_
      refine lv_iload_n C.x C.b dX0_name_36 rfl (lv_at hl 2 rfl) ?_
      refine r_callIv (As := [.int (zi n), .int (zi v)]) (rest := [.ref ob_3, .int (zi (F 24)), .ref (B 23 0)]) (cells' := 2) (slots' := 9) C (met_X5_init l E A B F M G (va_up (va_up T 0 none) 1 (some (ob_3, .inr (2, [.null])))) ob_3 n v (show 1 ≤ n ∧ n ≤ 8 from (by omega)) (show 0 ≤ v ∧ v < 2147483648 from (by omega)) rfl) q312 q103 q310 q311 rfl hd_X5_init.2 rfl (by decide) hX hS hl.1 rfl (Nat.le_of_ble_eq_true rfl) dX0_name_37 rfl rfl ⟨Nat.le_of_ble_eq_true rfl, Nat.le_of_ble_eq_true rfl⟩ (fun H locs hp hS => ?_)
      obtain ⟨a0, g0, hg, hgz, hgb, hX⟩ := hp
      replace hg : ∀ j : Int, 0 ≤ j → j < n → g0 j = snd v (n - 1 - j) := hg
      replace hgz : ∀ j : Int, n ≤ j → g0 j = 0 := hgz
      replace hgb : ∀ j : Int, 0 ≤ g0 j ∧ g0 j ≤ 3 := hgb
      have hX : XH E A B F M G (va_up (va_up T 0 (some (tA E a0 n.toNat g0))) 1 (some (ob_3, .inr (2, [.ref a0])))) H := hX.to rfl rfl rfl rfl ((congrArg (fun z : x_T => va_up z 1 (some (ob_3, .inr (2, [.ref a0])))) (up_in (by decide) (up_up _ _ _ _))).trans (up_up _ _ _ _))
      refine x_astT C hX hS 1 (by decide) (a := ob_3) (vs := [.ref a0]) (ci := 2) rfl (r := (RX5, TX5, 1)) rfl 23 rfl rfl (by decide) rfl (show 0 ≤ (F 24) ∧ (F 24) < 4 from (by omega)) (by decide) (fun g hg => show F 24 ≤ (F 24) from (by omega)) dX0_name_40 (G' := (va_up G 23 (fup (G 23) (F 24) (some ob_3)))) rfl (fun H locs hX hS => ?_)
      refine lv_aload_n C.x C.b dX0_name_41 rfl (lv_at hl 0 rfl) ?_
      refine lv_dup C.x C.b dX0_name_42 rfl ?_
      refine x_gi C hX 24 (by decide) rfl q760 (fun _ h => h) (F 24) rfl (b := (0, 4)) rfl dX0_name_43 (fun _ => ?_)
      refine r_const C dX0_name_46 ?_
      refine r_iadd C dX0_name_47 ?_
      have hgz8 : ∀ x : Int, 8 ≤ x → g0 x = 0 := fun x q => hgz x (by omega)
      refine x_pname C hX hS (a0 := a0) (a1 := ob_3) (n := n) (g := g0) rfl rfl (by first | rfl | exact (congrFun (va_up_self _ _ _) _).trans (fup_s _ _ _)) (show (F 24) ≤ 3 from (by omega)) (show 0 ≤ n ∧ n ≤ 8 from by omega) hgz8 (fun x _ _ => hgb x) q760 (fun _ h => h) dX0_name_48 (fun H locs hX hS => ?_)
      have hX : XH E A (va_up (va_up B 57 (fup (B 57) (F 24) ob_3)) 58 (fup (B 58) (F 24) a0)) (va_up F 24 ((F 24) + 1)) (va_up (va_up M 58 (spw 8 (M 58) (F 24) g0)) 201 (fup (M 201) (F 24) n)) (va_up G 23 (fup (G 23) (F 24) (some ob_3))) (va_up (va_up T 0 none) 1 none) H := hX.to ((congrArg (fun z => va_up z 58 (fup (B 58) (F 24) a0)) rfl).trans rfl) rfl ((congrArg (fun z => va_up z 201 (fup (M 201) (F 24) n)) rfl).trans rfl) rfl ((congrArg (fun z => va_up z 1 none) (up_in (by decide) (up_up _ _ _ _))).trans (up_up _ _ _ _))
      refine lv_aload_n C.x C.b dX0_name_51 rfl (lv_at hl 0 rfl) ?_
      refine x_gi (B := (va_up (va_up B 57 (fup (B 57) (F 24) ob_3)) 58 (fup (B 58) (F 24) a0))) C hX 24 (by decide) rfl q760 (fun _ h => h) ((F 24) + 1) rfl (b := (0, 4)) rfl dX0_name_52 (fun r52 => ?_)
      have r52 : 0 ≤ (F 24) + 1 ∧ (F 24) + 1 ≤ 4 := r52
      refine r_const C dX0_name_55 ?_
      refine r_isub C dX0_name_56 ?_
      have hX : XH E A (va_up (va_up B 57 (fup (B 57) (F 24) ob_3)) 58 (fup (B 58) (F 24) a0)) (va_up F 24 ((F 24) + 1)) (va_up (va_up M 58 (spw 8 (M 58) (F 24) g0)) 201 (fup (M 201) (F 24) n)) (va_up G 23 (fup (G 23) (F 24) (some ob_3))) T H := hX.to rfl rfl rfl rfl ((congrArg (fun z => va_up z 1 none) (up_id T hT0)).trans (up_id T hT1))
      rw [← hQQ]
      exact r_iret C hS (Nat.le_of_ble_eq_true rfl) (Nat.le_of_ble_eq_true rfl) dX0_name_57 ⟨(fup (B 57) (F 24) ob_3), (fup (B 58) (F 24) a0), ((F 24) + 1), (spw 8 (M 58) (F 24) g0), (fup (M 201) (F 24) n), (fup (G 23) (F 24) (some ob_3)), (fun _ => ⟨rfl, fun i a b => by show (if 8 * F 24 ≤ 8 * F 24 + i ∧ 8 * F 24 + i < 8 * F 24 + 8 then g0 (8 * F 24 + i - 8 * F 24) else _) = _; rw [if_pos ⟨by omega, by omega⟩, show 8 * F 24 + i - 8 * F 24 = i by omega]; exact hg i a b, fun x a => if_neg (by omega), rfl⟩), (fun q => absurd ⟨by assumption, by assumption⟩ q), (by rw [sel_t (by assumption), sel_f (by assumption)]; omega), hX⟩
    · refine r_bipush C (by decide) dX0_name_20 ?_
      have hX : XH E A B F M G T H := hX.to rfl rfl rfl rfl ((congrArg (fun z => va_up z 1 none) (up_id T hT0)).trans (up_id T hT1))
      rw [← hQQ]
      exact r_iret C hS (Nat.le_of_ble_eq_true rfl) (Nat.le_of_ble_eq_true rfl) dX0_name_22 ⟨(B 57), (B 58), (F 24), (M 58), (M 201), (G 23), (fun q => absurd (by assumption) q.2), (fun _ => ⟨rfl, rfl, rfl⟩), (by rw [sel_t (by assumption), sel_t (by assumption)]), (hX.to (((up_id B (k := 57) (a := (B 57)) rfl).symm.trans rfl).trans ((up_id (va_up B 57 (B 57)) (k := 58) (a := (B 58)) rfl).symm.trans rfl)) ((up_id F (k := 24) (a := (F 24)) rfl).symm.trans rfl) (((up_id M (k := 58) (a := (M 58)) rfl).symm.trans rfl).trans ((up_id (va_up M 58 (M 58)) (k := 201) (a := (M 201)) rfl).symm.trans rfl)) ((up_id G (k := 23) (a := (G 23)) rfl).symm.trans rfl) rfl)⟩
  · refine r_const C dX0_name_10 ?_
    have hX : XH E A B F M G T H := hX.to rfl rfl rfl rfl ((congrArg (fun z => va_up z 1 none) (up_id T hT0)).trans (up_id T hT1))
    rw [← hQQ]
    exact r_iret C hS (Nat.le_of_ble_eq_true rfl) (Nat.le_of_ble_eq_true rfl) dX0_name_11 ⟨(B 57), (B 58), (F 24), (M 58), (M 201), (G 23), (fun q => absurd q.1 (by assumption)), (fun _ => ⟨rfl, rfl, rfl⟩), (Eq.symm (sel_f (by assumption))), (hX.to (((up_id B (k := 57) (a := (B 57)) rfl).symm.trans rfl).trans ((up_id (va_up B 57 (B 57)) (k := 58) (a := (B 58)) rfl).symm.trans rfl)) ((up_id F (k := 24) (a := (F 24)) rfl).symm.trans rfl) (((up_id M (k := 58) (a := (M 58)) rfl).symm.trans rfl).trans ((up_id (va_up M 58 (M 58)) (k := 201) (a := (M 201)) rfl).symm.trans rfl)) ((up_id G (k := 23) (a := (G 23)) rfl).symm.trans rfl) rfl)⟩

theorem hd_X0_word : yX0_word.cls = RX0 ∧ yX0_word.cls ≠ "java/lang/invoke/MethodHandle" ∧ yX0_word.cls ≠ "java/lang/invoke/VarHandle" ∧ (parseMethodDescriptor yX0_word.desc).map (fun d => d.parameters.length) = some 2 := by decide +kernel
abbrev rm_X0_word : Room := { frames := 3, cells := 2, slots := 9, locals := 65 }
set_option maxHeartbeats 8000000 in
theorem met_X0_word (l : Launch) (E : us_E) (A : Nat → Prop) (B : Nat → Int → Nat) (F : Nat → Int) (M : Nat → Int → Int) (G : Nat → Int → Option Nat) (T : x_T) (n : Int) (v : Int) (hn : -2147483648 ≤ n ∧ n < 2147483648) (hv : -2147483648 ≤ v ∧ v < 2147483648) (hT0 : T 0 = none) (hT1 : T 1 = none) : cMet l yX0_word cX0_word 3 (some .int) rm_X0_word A E [.ref (B 49 0), .int (zi n), .int (zi v)] (fun H => XH E A B F M G T H) (qi A (fun r H => ∃ f26 : Int, ∃ m53 : Int → Int, ∃ gg25 : Int → Option Nat, (((areS n 6 v) ∧ ¬ M 53 (4096 * n + v) = 1 ∧ ¬ F 26 = 12) → f26 = F 26 + 1 ∧ m53 = fup (M 53) (4096 * n + v) 1) ∧ (¬ ((areS n 6 v) ∧ ¬ M 53 (4096 * n + v) = 1 ∧ ¬ F 26 = 12) → f26 = F 26 ∧ m53 = M 53) ∧ (r = sel (areS n 6 v) (sel (M 53 (4096 * n + v) = 1) (-1) (sel (F 26 = 12) (-3) (F 26))) (-1)) ∧ XH E A B (va_up F 26 f26) (va_up M 53 m53) (va_up G 25 gg25) T H)) := by
  refine cMet.of (by decide) (Nat.le_of_ble_eq_true rfl) (fun p e s m args below meth c C hnm hX hS ls hl => ?_)
  have C : Cx p s m args meth c A RX0 cX0_word 3 (some .int) E := C
  have hX : XH E A B F M G T s.heap := hX
  have hl : lv_has ls 3 [(0, .ref (B 49 0)), (1, .int (zi n)), (2, .int (zi v))] := hl
  generalize hH : s.heap = H at hX
  have hS : va_S A s.heap H [] := by rw [← hH]; exact hS
  generalize hlocs : ([] : List Loc) = locs at hS ⊢
  obtain ⟨QQ, hQQ⟩ : ∃ zQQ, MQ below (qi A (fun r H => ∃ f26 : Int, ∃ m53 : Int → Int, ∃ gg25 : Int → Option Nat, (((areS n 6 v) ∧ ¬ M 53 (4096 * n + v) = 1 ∧ ¬ F 26 = 12) → f26 = F 26 + 1 ∧ m53 = fup (M 53) (4096 * n + v) 1) ∧ (¬ ((areS n 6 v) ∧ ¬ M 53 (4096 * n + v) = 1 ∧ ¬ F 26 = 12) → f26 = F 26 ∧ m53 = M 53) ∧ (r = sel (areS n 6 v) (sel (M 53 (4096 * n + v) = 1) (-1) (sel (F 26 = 12) (-3) (F 26))) (-1)) ∧ XH E A B (va_up F 26 f26) (va_up M 53 m53) (va_up G 25 gg25) T H)) args s (rm_X0_word).cells (rm_X0_word).slots A = zQQ := ⟨_, rfl⟩
  rw [hQQ]
  have rF26 : 0 ≤ F 26 ∧ F 26 ≤ 12 := hX.2.1 26 (0, 12) rfl
  have hX : XH E A B F M G (va_up (va_up T 0 none) 1 none) H := hX.to rfl rfl rfl rfl ((up_id T hT0).symm.trans (up_id (va_up T 0 none) (k := 1) hT1).symm)
  refine lv_iload_n C.x C.b dX0_word_0 rfl (lv_at hl 1 rfl) ?_
  refine r_bipush C (by decide) dX0_word_1 ?_
  refine lv_iload_n C.x C.b dX0_word_3 rfl (lv_at hl 2 rfl) ?_
  refine r_callSi (As := [.int (zi n), .int (zi 6), .int (zi v)]) (rest := []) (cells' := 0) (slots' := 0) C (met_X0_areSounds l E A H n 6 v (show -2147483648 ≤ n ∧ n < 2147483648 from (by omega)) (show 6 ≤ (6 : Int) ∧ (6 : Int) ≤ 8 from (by omega)) (show -2147483648 ≤ v ∧ v < 2147483648 from (by omega))) (lw_S q305 q306 q86 q307) hd_X0_areSounds rfl (by decide) rfl hS hl.1 rfl (Nat.le_of_ble_eq_true rfl) dX0_word_4 rfl rfl ⟨Nat.le_of_ble_eq_true rfl, Nat.le_of_ble_eq_true rfl⟩ (fun rr H locs hp hS => ?_)
  obtain ⟨hrr, hH⟩ := hp
  have hrr : rr = bI (areS n (6 : Int) v) := hrr
  subst hrr
  have hX : XH E A B F M G (va_up (va_up T 0 none) 1 none) H := by rw [hH]; exact hX
  refine r_if_ne_b (tgt := 12) C dX0_word_7 (by decide) (fun c_1 => ?_) (fun c_1 => ?_)
  · obtain ⟨hn12, hv12a⟩ := (show areS n 6 v by assumption)
    have hpw := p2_12 (k := 2 * n) (by omega)
    have hv12 : 0 ≤ v ∧ v < 4096 := by omega
    refine lv_aload_n C.x C.b dX0_word_12 rfl (lv_at hl 0 rfl) ?_
    refine x_ga C hX 27 (by decide) rfl q763 (fun _ h => h) dX0_word_13 ?_
    refine lv_iload_n C.x C.b dX0_word_16 rfl (lv_at hl 1 rfl) ?_
    refine x_la C hX 27 rfl rfl rfl (by decide) rfl rfl (show 0 ≤ n ∧ n < 7 from (by omega)) (by omega) (by decide) dX0_word_17 ?_
    refine lv_iload_n C.x C.b dX0_word_18 rfl (lv_at hl 2 rfl) ?_
    refine x_lz C hX 53 rfl (by decide) rfl (show 0 ≤ n ∧ n < 7 from (by omega)) (show 0 ≤ v ∧ v < 4096 from (by omega)) (by decide) (M 53 (4096 * n + v)) rfl dX0_word_19 (fun r19 => ?_)
    have r19 : 0 ≤ M 53 (4096 * n + v) ∧ M 53 (4096 * n + v) ≤ 1 := r19 (0, 1) rfl
    have r53 : 0 ≤ M 53 (4096 * n + v) ∧ M 53 (4096 * n + v) ≤ 1 := hX.2.2.1 53 (0, 1) rfl _
    refine r_if_eq (tgt := 25) C (by omega) dX0_word_20 (by decide) (fun c_2 => ?_) (fun c_2 => ?_)
    · refine lv_aload_n C.x C.b dX0_word_25 rfl (lv_at hl 0 rfl) ?_
      refine x_gi C hX 26 (by decide) rfl q762 (fun _ h => h) (F 26) rfl (b := (0, 12)) rfl dX0_word_26 (fun _ => ?_)
      refine r_bipush C (by decide) dX0_word_29 ?_
      refine r_icmp_ne (tgt := 37) C (by omega) (by decide) dX0_word_31 (by decide) (fun c_3 => ?_) (fun c_3 => ?_)
      · refine lv_aload_n C.x C.b dX0_word_37 rfl (lv_at hl 0 rfl) ?_
        refine x_ga C hX 25 (by decide) rfl q761 (fun _ h => h) dX0_word_38 ?_
        refine lv_aload_n C.x C.b dX0_word_41 rfl (lv_at hl 0 rfl) ?_
        refine x_gi C hX 26 (by decide) rfl q762 (fun _ h => h) (F 26) rfl (b := (0, 12)) rfl dX0_word_42 (fun _ => ?_)
        refine x_newo C hX hS 1 (by decide) (ci := 3) rfl in_X6 tyX6 tyX6_ok q356 q357 q104 [.null] (fun j hj => by rw [show j = 0 by omega]; rfl) (show 0 + 1 ≤ 2 from (by omega)) (show 0 + 1 ≤ 9 from (by omega)) dX0_word_45 (fun ob_4 H hX hS => ?_)
        have hX : XH E A B F M G (va_up (va_up T 0 none) 1 (some (ob_4, .inr (3, [.null])))) H := hX.to rfl rfl rfl rfl (up_up _ _ _ _)
        refine lv_dup C.x C.b dX0_word_48 rfl ?_
        refine lv_iload_n C.x C.b dX0_word_49 rfl (lv_at hl 1 rfl) ?_
        refine lv_iload_n C.x C.b dX0_word_50 rfl (lv_at hl 2 rfl) ?_
        refine r_callIv (As := [.int (zi n), .int (zi v)]) (rest := [.ref ob_4, .int (zi (F 26)), .ref (B 25 0)]) (cells' := 2) (slots' := 9) C (met_X6_init l E A B F M G (va_up (va_up T 0 none) 1 (some (ob_4, .inr (3, [.null])))) ob_4 n v (show 1 ≤ n ∧ n ≤ 8 from (by omega)) (show 0 ≤ v ∧ v < 2147483648 from (by omega)) rfl) q360 q104 q358 q359 rfl hd_X6_init.2 rfl (by decide) hX hS hl.1 rfl (Nat.le_of_ble_eq_true rfl) dX0_word_51 rfl rfl ⟨Nat.le_of_ble_eq_true rfl, Nat.le_of_ble_eq_true rfl⟩ (fun H locs hp hS => ?_)
        obtain ⟨a0, g0, hg, hgz, hgb, hX⟩ := hp
        replace hg : ∀ j : Int, 0 ≤ j → j < n → g0 j = snd v (n - 1 - j) := hg
        replace hgz : ∀ j : Int, n ≤ j → g0 j = 0 := hgz
        replace hgb : ∀ j : Int, 0 ≤ g0 j ∧ g0 j ≤ 3 := hgb
        have hX : XH E A B F M G (va_up (va_up T 0 (some (tA E a0 n.toNat g0))) 1 (some (ob_4, .inr (3, [.ref a0])))) H := hX.to rfl rfl rfl rfl ((congrArg (fun z : x_T => va_up z 1 (some (ob_4, .inr (3, [.ref a0])))) (up_in (by decide) (up_up _ _ _ _))).trans (up_up _ _ _ _))
        refine x_astT C hX hS 1 (by decide) (a := ob_4) (vs := [.ref a0]) (ci := 3) rfl (r := (RX6, TX6, 1)) rfl 25 rfl rfl (by decide) rfl (show 0 ≤ (F 26) ∧ (F 26) < 12 from (by omega)) (by decide) (fun g hg => by cases hg) dX0_word_54 (G' := (va_up G 25 (fup (G 25) (F 26) (some ob_4)))) rfl (fun H locs hX hS => ?_)
        refine lv_aload_n C.x C.b dX0_word_55 rfl (lv_at hl 0 rfl) ?_
        refine x_ga C hX 27 (by decide) rfl q763 (fun _ h => h) dX0_word_56 ?_
        refine lv_iload_n C.x C.b dX0_word_59 rfl (lv_at hl 1 rfl) ?_
        refine x_la C hX 27 rfl rfl rfl (by decide) rfl rfl (show 0 ≤ n ∧ n < 7 from (by omega)) (by omega) (by decide) dX0_word_60 ?_
        refine lv_aload_n C.x C.b dX0_word_61 rfl (lv_at hl 0 rfl) ?_
        refine x_ga C hX 25 (by decide) rfl q761 (fun _ h => h) dX0_word_62 ?_
        refine lv_aload_n C.x C.b dX0_word_65 rfl (lv_at hl 0 rfl) ?_
        refine x_gi C hX 26 (by decide) rfl q762 (fun _ h => h) (F 26) rfl (b := (0, 12)) rfl dX0_word_66 (fun _ => ?_)
        refine x_lag C hX 25 rfl rfl (by decide) rfl rfl (show 0 ≤ (F 26) ∧ (F 26) < 12 from (by omega)) (by decide) (a := ob_4) (fup_s _ _ _) dX0_word_69 ?_
        refine r_callUi (As := []) (rest := [.ref (B 53 n)]) (cells' := 2) (slots' := 9) C (met_X4_number l E A B F M (va_up G 25 (fup (G 25) (F 26) (some ob_4))) (va_up (va_up T 0 (some (tA E a0 n.toNat g0))) 1 (some (ob_4, .inr (3, [.ref a0])))) a0 n g0 ob_4 (show 0 ≤ n ∧ n ≤ 6 from (by omega)) (show ∀ j : Int, 0 ≤ g0 j ∧ g0 j ≤ 3 from hgb) rfl rfl) (lw_U q364 q365 q367 q368 q102 q369) rfl hd_X4_number.2 rfl (by decide) (x_trecv C hX (j := 1) (by decide) rfl (ci := 3) (q := (RX6, TX6, 1)) rfl) hX hS hl.1 rfl (Nat.le_of_ble_eq_true rfl) dX0_word_70 rfl rfl ⟨Nat.le_of_ble_eq_true rfl, Nat.le_of_ble_eq_true rfl⟩ (fun rr H locs hp hS => ?_)
        obtain ⟨hrr, hX⟩ := hp
        have hrr : rr = rowS g0 n := hrr
        subst hrr
        have hrv : rowS g0 n = v := snd_rowS (by omega) ⟨by omega, by omega⟩ hg hgb
        refine r_const C dX0_word_73 ?_
        refine x_sz C hX hS 53 rfl (by decide) rfl (show 0 ≤ n ∧ n < 7 from (by omega)) (show 0 ≤ (rowS g0 n) ∧ (rowS g0 n) < 4096 from (by omega)) (by decide) (nar_z (by omega)) (fun b hb => by cases hb; exact (show 0 ≤ 1 ∧ 1 ≤ 1 from (by omega))) (M' := (va_up M 53 (fup (M 53) (4096 * n + (rowS g0 n)) 1))) rfl dX0_word_74 (fun H locs hX hS => ?_)
        refine lv_aload_n C.x C.b dX0_word_75 rfl (lv_at hl 0 rfl) ?_
        refine lv_dup C.x C.b dX0_word_76 rfl ?_
        refine x_gi C hX 26 (by decide) rfl q762 (fun _ h => h) (F 26) rfl (b := (0, 12)) rfl dX0_word_77 (fun _ => ?_)
        refine r_const C dX0_word_80 ?_
        refine r_iadd C dX0_word_81 ?_
        refine x_pi C hX hS 26 (by decide) rfl (by decide) rfl rfl q762 (fun _ h => h) (b := (0, 12)) rfl (show 0 ≤ (F 26) + 1 ∧ (F 26) + 1 ≤ 12 from (by omega)) (F' := (va_up F 26 ((F 26) + 1))) rfl dX0_word_82 (fun H locs hX hS => ?_)
        refine lv_aload_n C.x C.b dX0_word_85 rfl (lv_at hl 0 rfl) ?_
        refine x_gi C hX 26 (by decide) rfl q762 (fun _ h => h) ((F 26) + 1) rfl (b := (0, 12)) rfl dX0_word_86 (fun r86 => ?_)
        have r86 : 0 ≤ (F 26) + 1 ∧ (F 26) + 1 ≤ 12 := r86
        refine r_const C dX0_word_89 ?_
        refine r_isub C dX0_word_90 ?_
        have hX : XH E A B (va_up F 26 ((F 26) + 1)) (va_up M 53 (fup (M 53) (4096 * n + (rowS g0 n)) 1)) (va_up G 25 (fup (G 25) (F 26) (some ob_4))) (va_up (va_up T 0 none) 1 (some (ob_4, .inr (3, [.ref a0])))) H := (x_tdrop hX 0).to rfl rfl rfl rfl (up_in (by decide) (up_up _ _ _ _))
        have hX : XH E A B (va_up F 26 ((F 26) + 1)) (va_up M 53 (fup (M 53) (4096 * n + (rowS g0 n)) 1)) (va_up G 25 (fup (G 25) (F 26) (some ob_4))) (va_up (va_up T 0 none) 1 none) H := (x_tdrop hX 1).to rfl rfl rfl rfl (up_up _ _ _ _)
        have hX : XH E A B (va_up F 26 ((F 26) + 1)) (va_up M 53 (fup (M 53) (4096 * n + (rowS g0 n)) 1)) (va_up G 25 (fup (G 25) (F 26) (some ob_4))) T H := hX.to rfl rfl rfl rfl ((congrArg (fun z => va_up z 1 none) (up_id T hT0)).trans (up_id T hT1))
        rw [← hQQ]
        exact r_iret C hS (Nat.le_of_ble_eq_true rfl) (Nat.le_of_ble_eq_true rfl) dX0_word_91 ⟨((F 26) + 1), (fup (M 53) (4096 * n + (rowS g0 n)) 1), (fup (G 25) (F 26) (some ob_4)), (fun _ => ⟨rfl, by rw [hrv]⟩), (fun q => absurd ⟨by assumption, by omega, by assumption⟩ q), (by rw [sel_t (by assumption), sel_f (by omega), sel_f (by assumption)]; omega), hX⟩
      · refine r_bipush C (by decide) dX0_word_34 ?_
        have hX : XH E A B F M G T H := hX.to rfl rfl rfl rfl ((congrArg (fun z => va_up z 1 none) (up_id T hT0)).trans (up_id T hT1))
        rw [← hQQ]
        exact r_iret C hS (Nat.le_of_ble_eq_true rfl) (Nat.le_of_ble_eq_true rfl) dX0_word_36 ⟨(F 26), (M 53), (G 25), (fun q => absurd (by assumption) q.2.2), (fun _ => ⟨rfl, rfl⟩), (by rw [sel_t (by assumption), sel_f (by omega), sel_t (by assumption)]), (hX.to rfl ((up_id F (k := 26) (a := (F 26)) rfl).symm.trans rfl) ((up_id M (k := 53) (a := (M 53)) rfl).symm.trans rfl) ((up_id G (k := 25) (a := (G 25)) rfl).symm.trans rfl) rfl)⟩
    · refine r_const C dX0_word_23 ?_
      have hX : XH E A B F M G T H := hX.to rfl rfl rfl rfl ((congrArg (fun z => va_up z 1 none) (up_id T hT0)).trans (up_id T hT1))
      rw [← hQQ]
      exact r_iret C hS (Nat.le_of_ble_eq_true rfl) (Nat.le_of_ble_eq_true rfl) dX0_word_24 ⟨(F 26), (M 53), (G 25), (fun q => absurd (by omega) q.2.1), (fun _ => ⟨rfl, rfl⟩), (by rw [sel_t (by assumption), sel_t (by omega)]), (hX.to rfl ((up_id F (k := 26) (a := (F 26)) rfl).symm.trans rfl) ((up_id M (k := 53) (a := (M 53)) rfl).symm.trans rfl) ((up_id G (k := 25) (a := (G 25)) rfl).symm.trans rfl) rfl)⟩
  · refine r_const C dX0_word_10 ?_
    have hX : XH E A B F M G T H := hX.to rfl rfl rfl rfl ((congrArg (fun z => va_up z 1 none) (up_id T hT0)).trans (up_id T hT1))
    rw [← hQQ]
    exact r_iret C hS (Nat.le_of_ble_eq_true rfl) (Nat.le_of_ble_eq_true rfl) dX0_word_11 ⟨(F 26), (M 53), (G 25), (fun q => absurd q.1 (by assumption)), (fun _ => ⟨rfl, rfl⟩), (Eq.symm (sel_f (by assumption))), (hX.to rfl ((up_id F (k := 26) (a := (F 26)) rfl).symm.trans rfl) ((up_id M (k := 53) (a := (M 53)) rfl).symm.trans rfl) ((up_id G (k := 25) (a := (G 25)) rfl).symm.trans rfl) rfl)⟩
