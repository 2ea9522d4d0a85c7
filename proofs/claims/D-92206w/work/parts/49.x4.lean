set_option maxRecDepth 100000

theorem HS_stx {on gn : Int → Int} {k i v x : Int} (hv : 0 ≤ v) (hk : 0 ≤ k) (hi : k + 1 ≤ i) (h : ∀ b : Int, 0 ≤ b → (Bt v b ↔ HS on (fun i => gn i = -4) k (i - k - 1).toNat b)) (hon : 0 ≤ on i) (hx : x = sel (gn i = -4) (sel (nd (on i) v = 0) 0 (1 * 2 ^ i.toNat)) 0) : ∀ b : Int, 0 ≤ b → (Bt (oo v x) b ↔ HS on (fun i => gn i = -4) k (i + 1 - k - 1).toNat b) := by
  rw [show (i + 1 - k - 1).toNat = (i - k - 1).toNat + 1 by omega]
  refine HS_st hv hk h (by omega) hon ?_
  rw [hx]
  by_cases q : nd (on i) v = 0
  · rw [sel_t q, sel_f (c := gn i = -4 ∧ ¬ nd (on i) v = 0) (fun z => z.2 q)]
    by_cases g : gn i = -4
    · rw [sel_t g]
    · rw [sel_f g]
  · rw [sel_f q]
    by_cases g : gn i = -4
    · rw [sel_t g, sel_t ⟨g, q⟩]
    · rw [sel_f g, sel_f (fun z => g z.1)]
theorem dp_mx {P : Prop} {a b : Int} : sel P (sel (b < 1 + a) (1 + a) b) b = sel (P ∧ b < a + 1) (a + 1) b := by
  by_cases p : P
  · rw [sel_t p]
    by_cases q : b < a + 1
    · rw [sel_t (c := P ∧ b < a + 1) ⟨p, q⟩, sel_t (c := b < 1 + a) (by omega), Int.add_comm]
    · rw [sel_f (c := P ∧ b < a + 1) (fun z => q z.2), sel_f (c := b < 1 + a) (by omega)]
  · rw [sel_f p, sel_f (fun z => p z.1)]
noncomputable def c5x (on gn : Int → Int) (k m : Int) : Int := isum (fun i => bI (HSx on gn k m i)) m
theorem HSx_r {on gn : Int → Int} {k m i : Int} (hk : 0 ≤ k ∧ k < m) (h : HSx on gn k m i) : 0 ≤ i ∧ i < m := by
  have := HS_rg h
  omega
theorem hx_bits {on gn : Int → Int} {k m r : Int} (hk : 0 ≤ k ∧ k < m) (hm : m ≤ 20) (hr : 0 ≤ r ∧ r < 1048576) (h : ∀ b : Int, 0 ≤ b → (Bt r b ↔ HSx on gn k m b)) : bits r = c5x on gn k m := bits_P (by omega) (by omega) (fun b a _ => h b a) (fun b a q => by have := HSx_r hk ((h b (by omega)).1 q); omega)

theorem hd_X0_hung : yX0_hung.cls = RX0 ∧ yX0_hung.cls ≠ "java/lang/invoke/MethodHandle" ∧ yX0_hung.cls ≠ "java/lang/invoke/VarHandle" ∧ (parseMethodDescriptor yX0_hung.desc).map (fun d => d.parameters.length) = some 1 := by decide +kernel
abbrev rm_X0_hung : Room := { frames := 0, cells := 0, slots := 0, locals := 0 }
set_option maxHeartbeats 8000000 in
theorem met_X0_hung (l : Launch) (E : us_E) (A : Nat → Prop) (B : Nat → Int → Nat) (F : Nat → Int) (M : Nat → Int → Int) (G : Nat → Int → Option Nat) (T : x_T) (k : Int) (hk : 0 ≤ k ∧ k < F 43) : cMet l yX0_hung cX0_hung 4 (some .int) rm_X0_hung A E [.ref (B 49 0), .int (zi k)] (fun H => XH E A B F M G T H) (qi A (fun r H => ((0 ≤ r ∧ r < 1048576) ∧ ∀ b : Int, 0 ≤ b → (Bt r b ↔ HSx (M 208) (M 209) k (F 43) b)) ∧ XH E A B F M G T H)) := by
  refine cMet.of (by decide) (Nat.le_of_ble_eq_true rfl) (fun p e s m args below meth c C hnm hX hS ls hl => ?_)
  have C : Cx p s m args meth c A RX0 cX0_hung 4 (some .int) E := C
  have hX : XH E A B F M G T s.heap := hX
  have hl : lv_has ls 4 [(0, .ref (B 49 0)), (1, .int (zi k))] := hl
  generalize hH : s.heap = H at hX
  have hS : va_S A s.heap H [] := by rw [← hH]; exact hS
  generalize hlocs : ([] : List Loc) = locs at hS ⊢
  obtain ⟨QQ, hQQ⟩ : ∃ zQQ, MQ below (qi A (fun r H => ((0 ≤ r ∧ r < 1048576) ∧ ∀ b : Int, 0 ≤ b → (Bt r b ↔ HSx (M 208) (M 209) k (F 43) b)) ∧ XH E A B F M G T H)) args s (rm_X0_hung).cells (rm_X0_hung).slots A = zQQ := ⟨_, rfl⟩
  rw [hQQ]
  have rF43 : 0 ≤ F 43 ∧ F 43 ≤ 20 := hX.2.1 43 (0, 20) rfl
  have hpk := p2_19 (k := k) (by have := hX.2.1 43 (0, 20) rfl; omega)
  refine r_const C dX0_hung_0 ?_
  refine lv_iload_n C.x C.b dX0_hung_1 rfl (lv_at hl 1 rfl) ?_
  refine r_ishl C (by omega) (by omega) rfl dX0_hung_2 ?_
  refine lv_istore_n (lv' := [(2, .int (zi (1 * 2 ^ k.toNat))), (0, .ref (B 49 0)), (1, .int (zi k))]) C.x C.b dX0_hung_3 rfl hl (by decide) rfl (fun ls hl => ?_)
  refine lv_iload_n C.x C.b dX0_hung_4 rfl (lv_at hl 2 rfl) ?_
  refine r_const C dX0_hung_5 ?_
  refine r_iadd C dX0_hung_6 ?_
  refine lv_istore_n (lv' := [(3, .int (zi (k + 1))), (2, .int (zi (1 * 2 ^ k.toNat))), (0, .ref (B 49 0)), (1, .int (zi k))]) C.x C.b dX0_hung_7 rfl hl (by decide) rfl (fun ls hl => ?_)
  have L8 : ∀ (fu : Nat) (v2 : Int) (v3 : Int) (h3 : k + 1 ≤ v3 ∧ v3 ≤ F 43) (hv2 : 0 ≤ v2 ∧ v2 < 1048576) (hb : ∀ b : Int, 0 ≤ b → (Bt v2 b ↔ HS (M 208) (fun i => M 209 i = -4) k (v3 - k - 1).toNat b)) (hm : Int.toNat (F 43 - v3) < fu) (H : Heap) (locs : List Loc) (ls : Array Slot) (hX : XH E A B F M G T H) (hS : va_S A s.heap H locs) (hl : lv_has ls 4 [(0, .ref (B 49 0)), (1, .int (zi k)), (2, .int (zi v2)), (3, .int (zi v3))]), W p l e rm_X0_hung s m args below meth c H locs 0 0 QQ (F0 m 8 ls []) := by
    intro fu
    induction fu with
    | zero => intro v2 v3 h3 hv2 hb hm; exact absurd hm (Nat.not_lt_zero _)
    | succ fu ih8 =>
      intro v2 v3 h3 hv2 hb hm H locs ls hX hS hl
      refine lv_iload_n C.x C.b dX0_hung_8 rfl (lv_at hl 3 rfl) ?_
      refine lv_aload_n C.x C.b dX0_hung_9 rfl (lv_at hl 0 rfl) ?_
      refine x_gi C hX 43 (by decide) rfl q781 (fun _ h => h) (F 43) rfl (b := (0, 20)) rfl dX0_hung_10 (fun _ => ?_)
      refine r_icmp_ge (tgt := 60) C (by omega) (by omega) dX0_hung_13 (by decide) (fun c_1 => ?_) (fun c_1 => ?_)
      · refine lv_iload_n C.x C.b dX0_hung_60 rfl (lv_at hl 2 rfl) ?_
        rw [← hQQ]
        exact r_iret C hS (Nat.le_of_ble_eq_true rfl) (Nat.le_of_ble_eq_true rfl) dX0_hung_61 ⟨⟨hv2, fun b z => by rw [hb b z, show v3 = F 43 by omega]; exact Iff.rfl⟩, hX⟩
      · have hp3 := p2_19 (k := v3) (by omega)
        have r208 : 0 ≤ M 208 v3 ∧ M 208 v3 ≤ 1048575 := hX.2.2.1 208 (0, 1048575) rfl v3
        have hnd := nd_r (y := v2) r208.1
        refine lv_iload_n C.x C.b dX0_hung_16 rfl (lv_at hl 2 rfl) ?_
        refine lv_aload_n C.x C.b dX0_hung_17 rfl (lv_at hl 0 rfl) ?_
        refine x_ga C hX 42 (by decide) rfl q779 (fun _ h => h) dX0_hung_18 ?_
        refine lv_iload_n C.x C.b dX0_hung_21 rfl (lv_at hl 3 rfl) ?_
        refine x_la C hX 42 rfl rfl rfl (by decide) rfl rfl (show 0 ≤ v3 ∧ v3 < F 43 from (by omega)) (by omega) (by decide) dX0_hung_22 ?_
        refine x_goN C hX 59 (by decide) (show 0 ≤ v3 ∧ v3 < F 43 from (by omega)).1 (xK_59 (show 0 ≤ v3 ∧ v3 < F 43 from (by omega))) rfl in_X9 4 (by decide) (List.mem_of_getElem? (i := 6) rfl) (fun _ h => h) (.int (zi (M 209 v3))) rfl dX0_hung_23 ?_
        have r23 : -4 ≤ M 209 v3 ∧ M 209 v3 ≤ 99 := hX.2.2.1 209 (-4, 99) rfl _
        refine r_bipush C (by decide) dX0_hung_26 ?_
        have J52_2 : ∀ (t1 : Int) (ht1 : t1 = sel ((M 209 v3) = (-4)) (sel ((nd (M 208 v3) v2) = 0) 0 (1 * 2 ^ v3.toNat)) 0) (H : Heap) (locs : List Loc) (ls : Array Slot) (hX : XH E A B F M G T H) (hS : va_S A s.heap H locs) (hl : lv_has ls 4 [(0, .ref (B 49 0)), (1, .int (zi k)), (2, .int (zi v2)), (3, .int (zi v3))]), W p l e rm_X0_hung s m args below meth c H locs 0 0 QQ (F0 m 52 ls [.int (zi t1), .int (zi v2)]) := by
          intro t1 ht1 H locs ls hX hS hl
          subst ht1
          have hrt1 : (0 : Int) ≤ ((sel ((M 209 v3) = (-4)) (sel ((nd (M 208 v3) v2) = 0) 0 (1 * 2 ^ v3.toNat)) 0) : Int) ∧ ((sel ((M 209 v3) = (-4)) (sel ((nd (M 208 v3) v2) = 0) 0 (1 * 2 ^ v3.toNat)) 0) : Int) ≤ 524288 := by
            exact (sel_rg (fun qq => (sel_rg (fun qq => (by omega)) (fun qq => (by omega)))) (fun qq => (by omega)))
          refine r_ior (v := oo v2 (sel ((M 209 v3) = (-4)) (sel ((nd (M 208 v3) v2) = 0) 0 (1 * 2 ^ v3.toNat)) 0)) C (zi_or (by omega) (by omega)) dX0_hung_52 ?_
          refine lv_istore_n (lv' := [(2, .int (zi (oo v2 (sel ((M 209 v3) = (-4)) (sel ((nd (M 208 v3) v2) = 0) 0 (1 * 2 ^ v3.toNat)) 0)))), (0, .ref (B 49 0)), (1, .int (zi k)), (3, .int (zi v3))]) C.x C.b dX0_hung_53 rfl hl (by decide) rfl (fun ls hl => ?_)
          refine r_iinc (lv' := [(3, .int (zi (v3 + 1))), (2, .int (zi (oo v2 (sel ((M 209 v3) = (-4)) (sel ((nd (M 208 v3) v2) = 0) 0 (1 * 2 ^ v3.toNat)) 0)))), (0, .ref (B 49 0)), (1, .int (zi k))]) C dX0_hung_54 hl (k := 3) rfl (by decide) rfl (fun ls hl => ?_)
          refine lv_goto (tgt := 8) C.x C.b dX0_hung_57 (by decide) ?_
          exact ih8 (oo v2 (sel ((M 209 v3) = (-4)) (sel ((nd (M 208 v3) v2) = 0) 0 (1 * 2 ^ v3.toNat)) 0)) (v3 + 1) (by omega) (oo_20 hv2 ⟨by omega, by omega⟩) (HS_stx hv2.1 hk.1 h3.1 hb (by omega) rfl) (by omega) H locs ls hX hS (lv_sub hl [2, 3, 1, 0] rfl)
        refine r_icmp_ne (tgt := 51) C (by omega) (by decide) dX0_hung_28 (by decide) (fun c_3 => ?_) (fun c_3 => ?_)
        · refine r_const C dX0_hung_51 ?_
          exact J52_2 0 ((sel_f c_3).symm) H locs ls hX hS hl
        · refine lv_aload_n C.x C.b dX0_hung_31 rfl (lv_at hl 0 rfl) ?_
          refine x_ga C hX 42 (by decide) rfl q779 (fun _ h => h) dX0_hung_32 ?_
          refine lv_iload_n C.x C.b dX0_hung_35 rfl (lv_at hl 3 rfl) ?_
          refine x_la C hX 42 rfl rfl rfl (by decide) rfl rfl (show 0 ≤ v3 ∧ v3 < F 43 from (by omega)) (by omega) (by decide) dX0_hung_36 ?_
          refine x_goN C hX 59 (by decide) (show 0 ≤ v3 ∧ v3 < F 43 from (by omega)).1 (xK_59 (show 0 ≤ v3 ∧ v3 < F 43 from (by omega))) rfl in_X9 3 (by decide) (List.mem_of_getElem? (i := 5) rfl) (fun _ h => h) (.int (zi (M 208 v3))) rfl dX0_hung_37 ?_
          have r37 : 0 ≤ M 208 v3 ∧ M 208 v3 ≤ 1048575 := hX.2.2.1 208 (0, 1048575) rfl _
          refine lv_iload_n C.x C.b dX0_hung_40 rfl (lv_at hl 2 rfl) ?_
          refine r_iand (v := nd (M 208 v3) v2) C (zi_and (by omega) (by omega)) dX0_hung_41 ?_
          refine r_if_eq (tgt := 51) C (by omega) dX0_hung_42 (by decide) (fun c_4 => ?_) (fun c_4 => ?_)
          · refine r_const C dX0_hung_51 ?_
            exact J52_2 0 (((sel_t c_3).trans (sel_t c_4)).symm) H locs ls hX hS hl
          · refine r_const C dX0_hung_45 ?_
            refine lv_iload_n C.x C.b dX0_hung_46 rfl (lv_at hl 3 rfl) ?_
            refine r_ishl C (by omega) (by omega) rfl dX0_hung_47 ?_
            refine lv_goto (tgt := 52) C.x C.b dX0_hung_48 (by decide) ?_
            exact J52_2 (1 * 2 ^ v3.toNat) (((sel_t c_3).trans (sel_f c_4)).symm) H locs ls hX hS hl
  exact L8 _ (1 * 2 ^ k.toNat) (k + 1) (by omega) (by omega) (fun b z => by rw [show (k + 1 - k - 1).toNat = 0 by omega]; exact Bt_one hk.1 z) (Nat.lt_succ_self _) H locs ls hX hS (lv_sub hl [2, 3, 1, 0] rfl)

theorem hd_X0_deep : yX0_deep.cls = RX0 ∧ yX0_deep.cls ≠ "java/lang/invoke/MethodHandle" ∧ yX0_deep.cls ≠ "java/lang/invoke/VarHandle" ∧ (parseMethodDescriptor yX0_deep.desc).map (fun d => d.parameters.length) = some 1 := by decide +kernel
abbrev rm_X0_deep_ (nn : Nat) : Room := { frames := nn, cells := 0, slots := 0, locals := 60 * nn }
set_option maxHeartbeats 8000000 in
theorem met_X0_deep_st (l : Launch) (E : us_E) (A : Nat → Prop) (B : Nat → Int → Nat) (F : Nat → Int) (M : Nat → Int → Int) (G : Nat → Int → Option Nat) (T : x_T) (k : Int) (hk : 0 ≤ k ∧ k < F 43) (hk2 : k < 21) (nn : Nat) (IH : ∀ k1 : Int, k1 < k → (0 ≤ k1 ∧ k1 < F 43) → k1 < 21 → cMet l yX0_deep cX0_deep 4 (some .int) (rm_X0_deep_ nn) A E [.ref (B 49 0), .int (zi k1)] (fun H => XH E A B F M G T H) (qi A (fun r H => (0 ≤ dp (M 208) k1 ∧ dp (M 208) k1 ≤ k1) ∧ (r = dp (M 208) k1) ∧ XH E A B F M G T H))) : cMet l yX0_deep cX0_deep 4 (some .int) (rm_X0_deep_ (nn + 1)) A E [.ref (B 49 0), .int (zi k)] (fun H => XH E A B F M G T H) (qi A (fun r H => (0 ≤ dp (M 208) k ∧ dp (M 208) k ≤ k) ∧ (r = dp (M 208) k) ∧ XH E A B F M G T H)) := by
  refine cMet.of (by decide) (Nat.le_of_ble_eq_true rfl) (fun p e s m args below meth c C hnm hX hS ls hl => ?_)
  have C : Cx p s m args meth c A RX0 cX0_deep 4 (some .int) E := C
  have hX : XH E A B F M G T s.heap := hX
  have hl : lv_has ls 4 [(0, .ref (B 49 0)), (1, .int (zi k))] := hl
  generalize hH : s.heap = H at hX
  have hS : va_S A s.heap H [] := by rw [← hH]; exact hS
  generalize hlocs : ([] : List Loc) = locs at hS ⊢
  obtain ⟨QQ, hQQ⟩ : ∃ zQQ, MQ below (qi A (fun r H => (0 ≤ dp (M 208) k ∧ dp (M 208) k ≤ k) ∧ (r = dp (M 208) k) ∧ XH E A B F M G T H)) args s ((rm_X0_deep_ (nn + 1))).cells ((rm_X0_deep_ (nn + 1))).slots A = zQQ := ⟨_, rfl⟩
  rw [hQQ]
  have rF43 : 0 ≤ F 43 ∧ F 43 ≤ 20 := hX.2.1 43 (0, 20) rfl
  refine r_const C dX0_deep_0 ?_
  refine lv_istore_n (lv' := [(2, .int (zi 0)), (0, .ref (B 49 0)), (1, .int (zi k))]) C.x C.b dX0_deep_1 rfl hl (by decide) rfl (fun ls hl => ?_)
  refine r_const C dX0_deep_2 ?_
  refine lv_istore_n (lv' := [(3, .int (zi 0)), (2, .int (zi 0)), (0, .ref (B 49 0)), (1, .int (zi k))]) C.x C.b dX0_deep_3 rfl hl (by decide) rfl (fun ls hl => ?_)
  have L4 : ∀ (fu : Nat) (v2 : Int) (v3 : Int) (h3 : 0 ≤ v3 ∧ v3 ≤ k) (hv : v2 = dpS (M 208) (dp (M 208)) k v3) (hvr : 0 ≤ v2 ∧ v2 ≤ k) (hm : Int.toNat (k - v3) < fu) (H : Heap) (locs : List Loc) (ls : Array Slot) (hX : XH E A B F M G T H) (hS : va_S A s.heap H locs) (hl : lv_has ls 4 [(0, .ref (B 49 0)), (1, .int (zi k)), (2, .int (zi v2)), (3, .int (zi v3))]), W p l e (rm_X0_deep_ (nn + 1)) s m args below meth c H locs 0 0 QQ (F0 m 4 ls []) := by
    intro fu
    induction fu with
    | zero => intro v2 v3 h3 hv hvr hm; exact absurd hm (Nat.not_lt_zero _)
    | succ fu ih4 =>
      intro v2 v3 h3 hv hvr hm H locs ls hX hS hl
      refine lv_iload_n C.x C.b dX0_deep_4 rfl (lv_at hl 3 rfl) ?_
      refine lv_iload_n C.x C.b dX0_deep_5 rfl (lv_at hl 1 rfl) ?_
      refine r_icmp_ge (tgt := 48) C (by omega) (by omega) dX0_deep_6 (by decide) (fun c_1 => ?_) (fun c_1 => ?_)
      · refine lv_iload_n C.x C.b dX0_deep_48 rfl (lv_at hl 2 rfl) ?_
        rw [← hQQ]
        exact r_iret C hS (Nat.le_of_ble_eq_true rfl) (Nat.le_of_ble_eq_true rfl) dX0_deep_49 ⟨(by exact dp_r hk.1), (by rw [hv, show v3 = k by omega]; exact (dp_e hk.1).symm), hX⟩
      · refine lv_aload_n C.x C.b dX0_deep_9 rfl (lv_at hl 0 rfl) ?_
        refine x_ga C hX 42 (by decide) rfl q779 (fun _ h => h) dX0_deep_10 ?_
        refine lv_iload_n C.x C.b dX0_deep_13 rfl (lv_at hl 1 rfl) ?_
        refine x_la C hX 42 rfl rfl rfl (by decide) rfl rfl (show 0 ≤ k ∧ k < F 43 from (by omega)) (by omega) (by decide) dX0_deep_14 ?_
        refine x_goN C hX 59 (by decide) (show 0 ≤ k ∧ k < F 43 from (by omega)).1 (xK_59 (show 0 ≤ k ∧ k < F 43 from (by omega))) rfl in_X9 3 (by decide) (List.mem_of_getElem? (i := 5) rfl) (fun _ h => h) (.int (zi (M 208 k))) rfl dX0_deep_15 ?_
        have r15 : 0 ≤ M 208 k ∧ M 208 k ≤ 1048575 := hX.2.2.1 208 (0, 1048575) rfl _
        refine lv_iload_n C.x C.b dX0_deep_18 rfl (lv_at hl 3 rfl) ?_
        have r208 : 0 ≤ M 208 k ∧ M 208 k ≤ 1048575 := hX.2.2.1 208 (0, 1048575) rfl k
        have hd3 := dp_r (on := M 208) h3.1
        have hmx : 0 ≤ sel (v2 < 1 + dp (M 208) v3) (1 + dp (M 208) v3) v2 ∧ sel (v2 < 1 + dp (M 208) v3) (1 + dp (M 208) v3) v2 ≤ k := sel_rg (fun _ => by omega) (fun _ => by omega)
        refine r_ishr C (by omega) (by omega) rfl dX0_deep_19 ?_
        refine r_const C dX0_deep_20 ?_
        refine r_iand C (zi_and1 _) dX0_deep_21 ?_
        refine r_const C dX0_deep_22 ?_
        have J41_2 : ∀ (t0 : Int) (ht0 : t0 = sel ((((M 208 k) / 2 ^ v3.toNat) % 2) = 1) (sel (v2 < (1 + (dp ((M 208)) v3))) (1 + (dp ((M 208)) v3)) v2) v2) (H : Heap) (locs : List Loc) (ls : Array Slot) (hX : XH E A B F M G T H) (hS : va_S A s.heap H locs) (hl : lv_has ls 4 [(0, .ref (B 49 0)), (1, .int (zi k)), (2, .int (zi v2)), (3, .int (zi v3))]), W p l e (rm_X0_deep_ (nn + 1)) s m args below meth c H locs 0 0 QQ (F0 m 41 ls [.int (zi t0)]) := by
          intro t0 ht0 H locs ls hX hS hl
          subst ht0
          have hrt0 : (0 : Int) ≤ ((sel ((((M 208 k) / 2 ^ v3.toNat) % 2) = 1) (sel (v2 < (1 + (dp ((M 208)) v3))) (1 + (dp ((M 208)) v3)) v2) v2) : Int) ∧ ((sel ((((M 208 k) / 2 ^ v3.toNat) % 2) = 1) (sel (v2 < (1 + (dp ((M 208)) v3))) (1 + (dp ((M 208)) v3)) v2) v2) : Int) ≤ k := by
            exact (sel_rg (fun qq => (by omega)) (fun qq => (by omega)))
          refine lv_istore_n (lv' := [(2, .int (zi (sel ((((M 208 k) / 2 ^ v3.toNat) % 2) = 1) (sel (v2 < (1 + (dp ((M 208)) v3))) (1 + (dp ((M 208)) v3)) v2) v2))), (0, .ref (B 49 0)), (1, .int (zi k)), (3, .int (zi v3))]) C.x C.b dX0_deep_41 rfl hl (by decide) rfl (fun ls hl => ?_)
          refine r_iinc (lv' := [(3, .int (zi (v3 + 1))), (2, .int (zi (sel ((((M 208 k) / 2 ^ v3.toNat) % 2) = 1) (sel (v2 < (1 + (dp ((M 208)) v3))) (1 + (dp ((M 208)) v3)) v2) v2))), (0, .ref (B 49 0)), (1, .int (zi k))]) C dX0_deep_42 hl (k := 3) rfl (by decide) rfl (fun ls hl => ?_)
          refine lv_goto (tgt := 4) C.x C.b dX0_deep_45 (by decide) ?_
          exact ih4 (sel ((((M 208 k) / 2 ^ v3.toNat) % 2) = 1) (sel (v2 < (1 + (dp ((M 208)) v3))) (1 + (dp ((M 208)) v3)) v2) v2) (v3 + 1) (by omega) (by rw [dpS_s h3.1, ← hv]; exact dp_mx) (by omega) (by omega) H locs ls hX hS (lv_sub hl [2, 3, 1, 0] rfl)
        refine r_icmp_ne (tgt := 40) C (by omega) (by decide) dX0_deep_23 (by decide) (fun c_3 => ?_) (fun c_3 => ?_)
        · refine lv_iload_n C.x C.b dX0_deep_40 rfl (lv_at hl 2 rfl) ?_
          exact J41_2 v2 ((sel_f c_3).symm) H locs ls hX hS hl
        · refine lv_iload_n C.x C.b dX0_deep_26 rfl (lv_at hl 2 rfl) ?_
          refine r_const C dX0_deep_27 ?_
          refine lv_aload_n C.x C.b dX0_deep_28 rfl (lv_at hl 0 rfl) ?_
          refine lv_iload_n C.x C.b dX0_deep_29 rfl (lv_at hl 3 rfl) ?_
          refine r_callVi (As := [.int (zi v3)]) (rest := [.int (zi 1), .int (zi v2)]) (cells' := 0) (slots' := 0) C (IH v3 (by omega) (show 0 ≤ v3 ∧ v3 < (F 43) from (by omega)) (show v3 < 21 from (by omega))) (lw_V q684 q686 qs41 q86 q687) hd_X0_deep rfl ⟨Nat.le_refl (nn + 1), (show 8 + (4 + 11) + 60 * nn ≤ 60 * (nn + 1) by omega)⟩ (x_this C hX) hX hS hl.1 rfl (Nat.le_of_ble_eq_true rfl) dX0_deep_30 rfl rfl ⟨Nat.le_of_ble_eq_true rfl, Nat.le_of_ble_eq_true rfl⟩ (fun rr H locs hp hS => ?_)
          obtain ⟨hdr, hrr, hX⟩ := hp
          have hrr : rr = dp ((M 208)) v3 := hrr
          subst hrr
          replace hdr : 0 ≤ dp ((M 208)) v3 ∧ dp ((M 208)) v3 ≤ v3 := hdr
          refine r_iadd C dX0_deep_33 ?_
          refine r_mmax C hl.1 (by omega) (by omega) q190 q191 q99 q192 (Nat.succ_le_succ (Nat.zero_le nn)) (Nat.le_trans (Nat.add_le_add_right (show _ ≤ 8 from Nat.le_of_ble_eq_true rfl) 13) (show 8 + 13 ≤ 60 * (nn + 1) by omega)) (Nat.le_of_ble_eq_true rfl) (Nat.le_of_ble_eq_true rfl) dX0_deep_34 ?_
          refine lv_goto (tgt := 41) C.x C.b dX0_deep_37 (by decide) ?_
          exact J41_2 (sel (v2 < (1 + (dp ((M 208)) v3))) (1 + (dp ((M 208)) v3)) v2) ((sel_t c_3).symm) H locs ls hX hS hl
  exact L4 _ 0 0 (by omega) rfl (by omega) (Nat.lt_succ_self _) H locs ls hX hS (lv_sub hl [2, 3, 1, 0] rfl)

theorem met_X0_deep_n (l : Launch) (E : us_E) (A : Nat → Prop) (B : Nat → Int → Nat) (F : Nat → Int) (M : Nat → Int → Int) (G : Nat → Int → Option Nat) (T : x_T) : ∀ (nn : Nat) (k : Int) (hk : 0 ≤ k ∧ k < F 43) (hk2 : k < 21) (hn : k < nn), cMet l yX0_deep cX0_deep 4 (some .int) (rm_X0_deep_ nn) A E [.ref (B 49 0), .int (zi k)] (fun H => XH E A B F M G T H) (qi A (fun r H => (0 ≤ dp (M 208) k ∧ dp (M 208) k ≤ k) ∧ (r = dp (M 208) k) ∧ XH E A B F M G T H))
  | 0, k, hk, hk2, hn => absurd hn (by omega)
  | nn + 1, k, hk, hk2, hn => met_X0_deep_st l E A B F M G T k hk hk2 nn (fun k1 a b d => met_X0_deep_n l E A B F M G T nn k1 b d (by omega))
abbrev rm_X0_deep : Room := rm_X0_deep_ 21
theorem met_X0_deep (l : Launch) (E : us_E) (A : Nat → Prop) (B : Nat → Int → Nat) (F : Nat → Int) (M : Nat → Int → Int) (G : Nat → Int → Option Nat) (T : x_T) (k : Int) (hk : 0 ≤ k ∧ k < F 43) (hk2 : k < 21) : cMet l yX0_deep cX0_deep 4 (some .int) rm_X0_deep A E [.ref (B 49 0), .int (zi k)] (fun H => XH E A B F M G T H) (qi A (fun r H => (0 ≤ dp (M 208) k ∧ dp (M 208) k ≤ k) ∧ (r = dp (M 208) k) ∧ XH E A B F M G T H)) := met_X0_deep_n l E A B F M G T 21 k hk hk2 (by omega)

theorem hd_X9_isKnown : yX9_isKnown.cls = RX9 ∧ yX9_isKnown.cls ≠ "java/lang/invoke/MethodHandle" ∧ yX9_isKnown.cls ≠ "java/lang/invoke/VarHandle" ∧ (parseMethodDescriptor yX9_isKnown.desc).map (fun d => d.parameters.length) = some 1 := by decide +kernel
abbrev rm_X9_isKnown : Room := { frames := 0, cells := 0, slots := 0, locals := 0 }
set_option maxHeartbeats 8000000 in
theorem met_X9_isKnown (l : Launch) (E : us_E) (A : Nat → Prop) (B : Nat → Int → Nat) (F : Nat → Int) (M : Nat → Int → Int) (G : Nat → Int → Option Nat) (T : x_T) (k : Int) (d : Int) (hd : -2147483648 ≤ d ∧ d < 2147483648) (hk : 0 ≤ k ∧ k < F 43) : cMet l yX9_isKnown cX9_isKnown 2 (some .boolean) rm_X9_isKnown A E [.ref (B 59 k), .int (zi d)] (fun H => XH E A B F M G T H) (qi A (fun r H => (r = bI (kwn (M 207) (M 209) d k)) ∧ XH E A B F M G T H)) := by
  refine cMet.of (by decide) (Nat.le_of_ble_eq_true rfl) (fun p e s m args below meth c C hnm hX hS ls hl => ?_)
  have C : Cx p s m args meth c A RX9 cX9_isKnown 2 (some .boolean) E := C
  have hX : XH E A B F M G T s.heap := hX
  have hl : lv_has ls 2 [(0, .ref (B 59 k)), (1, .int (zi d))] := hl
  generalize hH : s.heap = H at hX
  have hS : va_S A s.heap H [] := by rw [← hH]; exact hS
  generalize hlocs : ([] : List Loc) = locs at hS ⊢
  obtain ⟨QQ, hQQ⟩ : ∃ zQQ, MQ below (qi A (fun r H => (r = bI (kwn (M 207) (M 209) d k)) ∧ XH E A B F M G T H)) args s (rm_X9_isKnown).cells (rm_X9_isKnown).slots A = zQQ := ⟨_, rfl⟩
  rw [hQQ]
  refine lv_aload_n C.x C.b dX9_isKnown_0 rfl (lv_at hl 0 rfl) ?_
  refine x_go C hX 59 (by decide) (show 0 ≤ k ∧ k < F 43 from (by omega)).1 (xK_59 (show 0 ≤ k ∧ k < F 43 from (by omega))) rfl in_X9 2 (by decide) q642 (fun _ h => h) (.int (zi (M 207 k))) rfl dX9_isKnown_1 ?_
  have r1 : 0 ≤ M 207 k ∧ M 207 k ≤ 99 := hX.2.2.1 207 (0, 99) rfl _
  refine lv_iload_n C.x C.b dX9_isKnown_4 rfl (lv_at hl 1 rfl) ?_
  have J30_1 : ∀ (t0 : Int) (ht0 : t0 = bI ((¬ (d < (M 207 k))) ∧ (((M 209 k) = (-4)) ∨ (d < (M 209 k))))) (H : Heap) (locs : List Loc) (ls : Array Slot) (hX : XH E A B F M G T H) (hS : va_S A s.heap H locs) (hl : lv_has ls 2 [(0, .ref (B 59 k)), (1, .int (zi d))]), W p l e rm_X9_isKnown s m args below meth c H locs 0 0 QQ (F0 m 30 ls [.int (zi t0)]) := by
    intro t0 ht0 H locs ls hX hS hl
    subst ht0
    rw [← hQQ]
    exact r_zret C (bI_e _) hS (Nat.le_of_ble_eq_true rfl) (Nat.le_of_ble_eq_true rfl) dX9_isKnown_30 ⟨(bI_c (by first | exact Iff.rfl | (constructor <;> intro _ <;> omega))), hX⟩
  refine r_icmp_gt (tgt := 29) C (by omega) (by omega) dX9_isKnown_5 (by decide) (fun c_2 => ?_) (fun c_2 => ?_)
  · refine r_const C dX9_isKnown_29 ?_
    exact J30_1 0 ((bI_f (fun q => (fun q => q c_2) q.1)).symm) H locs ls hX hS hl
  · refine lv_aload_n C.x C.b dX9_isKnown_8 rfl (lv_at hl 0 rfl) ?_
    refine x_go C hX 59 (by decide) (show 0 ≤ k ∧ k < F 43 from (by omega)).1 (xK_59 (show 0 ≤ k ∧ k < F 43 from (by omega))) rfl in_X9 4 (by decide) q646 (fun _ h => h) (.int (zi (M 209 k))) rfl dX9_isKnown_9 ?_
    have r9 : -4 ≤ M 209 k ∧ M 209 k ≤ 99 := hX.2.2.1 209 (-4, 99) rfl _
    refine r_bipush C (by decide) dX9_isKnown_12 ?_
    refine r_icmp_eq (tgt := 25) C (by omega) (by decide) dX9_isKnown_14 (by decide) (fun c_3 => ?_) (fun c_3 => ?_)
    · refine r_const C dX9_isKnown_25 ?_
      refine lv_goto (tgt := 30) C.x C.b dX9_isKnown_26 (by decide) ?_
      exact J30_1 1 ((bI_t ⟨c_2, (Or.inl c_3)⟩).symm) H locs ls hX hS hl
    · refine lv_aload_n C.x C.b dX9_isKnown_17 rfl (lv_at hl 0 rfl) ?_
      refine x_go C hX 59 (by decide) (show 0 ≤ k ∧ k < F 43 from (by omega)).1 (xK_59 (show 0 ≤ k ∧ k < F 43 from (by omega))) rfl in_X9 4 (by decide) q646 (fun _ h => h) (.int (zi (M 209 k))) rfl dX9_isKnown_18 ?_
      refine lv_iload_n C.x C.b dX9_isKnown_21 rfl (lv_at hl 1 rfl) ?_
      refine r_icmp_le (tgt := 29) C (by omega) (by omega) dX9_isKnown_22 (by decide) (fun c_4 => ?_) (fun c_4 => ?_)
      · refine r_const C dX9_isKnown_29 ?_
        exact J30_1 0 ((bI_f (fun q => (fun q => q.elim c_3 c_4) q.2)).symm) H locs ls hX hS hl
      · refine r_const C dX9_isKnown_25 ?_
        refine lv_goto (tgt := 30) C.x C.b dX9_isKnown_26 (by decide) ?_
        exact J30_1 1 ((bI_t ⟨c_2, (Or.inr c_4)⟩).symm) H locs ls hX hS hl

theorem hd_X0_claim : yX0_claim.cls = RX0 ∧ yX0_claim.cls ≠ "java/lang/invoke/MethodHandle" ∧ yX0_claim.cls ≠ "java/lang/invoke/VarHandle" ∧ (parseMethodDescriptor yX0_claim.desc).map (fun d => d.parameters.length) = some 2 := by decide +kernel
abbrev rm_X0_claim : Room := { frames := 22, cells := 0, slots := 0, locals := 1283 }
set_option maxHeartbeats 8000000 in
theorem met_X0_claim (l : Launch) (E : us_E) (A : Nat → Prop) (B : Nat → Int → Nat) (F : Nat → Int) (M : Nat → Int → Int) (G : Nat → Int → Option Nat) (T : x_T) (k : Int) (w : Int) (hk : -2147483648 ≤ k ∧ k < 2147483648) (hw : -2147483648 ≤ w ∧ w < 2147483648) : cMet l yX0_claim cX0_claim 4 (some .int) rm_X0_claim A E [.ref (B 49 0), .int (zi k), .int (zi w)] (fun H => XH E A B F M G T H) (qi A (fun r H => (r = sel (0 ≤ k ∧ k < F 43) (sel (w = 0) (M 205 k) (sel (w = 1) (M 206 k) (sel (w = 2) (M 207 k) (sel (w = 3) (M 209 k) (sel (w = 4) (bits (M 208 k)) (sel (w = 5) (c5x (M 208) (M 209) k (F 43) - 1) (sel (w = 6) (dp (M 208) k) (-1)))))))) (-1)) ∧ XH E A B F M G T H)) := by
  refine cMet.of (by decide) (Nat.le_of_ble_eq_true rfl) (fun p e s m args below meth c C hnm hX hS ls hl => ?_)
  have C : Cx p s m args meth c A RX0 cX0_claim 4 (some .int) E := C
  have hX : XH E A B F M G T s.heap := hX
  have hl : lv_has ls 4 [(0, .ref (B 49 0)), (1, .int (zi k)), (2, .int (zi w))] := hl
  generalize hH : s.heap = H at hX
  have hS : va_S A s.heap H [] := by rw [← hH]; exact hS
  generalize hlocs : ([] : List Loc) = locs at hS ⊢
  obtain ⟨QQ, hQQ⟩ : ∃ zQQ, MQ below (qi A (fun r H => (r = sel (0 ≤ k ∧ k < F 43) (sel (w = 0) (M 205 k) (sel (w = 1) (M 206 k) (sel (w = 2) (M 207 k) (sel (w = 3) (M 209 k) (sel (w = 4) (bits (M 208 k)) (sel (w = 5) (c5x (M 208) (M 209) k (F 43) - 1) (sel (w = 6) (dp (M 208) k) (-1)))))))) (-1)) ∧ XH E A B F M G T H)) args s (rm_X0_claim).cells (rm_X0_claim).slots A = zQQ := ⟨_, rfl⟩
  rw [hQQ]
  have rF43 : 0 ≤ F 43 ∧ F 43 ≤ 20 := hX.2.1 43 (0, 20) rfl
  refine lv_aload_n C.x C.b dX0_claim_0 rfl (lv_at hl 0 rfl) ?_
  refine lv_iload_n C.x C.b dX0_claim_1 rfl (lv_at hl 1 rfl) ?_
  refine r_callVi (As := [.int (zi k)]) (rest := []) (cells' := 0) (slots' := 0) C (met_X0_isClaim l E A B F M G T k (show -2147483648 ≤ k ∧ k < 2147483648 from (by omega))) (lw_V q676 q678 qs39 q86 q679) hd_X0_isClaim rfl (by decide) (x_this C hX) hX hS hl.1 rfl (Nat.le_of_ble_eq_true rfl) dX0_claim_2 rfl rfl ⟨Nat.le_of_ble_eq_true rfl, Nat.le_of_ble_eq_true rfl⟩ (fun rr H locs hp hS => ?_)
  obtain ⟨hrr, hX⟩ := hp
  have hrr : rr = bI (0 ≤ k ∧ k < (F 43)) := hrr
  subst hrr
  refine r_if_ne_b (tgt := 10) C dX0_claim_5 (by decide) (fun c_1 => ?_) (fun c_1 => ?_)
  · refine lv_aload_n C.x C.b dX0_claim_10 rfl (lv_at hl 0 rfl) ?_
    refine x_ga C hX 42 (by decide) rfl q779 (fun _ h => h) dX0_claim_11 ?_
    refine lv_iload_n C.x C.b dX0_claim_14 rfl (lv_at hl 1 rfl) ?_
    refine x_la C hX 42 rfl rfl rfl (by decide) rfl rfl (show 0 ≤ k ∧ k < F 43 from (by omega)) (by omega) (by decide) dX0_claim_15 ?_
    refine lv_astore_n (lv' := [(3, .ref (B 59 k)), (0, .ref (B 49 0)), (1, .int (zi k)), (2, .int (zi w))]) C.x C.b dX0_claim_16 rfl hl (by decide) rfl (fun ls hl => ?_)
    refine lv_iload_n C.x C.b dX0_claim_17 rfl (lv_at hl 3 rfl) ?_
    rcases (show w = 0 ∨ w = 1 ∨ w = 2 ∨ w = 3 ∨ w = 4 ∨ w = 5 ∨ w = 6 ∨ (w < 0 ∨ 6 < w) by omega) with cs | cs | cs | cs | cs | cs | cs | cs
    · refine r_tswIn (k := 0) (tgt := 60) (off := 42) C cs (by omega) dX0_claim_18 (by decide) rfl (by decide) ?_
      refine lv_aload_n C.x C.b dX0_claim_60 rfl (lv_at hl 0 rfl) ?_
      refine x_goN C hX 59 (by decide) (show 0 ≤ k ∧ k < F 43 from (by omega)).1 (xK_59 (show 0 ≤ k ∧ k < F 43 from (by omega))) rfl in_X9 0 (by decide) (List.mem_of_getElem? (i := 2) rfl) (fun _ h => h) (.int (zi (M 205 k))) rfl dX0_claim_61 ?_
      have r61 : 0 ≤ M 205 k ∧ M 205 k ≤ 4 := hX.2.2.1 205 (0, 4) rfl _
      rw [← hQQ]
      exact r_iret C hS (Nat.le_of_ble_eq_true rfl) (Nat.le_of_ble_eq_true rfl) dX0_claim_64 ⟨(by rw [sel_t (c := 0 ≤ k ∧ k < F 43) (by assumption)]; (repeat first | rw [sel_t (c := w = _) (by omega)] | rw [sel_f (c := w = _) (by omega)]) <;> first | rfl | assumption | (rw [← hxb]; done) | omega), hX⟩
    · refine r_tswIn (k := 1) (tgt := 65) (off := 47) C cs (by omega) dX0_claim_18 (by decide) rfl (by decide) ?_
      refine lv_aload_n C.x C.b dX0_claim_65 rfl (lv_at hl 0 rfl) ?_
      refine x_goN C hX 59 (by decide) (show 0 ≤ k ∧ k < F 43 from (by omega)).1 (xK_59 (show 0 ≤ k ∧ k < F 43 from (by omega))) rfl in_X9 1 (by decide) (List.mem_of_getElem? (i := 3) rfl) (fun _ h => h) (.int (zi (M 206 k))) rfl dX0_claim_66 ?_
      have r66 : 0 ≤ M 206 k ∧ M 206 k ≤ 99 := hX.2.2.1 206 (0, 99) rfl _
      rw [← hQQ]
      exact r_iret C hS (Nat.le_of_ble_eq_true rfl) (Nat.le_of_ble_eq_true rfl) dX0_claim_69 ⟨(by rw [sel_t (c := 0 ≤ k ∧ k < F 43) (by assumption)]; (repeat first | rw [sel_t (c := w = _) (by omega)] | rw [sel_f (c := w = _) (by omega)]) <;> first | rfl | assumption | (rw [← hxb]; done) | omega), hX⟩
    · refine r_tswIn (k := 2) (tgt := 70) (off := 52) C cs (by omega) dX0_claim_18 (by decide) rfl (by decide) ?_
      refine lv_aload_n C.x C.b dX0_claim_70 rfl (lv_at hl 0 rfl) ?_
      refine x_goN C hX 59 (by decide) (show 0 ≤ k ∧ k < F 43 from (by omega)).1 (xK_59 (show 0 ≤ k ∧ k < F 43 from (by omega))) rfl in_X9 2 (by decide) (List.mem_of_getElem? (i := 4) rfl) (fun _ h => h) (.int (zi (M 207 k))) rfl dX0_claim_71 ?_
      have r71 : 0 ≤ M 207 k ∧ M 207 k ≤ 99 := hX.2.2.1 207 (0, 99) rfl _
      rw [← hQQ]
      exact r_iret C hS (Nat.le_of_ble_eq_true rfl) (Nat.le_of_ble_eq_true rfl) dX0_claim_74 ⟨(by rw [sel_t (c := 0 ≤ k ∧ k < F 43) (by assumption)]; (repeat first | rw [sel_t (c := w = _) (by omega)] | rw [sel_f (c := w = _) (by omega)]) <;> first | rfl | assumption | (rw [← hxb]; done) | omega), hX⟩
    · refine r_tswIn (k := 3) (tgt := 75) (off := 57) C cs (by omega) dX0_claim_18 (by decide) rfl (by decide) ?_
      refine lv_aload_n C.x C.b dX0_claim_75 rfl (lv_at hl 0 rfl) ?_
      refine x_goN C hX 59 (by decide) (show 0 ≤ k ∧ k < F 43 from (by omega)).1 (xK_59 (show 0 ≤ k ∧ k < F 43 from (by omega))) rfl in_X9 4 (by decide) (List.mem_of_getElem? (i := 6) rfl) (fun _ h => h) (.int (zi (M 209 k))) rfl dX0_claim_76 ?_
      have r76 : -4 ≤ M 209 k ∧ M 209 k ≤ 99 := hX.2.2.1 209 (-4, 99) rfl _
      rw [← hQQ]
      exact r_iret C hS (Nat.le_of_ble_eq_true rfl) (Nat.le_of_ble_eq_true rfl) dX0_claim_79 ⟨(by rw [sel_t (c := 0 ≤ k ∧ k < F 43) (by assumption)]; (repeat first | rw [sel_t (c := w = _) (by omega)] | rw [sel_f (c := w = _) (by omega)]) <;> first | rfl | assumption | (rw [← hxb]; done) | omega), hX⟩
    · refine r_tswIn (k := 4) (tgt := 80) (off := 62) C cs (by omega) dX0_claim_18 (by decide) rfl (by decide) ?_
      refine lv_aload_n C.x C.b dX0_claim_80 rfl (lv_at hl 0 rfl) ?_
      refine x_goN C hX 59 (by decide) (show 0 ≤ k ∧ k < F 43 from (by omega)).1 (xK_59 (show 0 ≤ k ∧ k < F 43 from (by omega))) rfl in_X9 3 (by decide) (List.mem_of_getElem? (i := 5) rfl) (fun _ h => h) (.int (zi (M 208 k))) rfl dX0_claim_81 ?_
      have r81 : 0 ≤ M 208 k ∧ M 208 k ≤ 1048575 := hX.2.2.1 208 (0, 1048575) rfl _
      refine r_callSi (As := [.int (zi (M 208 k))]) (rest := []) (cells' := 0) (slots' := 0) C (met_J0_bitCount l E A H (M 208 k) (show 0 ≤ (M 208 k) ∧ (M 208 k) < 16777216 from (by omega))) (lw_S q142 q143 q89 q144) hd_J0_bitCount rfl (by decide) rfl hS hl.1 rfl (Nat.le_of_ble_eq_true rfl) dX0_claim_84 rfl rfl ⟨Nat.le_of_ble_eq_true rfl, Nat.le_of_ble_eq_true rfl⟩ (fun rr H locs hp hS => ?_)
      obtain ⟨hbc, hrr, hH⟩ := hp
      have hrr : rr = bits (M 208 k) := hrr
      subst hrr
      have hX : XH E A B F M G T H := by rw [hH]; exact hX
      replace hbc : 0 ≤ bits (M 208 k) ∧ bits (M 208 k) ≤ 24 := hbc
      rw [← hQQ]
      exact r_iret C hS (Nat.le_of_ble_eq_true rfl) (Nat.le_of_ble_eq_true rfl) dX0_claim_87 ⟨(by rw [sel_t (c := 0 ≤ k ∧ k < F 43) (by assumption)]; (repeat first | rw [sel_t (c := w = _) (by omega)] | rw [sel_f (c := w = _) (by omega)]) <;> first | rfl | assumption | (rw [← hxb]; done) | omega), hX⟩
    · refine r_tswIn (k := 5) (tgt := 88) (off := 70) C cs (by omega) dX0_claim_18 (by decide) rfl (by decide) ?_
      refine lv_aload_n C.x C.b dX0_claim_88 rfl (lv_at hl 1 rfl) ?_
      refine lv_iload_n C.x C.b dX0_claim_89 rfl (lv_at hl 2 rfl) ?_
      refine r_callVi (As := [.int (zi k)]) (rest := []) (cells' := 0) (slots' := 0) C (met_X0_hung l E A B F M G T k (show 0 ≤ k ∧ k < (F 43) from (by omega))) (lw_V q680 q682 qs40 q86 q683) hd_X0_hung rfl (by decide) (x_this C hX) hX hS hl.1 rfl (Nat.le_of_ble_eq_true rfl) dX0_claim_90 rfl rfl ⟨Nat.le_of_ble_eq_true rfl, Nat.le_of_ble_eq_true rfl⟩ (fun rr H locs hp hS => ?_)
      obtain ⟨r_2, hrr⟩ : ∃ z, z = rr := ⟨_, rfl⟩
      rw [← hrr] at hp ⊢
      obtain ⟨hhb, hX⟩ := hp
      replace hhb : (0 ≤ r_2 ∧ r_2 < 1048576) ∧ ∀ b : Int, 0 ≤ b → (Bt r_2 b ↔ HSx ((M 208)) ((M 209)) k ((F 43)) b) := hhb
      have hxb := hx_bits (show 0 ≤ k ∧ k < F 43 by assumption) (by omega) hhb.1 hhb.2
      refine r_callSi (As := [.int (zi r_2)]) (rest := []) (cells' := 0) (slots' := 0) C (met_J0_bitCount l E A H r_2 (show 0 ≤ r_2 ∧ r_2 < 16777216 from (by omega))) (lw_S q142 q143 q89 q144) hd_J0_bitCount rfl (by decide) rfl hS hl.1 rfl (Nat.le_of_ble_eq_true rfl) dX0_claim_93 rfl rfl ⟨Nat.le_of_ble_eq_true rfl, Nat.le_of_ble_eq_true rfl⟩ (fun rr H locs hp hS => ?_)
      obtain ⟨hbc, hrr, hH⟩ := hp
      have hrr : rr = bits r_2 := hrr
      subst hrr
      have hX : XH E A B F M G T H := by rw [hH]; exact hX
      replace hbc : 0 ≤ bits r_2 ∧ bits r_2 ≤ 24 := hbc
      refine r_const C dX0_claim_96 ?_
      refine r_isub C dX0_claim_97 ?_
      rw [← hQQ]
      exact r_iret C hS (Nat.le_of_ble_eq_true rfl) (Nat.le_of_ble_eq_true rfl) dX0_claim_98 ⟨(by rw [sel_t (c := 0 ≤ k ∧ k < F 43) (by assumption)]; (repeat first | rw [sel_t (c := w = _) (by omega)] | rw [sel_f (c := w = _) (by omega)]) <;> first | rfl | assumption | (rw [← hxb]; done) | omega), hX⟩
    · refine r_tswIn (k := 6) (tgt := 99) (off := 81) C cs (by omega) dX0_claim_18 (by decide) rfl (by decide) ?_
      refine lv_aload_n C.x C.b dX0_claim_99 rfl (lv_at hl 1 rfl) ?_
      refine lv_iload_n C.x C.b dX0_claim_100 rfl (lv_at hl 2 rfl) ?_
      refine r_callVi (As := [.int (zi k)]) (rest := []) (cells' := 0) (slots' := 0) C (met_X0_deep l E A B F M G T k (show 0 ≤ k ∧ k < (F 43) from (by omega)) (show k < 21 from (by omega))) (lw_V q684 q686 qs41 q86 q687) hd_X0_deep rfl (by decide) (x_this C hX) hX hS hl.1 rfl (Nat.le_of_ble_eq_true rfl) dX0_claim_101 rfl rfl ⟨Nat.le_of_ble_eq_true rfl, Nat.le_of_ble_eq_true rfl⟩ (fun rr H locs hp hS => ?_)
      obtain ⟨hdr, hrr, hX⟩ := hp
      have hrr : rr = dp ((M 208)) k := hrr
      subst hrr
      replace hdr : 0 ≤ dp ((M 208)) k ∧ dp ((M 208)) k ≤ k := hdr
      rw [← hQQ]
      exact r_iret C hS (Nat.le_of_ble_eq_true rfl) (Nat.le_of_ble_eq_true rfl) dX0_claim_104 ⟨(by rw [sel_t (c := 0 ≤ k ∧ k < F 43) (by assumption)]; (repeat first | rw [sel_t (c := w = _) (by omega)] | rw [sel_f (c := w = _) (by omega)]) <;> first | rfl | assumption | (rw [← hxb]; done) | omega), hX⟩
    · refine r_tswOut (tgt := 105) C (by omega) dX0_claim_18 cs (by decide) ?_
      refine r_const C dX0_claim_105 ?_
      rw [← hQQ]
      exact r_iret C hS (Nat.le_of_ble_eq_true rfl) (Nat.le_of_ble_eq_true rfl) dX0_claim_106 ⟨(by rw [sel_t (c := 0 ≤ k ∧ k < F 43) (by assumption)]; (repeat first | rw [sel_t (c := w = _) (by omega)] | rw [sel_f (c := w = _) (by omega)]) <;> first | rfl | assumption | (rw [← hxb]; done) | omega), hX⟩
  · refine r_const C dX0_claim_8 ?_
    rw [← hQQ]
    exact r_iret C hS (Nat.le_of_ble_eq_true rfl) (Nat.le_of_ble_eq_true rfl) dX0_claim_9 ⟨(Eq.symm (sel_f (by assumption))), hX⟩

theorem kn_a {P : Int → Prop} {n a : Int} (h : 0 ≤ n) (e : a = isum (fun k => bI (P k)) n) : sel (P n) (a + 1) a = isum (fun k => bI (P k)) (n + 1) := by
  rw [isum_s h, ← e]
  by_cases q : P n
  · rw [sel_t q, bI_t q]
  · rw [sel_f q, bI_f q]; omega

theorem hd_X0_known : yX0_known.cls = RX0 ∧ yX0_known.cls ≠ "java/lang/invoke/MethodHandle" ∧ yX0_known.cls ≠ "java/lang/invoke/VarHandle" ∧ (parseMethodDescriptor yX0_known.desc).map (fun d => d.parameters.length) = some 2 := by decide +kernel
abbrev rm_X0_known : Room := { frames := 1, cells := 0, slots := 0, locals := 25 }
set_option maxHeartbeats 8000000 in
theorem met_X0_known (l : Launch) (E : us_E) (A : Nat → Prop) (B : Nat → Int → Nat) (F : Nat → Int) (M : Nat → Int → Int) (G : Nat → Int → Option Nat) (T : x_T) (d : Int) (w : Int) (hd : -2147483648 ≤ d ∧ d < 2147483648) (hw : -2147483648 ≤ w ∧ w < 2147483648) : cMet l yX0_known cX0_known 7 (some .int) rm_X0_known A E [.ref (B 49 0), .int (zi d), .int (zi w)] (fun H => XH E A B F M G T H) (qi A (fun r H => (r = sel ((0 ≤ d ∧ d ≤ 99) ∧ (0 ≤ w ∧ w ≤ 2)) (sel (w = 0) (isum (fun k => bI ((kwn (M 207) (M 209) d) k)) (F 43)) (sel (w = 1) (kFi (kwn (M 207) (M 209) d) (F 43)) (kLa (kwn (M 207) (M 209) d) (F 43)))) (-1)) ∧ XH E A B F M G T H)) := by
  refine cMet.of (by decide) (Nat.le_of_ble_eq_true rfl) (fun p e s m args below meth c C hnm hX hS ls hl => ?_)
  have C : Cx p s m args meth c A RX0 cX0_known 7 (some .int) E := C
  have hX : XH E A B F M G T s.heap := hX
  have hl : lv_has ls 7 [(0, .ref (B 49 0)), (1, .int (zi d)), (2, .int (zi w))] := hl
  generalize hH : s.heap = H at hX
  have hS : va_S A s.heap H [] := by rw [← hH]; exact hS
  generalize hlocs : ([] : List Loc) = locs at hS ⊢
  obtain ⟨QQ, hQQ⟩ : ∃ zQQ, MQ below (qi A (fun r H => (r = sel ((0 ≤ d ∧ d ≤ 99) ∧ (0 ≤ w ∧ w ≤ 2)) (sel (w = 0) (isum (fun k => bI ((kwn (M 207) (M 209) d) k)) (F 43)) (sel (w = 1) (kFi (kwn (M 207) (M 209) d) (F 43)) (kLa (kwn (M 207) (M 209) d) (F 43)))) (-1)) ∧ XH E A B F M G T H)) args s (rm_X0_known).cells (rm_X0_known).slots A = zQQ := ⟨_, rfl⟩
  rw [hQQ]
  have rF43 : 0 ≤ F 43 ∧ F 43 ≤ 20 := hX.2.1 43 (0, 20) rfl
  refine lv_iload_n C.x C.b dX0_known_0 rfl (lv_at hl 1 rfl) ?_
  refine r_i2l C (by omega) dX0_known_1 ?_
  refine r_lconst C 0 rfl dX0_known_2 ?_
  refine r_ldc2 C 99 (by decide) q696 dX0_known_3 ?_
  refine r_callSi (As := [.long (zl d), .long (zl 0), .long (zl 99)]) (rest := []) (cells' := 0) (slots' := 0) C (met_X0_isIn l E A H d 0 99 (show -9223372036854775808 ≤ d ∧ d < 9223372036854775808 from (by omega)) (show -9223372036854775808 ≤ (0 : Int) ∧ (0 : Int) < 9223372036854775808 from (by omega)) (show -9223372036854775808 ≤ (99 : Int) ∧ (99 : Int) < 9223372036854775808 from (by omega))) (lw_S q117 q118 q86 q119) hd_X0_isIn rfl (by decide) rfl hS hl.1 rfl (Nat.le_of_ble_eq_true rfl) dX0_known_6 rfl rfl ⟨Nat.le_of_ble_eq_true rfl, Nat.le_of_ble_eq_true rfl⟩ (fun rr H locs hp hS => ?_)
  obtain ⟨hrr, hH⟩ := hp
  have hrr : rr = bI ((0 : Int) ≤ d ∧ d ≤ (99 : Int)) := hrr
  subst hrr
  have hX : XH E A B F M G T H := by rw [hH]; exact hX
  refine r_if_eq_b (tgt := 24) C dX0_known_9 (by decide) (fun c_1 => ?_) (fun c_1 => ?_)
  · refine r_const C dX0_known_24 ?_
    rw [← hQQ]
    exact r_iret C hS (Nat.le_of_ble_eq_true rfl) (Nat.le_of_ble_eq_true rfl) dX0_known_25 ⟨(by first | exact Eq.symm (sel_f (fun q => absurd q.1 (by assumption))) | exact Eq.symm (sel_f (fun q => absurd q.2 (by assumption)))), hX⟩
  · refine lv_iload_n C.x C.b dX0_known_12 rfl (lv_at hl 2 rfl) ?_
    refine r_i2l C (by omega) dX0_known_13 ?_
    refine r_lconst C 0 rfl dX0_known_14 ?_
    refine r_ldc2 C 2 (by decide) q218 dX0_known_15 ?_
    refine r_callSi (As := [.long (zl w), .long (zl 0), .long (zl 2)]) (rest := []) (cells' := 0) (slots' := 0) C (met_X0_isIn l E A H w 0 2 (show -9223372036854775808 ≤ w ∧ w < 9223372036854775808 from (by omega)) (show -9223372036854775808 ≤ (0 : Int) ∧ (0 : Int) < 9223372036854775808 from (by omega)) (show -9223372036854775808 ≤ (2 : Int) ∧ (2 : Int) < 9223372036854775808 from (by omega))) (lw_S q117 q118 q86 q119) hd_X0_isIn rfl (by decide) rfl hS hl.1 rfl (Nat.le_of_ble_eq_true rfl) dX0_known_18 rfl rfl ⟨Nat.le_of_ble_eq_true rfl, Nat.le_of_ble_eq_true rfl⟩ (fun rr H locs hp hS => ?_)
    obtain ⟨hrr, hH⟩ := hp
    have hrr : rr = bI ((0 : Int) ≤ w ∧ w ≤ (2 : Int)) := hrr
    subst hrr
    have hX : XH E A B F M G T H := by rw [hH]; exact hX
    refine r_if_ne_b (tgt := 26) C dX0_known_21 (by decide) (fun c_2 => ?_) (fun c_2 => ?_)
    · refine r_const C dX0_known_26 ?_
      refine lv_istore_n (lv' := [(3, .int (zi 0)), (0, .ref (B 49 0)), (1, .int (zi d)), (2, .int (zi w))]) C.x C.b dX0_known_27 rfl hl (by decide) rfl (fun ls hl => ?_)
      refine r_bipush C (by decide) dX0_known_28 ?_
      refine lv_istore (lv' := [(4, .int (zi (-4))), (3, .int (zi 0)), (0, .ref (B 49 0)), (1, .int (zi d)), (2, .int (zi w))]) C.x C.b dX0_known_30 hl (by decide) rfl (fun ls hl => ?_)
      refine r_bipush C (by decide) dX0_known_32 ?_
      refine lv_istore (lv' := [(5, .int (zi (-4))), (4, .int (zi (-4))), (3, .int (zi 0)), (0, .ref (B 49 0)), (1, .int (zi d)), (2, .int (zi w))]) C.x C.b dX0_known_34 hl (by decide) rfl (fun ls hl => ?_)
      refine r_const C dX0_known_36 ?_
      refine lv_istore (lv' := [(6, .int (zi 0)), (5, .int (zi (-4))), (4, .int (zi (-4))), (3, .int (zi 0)), (0, .ref (B 49 0)), (1, .int (zi d)), (2, .int (zi w))]) C.x C.b dX0_known_37 hl (by decide) rfl (fun ls hl => ?_)
      have L39 : ∀ (fu : Nat) (v3 : Int) (v4 : Int) (v5 : Int) (v6 : Int) (h6 : 0 ≤ v6 ∧ v6 ≤ F 43) (ha : v3 = isum (fun k => bI ((kwn (M 207) (M 209) d) k)) v6) (hF : v4 = kFi (kwn (M 207) (M 209) d) v6) (hL : v5 = kLa (kwn (M 207) (M 209) d) v6) (hr4 : -4 ≤ v4 ∧ v4 < 20) (hm : Int.toNat (F 43 - v6) < fu) (H : Heap) (locs : List Loc) (ls : Array Slot) (hX : XH E A B F M G T H) (hS : va_S A s.heap H locs) (hl : lv_has ls 7 [(0, .ref (B 49 0)), (1, .int (zi d)), (2, .int (zi w)), (3, .int (zi v3)), (4, .int (zi v4)), (5, .int (zi v5)), (6, .int (zi v6))]), W p l e rm_X0_known s m args below meth c H locs 0 0 QQ (F0 m 39 ls []) := by
        intro fu
        induction fu with
        | zero => intro v3 v4 v5 v6 h6 ha hF hL hr4 hm; exact absurd hm (Nat.not_lt_zero _)
        | succ fu ih39 =>
          intro v3 v4 v5 v6 h6 ha hF hL hr4 hm H locs ls hX hS hl
          refine lv_iload C.x C.b dX0_known_39 (lv_at hl 6 rfl) ?_
          refine lv_aload_n C.x C.b dX0_known_41 rfl (lv_at hl 0 rfl) ?_
          refine x_gi C hX 43 (by decide) rfl q781 (fun _ h => h) (F 43) rfl (b := (0, 20)) rfl dX0_known_42 (fun _ => ?_)
          refine r_icmp_ge (tgt := 91) C (by omega) (by omega) dX0_known_45 (by decide) (fun c_3 => ?_) (fun c_3 => ?_)
          · have e6 : v6 = F 43 := by omega
            rw [e6] at ha hF hL
            refine lv_iload_n C.x C.b dX0_known_91 rfl (lv_at hl 2 rfl) ?_
            refine r_if_ne (tgt := 99) C (by omega) dX0_known_92 (by decide) (fun c_4 => ?_) (fun c_4 => ?_)
            · refine lv_iload_n C.x C.b dX0_known_99 rfl (lv_at hl 2 rfl) ?_
              refine r_const C dX0_known_100 ?_
              refine r_icmp_ne (tgt := 109) C (by omega) (by decide) dX0_known_101 (by decide) (fun c_5 => ?_) (fun c_5 => ?_)
              · refine lv_iload C.x C.b dX0_known_109 (lv_at hl 5 rfl) ?_
                rw [← hQQ]
                exact r_iret C hS (Nat.le_of_ble_eq_true rfl) (Nat.le_of_ble_eq_true rfl) dX0_known_111 ⟨(by rw [sel_t (c := (0 ≤ d ∧ d ≤ 99) ∧ (0 ≤ w ∧ w ≤ 2)) ⟨by assumption, by assumption⟩]; first | (rw [sel_t (by assumption)]; exact ha) | (rw [sel_f (by assumption), sel_t (by assumption)]; exact hF) | (rw [sel_f (by assumption), sel_f (by assumption)]; exact hL)), hX⟩
              · refine lv_iload C.x C.b dX0_known_104 (lv_at hl 4 rfl) ?_
                refine lv_goto (tgt := 111) C.x C.b dX0_known_106 (by decide) ?_
                rw [← hQQ]
                exact r_iret C hS (Nat.le_of_ble_eq_true rfl) (Nat.le_of_ble_eq_true rfl) dX0_known_111 ⟨(by rw [sel_t (c := (0 ≤ d ∧ d ≤ 99) ∧ (0 ≤ w ∧ w ≤ 2)) ⟨by assumption, by assumption⟩]; first | (rw [sel_t (by assumption)]; exact ha) | (rw [sel_f (by assumption), sel_t (by assumption)]; exact hF) | (rw [sel_f (by assumption), sel_f (by assumption)]; exact hL)), hX⟩
            · refine lv_iload_n C.x C.b dX0_known_95 rfl (lv_at hl 3 rfl) ?_
              refine lv_goto (tgt := 111) C.x C.b dX0_known_96 (by decide) ?_
              rw [← hQQ]
              exact r_iret C hS (Nat.le_of_ble_eq_true rfl) (Nat.le_of_ble_eq_true rfl) dX0_known_111 ⟨(by rw [sel_t (c := (0 ≤ d ∧ d ≤ 99) ∧ (0 ≤ w ∧ w ≤ 2)) ⟨by assumption, by assumption⟩]; first | (rw [sel_t (by assumption)]; exact ha) | (rw [sel_f (by assumption), sel_t (by assumption)]; exact hF) | (rw [sel_f (by assumption), sel_f (by assumption)]; exact hL)), hX⟩
          · refine lv_aload_n C.x C.b dX0_known_48 rfl (lv_at hl 0 rfl) ?_
            refine x_ga C hX 42 (by decide) rfl q779 (fun _ h => h) dX0_known_49 ?_
            refine lv_iload C.x C.b dX0_known_52 (lv_at hl 6 rfl) ?_
            refine x_la C hX 42 rfl rfl rfl (by decide) rfl rfl (show 0 ≤ v6 ∧ v6 < F 43 from (by omega)) (by omega) (by decide) dX0_known_54 ?_
            refine lv_iload_n C.x C.b dX0_known_55 rfl (lv_at hl 1 rfl) ?_
            refine r_callVi (As := [.int (zi d)]) (rest := []) (cells' := 0) (slots' := 0) C (met_X9_isKnown l E A B F M G T v6 d (show -2147483648 ≤ d ∧ d < 2147483648 from (by omega)) (show 0 ≤ v6 ∧ v6 < (F 43) from (by omega))) (lw_V q701 q702 q703 q110 q704) hd_X9_isKnown rfl (by decide) (x_recv C hX (f := 59) (i := v6) (by decide) (show 0 ≤ v6 ∧ v6 < F 43 from (by omega)).1 (xK_59 (show 0 ≤ v6 ∧ v6 < F 43 from (by omega))) (q := (RX9, TX9, 5)) rfl) hX hS hl.1 rfl (Nat.le_of_ble_eq_true rfl) dX0_known_56 rfl rfl ⟨Nat.le_of_ble_eq_true rfl, Nat.le_of_ble_eq_true rfl⟩ (fun rr H locs hp hS => ?_)
            obtain ⟨hrr, hX⟩ := hp
            have hrr : rr = bI (kwn ((M 207)) ((M 209)) d v6) := hrr
            subst hrr
            have J85_6 : ∀ (v3_85 : Int) (hv3_85 : v3_85 = sel (kwn ((M 207)) ((M 209)) d v6) (v3 + 1) v3) (v4_85 : Int) (hv4_85 : v4_85 = sel (kwn ((M 207)) ((M 209)) d v6) (sel (v4 = (-4)) v6 v4) v4) (v5_85 : Int) (hv5_85 : v5_85 = sel (kwn ((M 207)) ((M 209)) d v6) v6 v5) (H : Heap) (locs : List Loc) (ls : Array Slot) (hX : XH E A B F M G T H) (hS : va_S A s.heap H locs) (hl : lv_has ls 7 [(0, .ref (B 49 0)), (1, .int (zi d)), (2, .int (zi w)), (3, .int (zi v3_85)), (4, .int (zi v4_85)), (5, .int (zi v5_85)), (6, .int (zi v6))]), W p l e rm_X0_known s m args below meth c H locs 0 0 QQ (F0 m 85 ls []) := by
              intro v3_85 hv3_85 v4_85 hv4_85 v5_85 hv5_85 H locs ls hX hS hl
              subst hv3_85
              subst hv4_85
              subst hv5_85
              refine r_iinc (lv' := [(6, .int (zi (v6 + 1))), (0, .ref (B 49 0)), (1, .int (zi d)), (2, .int (zi w)), (3, .int (zi (sel (kwn ((M 207)) ((M 209)) d v6) (v3 + 1) v3))), (4, .int (zi (sel (kwn ((M 207)) ((M 209)) d v6) (sel (v4 = (-4)) v6 v4) v4))), (5, .int (zi (sel (kwn ((M 207)) ((M 209)) d v6) v6 v5)))]) C dX0_known_85 hl (k := 6) rfl (by decide) rfl (fun ls hl => ?_)
              refine lv_goto (tgt := 39) C.x C.b dX0_known_88 (by decide) ?_
              exact ih39 (sel (kwn ((M 207)) ((M 209)) d v6) (v3 + 1) v3) (sel (kwn ((M 207)) ((M 209)) d v6) (sel (v4 = (-4)) v6 v4) v4) (sel (kwn ((M 207)) ((M 209)) d v6) v6 v5) (v6 + 1) (by omega) (kn_a h6.1 ha) (by rw [kFi_s h6.1, ← hF]) (by rw [kLa_s h6.1, ← hL]) (by have z := sel_rg (c := (kwn (M 207) (M 209) d) v6) (a := sel (v4 = -4) v6 v4) (b := v4) (lo := -4) (hi := 19) (fun _ => sel_rg (fun _ => by omega) (fun _ => by omega)) (fun _ => by omega); omega) (by omega) H locs ls hX hS (lv_sub hl [1, 2, 3, 4, 5, 6, 0] rfl)
            refine r_if_eq_b (tgt := 85) C dX0_known_59 (by decide) (fun c_7 => ?_) (fun c_7 => ?_)
            · exact J85_6 v3 ((sel_f c_7).symm) v4 ((sel_f c_7).symm) v5 ((sel_f c_7).symm) H locs ls hX hS hl
            · refine r_iinc (lv' := [(3, .int (zi (v3 + 1))), (0, .ref (B 49 0)), (1, .int (zi d)), (2, .int (zi w)), (4, .int (zi v4)), (5, .int (zi v5)), (6, .int (zi v6))]) C dX0_known_62 hl (k := 3) rfl (by decide) rfl (fun ls hl => ?_)
              refine lv_iload C.x C.b dX0_known_65 (lv_at hl 4 rfl) ?_
              refine r_bipush C (by decide) dX0_known_67 ?_
              have J79_8 : ∀ (t0 : Int) (ht0 : t0 = sel (v4 = (-4)) v6 v4) (H : Heap) (locs : List Loc) (ls : Array Slot) (hX : XH E A B F M G T H) (hS : va_S A s.heap H locs) (hl : lv_has ls 7 [(3, .int (zi (v3 + 1))), (0, .ref (B 49 0)), (1, .int (zi d)), (2, .int (zi w)), (4, .int (zi v4)), (5, .int (zi v5)), (6, .int (zi v6))]), W p l e rm_X0_known s m args below meth c H locs 0 0 QQ (F0 m 79 ls [.int (zi t0)]) := by
                intro t0 ht0 H locs ls hX hS hl
                subst ht0
                refine lv_istore (lv' := [(4, .int (zi (sel (v4 = (-4)) v6 v4))), (3, .int (zi (v3 + 1))), (0, .ref (B 49 0)), (1, .int (zi d)), (2, .int (zi w)), (5, .int (zi v5)), (6, .int (zi v6))]) C.x C.b dX0_known_79 hl (by decide) rfl (fun ls hl => ?_)
                refine lv_iload C.x C.b dX0_known_81 (lv_at hl 6 rfl) ?_
                refine lv_istore (lv' := [(5, .int (zi v6)), (4, .int (zi (sel (v4 = (-4)) v6 v4))), (3, .int (zi (v3 + 1))), (0, .ref (B 49 0)), (1, .int (zi d)), (2, .int (zi w)), (6, .int (zi v6))]) C.x C.b dX0_known_83 hl (by decide) rfl (fun ls hl => ?_)
                exact J85_6 (v3 + 1) ((sel_t c_7).symm) (sel (v4 = (-4)) v6 v4) ((sel_t c_7).symm) v6 ((sel_t c_7).symm) H locs ls hX hS (lv_sub hl [3, 4, 5, 2, 1, 0, 6] rfl)
              refine r_icmp_ne (tgt := 77) C (by omega) (by decide) dX0_known_69 (by decide) (fun c_9 => ?_) (fun c_9 => ?_)
              · refine lv_iload C.x C.b dX0_known_77 (lv_at hl 4 rfl) ?_
                exact J79_8 v4 ((sel_f c_9).symm) H locs ls hX hS hl
              · refine lv_iload C.x C.b dX0_known_72 (lv_at hl 6 rfl) ?_
                refine lv_goto (tgt := 79) C.x C.b dX0_known_74 (by decide) ?_
                exact J79_8 v6 ((sel_t c_9).symm) H locs ls hX hS hl
      exact L39 _ 0 (-4) (-4) 0 (by omega) rfl rfl rfl (by omega) (Nat.lt_succ_self _) H locs ls hX hS (lv_sub hl [4, 5, 6, 3, 2, 1, 0] rfl)
    · refine r_const C dX0_known_24 ?_
      rw [← hQQ]
      exact r_iret C hS (Nat.le_of_ble_eq_true rfl) (Nat.le_of_ble_eq_true rfl) dX0_known_25 ⟨(by first | exact Eq.symm (sel_f (fun q => absurd q.1 (by assumption))) | exact Eq.symm (sel_f (fun q => absurd q.2 (by assumption)))), hX⟩

theorem gone_x {m g : Int → Int} {P : Int → Prop} {v d : Int} {c : Prop} (h0 : 0 ≤ v) (hg : ∀ j : Int, 0 ≤ j → m j = sel (j < v ∧ P j) d (g j)) (hc : c ↔ P v) : ∀ j : Int, 0 ≤ j → fup m v (sel c d (m v)) j = sel (j < v + 1 ∧ P j) d (g j) := by
  intro j h
  by_cases e : j = v
  · rw [e, fup_s, hg v h0, sel_f (c := v < v ∧ P v) (fun z => by omega)]
    exact sel_c ⟨fun q => ⟨by omega, hc.1 q⟩, fun q => hc.2 q.2⟩
  · rw [fup_n _ _ e, hg j h]
    exact sel_c ⟨fun q => ⟨by omega, q.2⟩, fun q => ⟨by omega, q.2⟩⟩

theorem hd_X0_withdraw : yX0_withdraw.cls = RX0 ∧ yX0_withdraw.cls ≠ "java/lang/invoke/MethodHandle" ∧ yX0_withdraw.cls ≠ "java/lang/invoke/VarHandle" ∧ (parseMethodDescriptor yX0_withdraw.desc).map (fun d => d.parameters.length) = some 1 := by decide +kernel
abbrev rm_X0_withdraw : Room := { frames := 2, cells := 0, slots := 0, locals := 46 }
set_option maxHeartbeats 8000000 in
theorem met_X0_withdraw (l : Launch) (E : us_E) (A : Nat → Prop) (B : Nat → Int → Nat) (F : Nat → Int) (M : Nat → Int → Int) (G : Nat → Int → Option Nat) (T : x_T) (k : Int) (hk : -2147483648 ≤ k ∧ k < 2147483648) : cMet l yX0_withdraw cX0_withdraw 4 (some .int) rm_X0_withdraw A E [.ref (B 49 0), .int (zi k)] (fun H => XH E A B F M G T H) (qi A (fun r H => ∃ m209 : Int → Int, (((0 ≤ k ∧ k < F 43) ∧ M 209 k = -4) → (r = c5x (M 208) (M 209) k (F 43) ∧ ∀ j : Int, 0 ≤ j → m209 j = sel (j < F 43 ∧ HSx (M 208) (M 209) k (F 43) j) (F 44) (M 209 j))) ∧ (¬ (0 ≤ k ∧ k < F 43) → r = -1 ∧ m209 = M 209) ∧ ((0 ≤ k ∧ k < F 43) → ¬ M 209 k = -4 → r = -2 ∧ m209 = M 209) ∧ XH E A B F (va_up M 209 m209) G T H)) := by
  refine cMet.of (by decide) (Nat.le_of_ble_eq_true rfl) (fun p e s m args below meth c C hnm hX hS ls hl => ?_)
  have C : Cx p s m args meth c A RX0 cX0_withdraw 4 (some .int) E := C
  have hX : XH E A B F M G T s.heap := hX
  have hl : lv_has ls 4 [(0, .ref (B 49 0)), (1, .int (zi k))] := hl
  generalize hH : s.heap = H at hX
  have hS : va_S A s.heap H [] := by rw [← hH]; exact hS
  generalize hlocs : ([] : List Loc) = locs at hS ⊢
  obtain ⟨QQ, hQQ⟩ : ∃ zQQ, MQ below (qi A (fun r H => ∃ m209 : Int → Int, (((0 ≤ k ∧ k < F 43) ∧ M 209 k = -4) → (r = c5x (M 208) (M 209) k (F 43) ∧ ∀ j : Int, 0 ≤ j → m209 j = sel (j < F 43 ∧ HSx (M 208) (M 209) k (F 43) j) (F 44) (M 209 j))) ∧ (¬ (0 ≤ k ∧ k < F 43) → r = -1 ∧ m209 = M 209) ∧ ((0 ≤ k ∧ k < F 43) → ¬ M 209 k = -4 → r = -2 ∧ m209 = M 209) ∧ XH E A B F (va_up M 209 m209) G T H)) args s (rm_X0_withdraw).cells (rm_X0_withdraw).slots A = zQQ := ⟨_, rfl⟩
  rw [hQQ]
  have rF43 : 0 ≤ F 43 ∧ F 43 ≤ 20 := hX.2.1 43 (0, 20) rfl
  have rF44 : 0 ≤ F 44 ∧ F 44 ≤ 99 := hX.2.1 44 (0, 99) rfl
  refine lv_aload_n C.x C.b dX0_withdraw_0 rfl (lv_at hl 0 rfl) ?_
  refine lv_iload_n C.x C.b dX0_withdraw_1 rfl (lv_at hl 1 rfl) ?_
  refine r_callVi (As := [.int (zi k)]) (rest := []) (cells' := 0) (slots' := 0) C (met_X0_isClaim l E A B F M G T k (show -2147483648 ≤ k ∧ k < 2147483648 from (by omega))) (lw_V q676 q678 qs39 q86 q679) hd_X0_isClaim rfl (by decide) (x_this C hX) hX hS hl.1 rfl (Nat.le_of_ble_eq_true rfl) dX0_withdraw_2 rfl rfl ⟨Nat.le_of_ble_eq_true rfl, Nat.le_of_ble_eq_true rfl⟩ (fun rr H locs hp hS => ?_)
  obtain ⟨hrr, hX⟩ := hp
  have hrr : rr = bI (0 ≤ k ∧ k < (F 43)) := hrr
  subst hrr
  refine r_if_ne_b (tgt := 10) C dX0_withdraw_5 (by decide) (fun c_1 => ?_) (fun c_1 => ?_)
  · refine lv_aload_n C.x C.b dX0_withdraw_10 rfl (lv_at hl 0 rfl) ?_
    refine x_ga C hX 42 (by decide) rfl q779 (fun _ h => h) dX0_withdraw_11 ?_
    refine lv_iload_n C.x C.b dX0_withdraw_14 rfl (lv_at hl 1 rfl) ?_
    refine x_la C hX 42 rfl rfl rfl (by decide) rfl rfl (show 0 ≤ k ∧ k < F 43 from (by omega)) (by omega) (by decide) dX0_withdraw_15 ?_
    refine x_goN C hX 59 (by decide) (show 0 ≤ k ∧ k < F 43 from (by omega)).1 (xK_59 (show 0 ≤ k ∧ k < F 43 from (by omega))) rfl in_X9 4 (by decide) (List.mem_of_getElem? (i := 6) rfl) (fun _ h => h) (.int (zi (M 209 k))) rfl dX0_withdraw_16 ?_
    have r16 : -4 ≤ M 209 k ∧ M 209 k ≤ 99 := hX.2.2.1 209 (-4, 99) rfl _
    refine r_bipush C (by decide) dX0_withdraw_19 ?_
    refine r_icmp_eq (tgt := 27) C (by omega) (by decide) dX0_withdraw_21 (by decide) (fun c_2 => ?_) (fun c_2 => ?_)
    · refine lv_aload_n C.x C.b dX0_withdraw_27 rfl (lv_at hl 0 rfl) ?_
      refine lv_iload_n C.x C.b dX0_withdraw_28 rfl (lv_at hl 1 rfl) ?_
      refine r_callVi (As := [.int (zi k)]) (rest := []) (cells' := 0) (slots' := 0) C (met_X0_hung l E A B F M G T k (show 0 ≤ k ∧ k < (F 43) from (by omega))) (lw_V q680 q682 qs40 q86 q683) hd_X0_hung rfl (by decide) (x_this C hX) hX hS hl.1 rfl (Nat.le_of_ble_eq_true rfl) dX0_withdraw_29 rfl rfl ⟨Nat.le_of_ble_eq_true rfl, Nat.le_of_ble_eq_true rfl⟩ (fun rr H locs hp hS => ?_)
      obtain ⟨r_3, hrr⟩ : ∃ z, z = rr := ⟨_, rfl⟩
      rw [← hrr] at hp ⊢
      obtain ⟨hhb, hX⟩ := hp
      replace hhb : (0 ≤ r_3 ∧ r_3 < 1048576) ∧ ∀ b : Int, 0 ≤ b → (Bt r_3 b ↔ HSx ((M 208)) ((M 209)) k ((F 43)) b) := hhb
      refine lv_istore_n (lv' := [(2, .int (zi r_3)), (0, .ref (B 49 0)), (1, .int (zi k))]) C.x C.b dX0_withdraw_32 rfl hl (by decide) rfl (fun ls hl => ?_)
      refine r_const C dX0_withdraw_33 ?_
      refine lv_istore_n (lv' := [(3, .int (zi 0)), (2, .int (zi r_3)), (0, .ref (B 49 0)), (1, .int (zi k))]) C.x C.b dX0_withdraw_34 rfl hl (by decide) rfl (fun ls hl => ?_)
      have hxb := hx_bits (show 0 ≤ k ∧ k < F 43 by assumption) (by omega) hhb.1 hhb.2
      have L35 : ∀ (fu : Nat) (v3 : Int) (m209 : Int → Int) (h3 : 0 ≤ v3 ∧ v3 ≤ F 43) (hg : ∀ j : Int, 0 ≤ j → m209 j = sel (j < v3 ∧ HSx (M 208) (M 209) k (F 43) j) (F 44) (M 209 j)) (hm : Int.toNat (F 43 - v3) < fu) (H : Heap) (locs : List Loc) (ls : Array Slot) (hX : XH E A B F (va_up M 209 m209) G T H) (hS : va_S A s.heap H locs) (hl : lv_has ls 4 [(0, .ref (B 49 0)), (1, .int (zi k)), (2, .int (zi r_3)), (3, .int (zi v3))]), W p l e rm_X0_withdraw s m args below meth c H locs 0 0 QQ (F0 m 35 ls []) := by
        intro fu
        induction fu with
        | zero => intro v3 m209 h3 hg hm; exact absurd hm (Nat.not_lt_zero _)
        | succ fu ih35 =>
          intro v3 m209 h3 hg hm H locs ls hX hS hl
          refine lv_iload_n C.x C.b dX0_withdraw_35 rfl (lv_at hl 3 rfl) ?_
          refine lv_aload_n C.x C.b dX0_withdraw_36 rfl (lv_at hl 0 rfl) ?_
          refine x_gi C hX 43 (by decide) rfl q781 (fun _ h => h) (F 43) rfl (b := (0, 20)) rfl dX0_withdraw_37 (fun _ => ?_)
          refine r_icmp_ge (tgt := 83) C (by omega) (by omega) dX0_withdraw_40 (by decide) (fun c_4 => ?_) (fun c_4 => ?_)
          · refine lv_iload_n C.x C.b dX0_withdraw_83 rfl (lv_at hl 2 rfl) ?_
            refine r_callSi (As := [.int (zi r_3)]) (rest := []) (cells' := 0) (slots' := 0) C (met_J0_bitCount l E A H r_3 (show 0 ≤ r_3 ∧ r_3 < 16777216 from (by omega))) (lw_S q142 q143 q89 q144) hd_J0_bitCount rfl (by decide) rfl hS hl.1 rfl (Nat.le_of_ble_eq_true rfl) dX0_withdraw_84 rfl rfl ⟨Nat.le_of_ble_eq_true rfl, Nat.le_of_ble_eq_true rfl⟩ (fun rr H locs hp hS => ?_)
            obtain ⟨hbc, hrr, hH⟩ := hp
            have hrr : rr = bits r_3 := hrr
            subst hrr
            have hX : XH E A B F (va_up M 209 m209) G T H := by rw [hH]; exact hX
            replace hbc : 0 ≤ bits r_3 ∧ bits r_3 ≤ 24 := hbc
            rw [← hQQ]
            exact r_iret C hS (Nat.le_of_ble_eq_true rfl) (Nat.le_of_ble_eq_true rfl) dX0_withdraw_87 ⟨m209, (fun _ => ⟨hxb, by rw [show v3 = F 43 by omega] at hg; exact hg⟩), (fun q => absurd (by assumption) q), (fun _ q => absurd (by assumption) q), hX⟩
          · have r209 : -4 ≤ m209 v3 ∧ m209 v3 ≤ 99 := hX.2.2.1 209 (-4, 99) rfl v3
            refine lv_aload_n C.x C.b dX0_withdraw_43 rfl (lv_at hl 0 rfl) ?_
            refine x_ga C hX 42 (by decide) rfl q779 (fun _ h => h) dX0_withdraw_44 ?_
            refine lv_iload_n C.x C.b dX0_withdraw_47 rfl (lv_at hl 3 rfl) ?_
            refine x_la C hX 42 rfl rfl rfl (by decide) rfl rfl (show 0 ≤ v3 ∧ v3 < F 43 from (by omega)) (by omega) (by decide) dX0_withdraw_48 ?_
            refine lv_iload_n C.x C.b dX0_withdraw_49 rfl (lv_at hl 2 rfl) ?_
            refine lv_iload_n C.x C.b dX0_withdraw_50 rfl (lv_at hl 3 rfl) ?_
            refine r_ishr C (by omega) (by omega) rfl dX0_withdraw_51 ?_
            refine r_const C dX0_withdraw_52 ?_
            refine r_iand C (zi_and1 _) dX0_withdraw_53 ?_
            refine r_const C dX0_withdraw_54 ?_
            have J74_5 : ∀ (t1 : Int) (ht1 : t1 = sel (((r_3 / 2 ^ v3.toNat) % 2) = 1) (F 44) (m209 v3)) (H : Heap) (locs : List Loc) (ls : Array Slot) (hX : XH E A B F (va_up M 209 m209) G T H) (hS : va_S A s.heap H locs) (hl : lv_has ls 4 [(0, .ref (B 49 0)), (1, .int (zi k)), (2, .int (zi r_3)), (3, .int (zi v3))]), W p l e rm_X0_withdraw s m args below meth c H locs 0 0 QQ (F0 m 74 ls [.int (zi t1), .ref (B 59 v3)]) := by
              intro t1 ht1 H locs ls hX hS hl
              subst ht1
              have hrt1 : (-4 : Int) ≤ ((sel (((r_3 / 2 ^ v3.toNat) % 2) = 1) (F 44) (m209 v3)) : Int) ∧ ((sel (((r_3 / 2 ^ v3.toNat) % 2) = 1) (F 44) (m209 v3)) : Int) ≤ 99 := by
                exact (sel_rg (fun qq => (by omega)) (fun qq => (by omega)))
              refine x_pgone C hX hS (show 0 ≤ v3 ∧ v3 < F 43 from (by omega)) (List.mem_of_getElem? (i := 6) rfl) (fun _ h => h) (show -4 ≤ sel (((r_3 / 2 ^ v3.toNat) % 2) = 1) (F 44) (m209 v3) ∧ sel (((r_3 / 2 ^ v3.toNat) % 2) = 1) (F 44) (m209 v3) ≤ 99 from (by omega)) (M' := (va_up M 209 (fup m209 v3 (sel (((r_3 / 2 ^ v3.toNat) % 2) = 1) (F 44) (m209 v3))))) (up_up _ _ _ _) dX0_withdraw_74 (fun H locs hX hS => ?_)
              refine r_iinc (lv' := [(3, .int (zi (v3 + 1))), (0, .ref (B 49 0)), (1, .int (zi k)), (2, .int (zi r_3))]) C dX0_withdraw_77 hl (k := 3) rfl (by decide) rfl (fun ls hl => ?_)
              refine lv_goto (tgt := 35) C.x C.b dX0_withdraw_80 (by decide) ?_
              exact ih35 (v3 + 1) (fup m209 v3 (sel (((r_3 / 2 ^ v3.toNat) % 2) = 1) (F 44) (m209 v3))) (by omega) (gone_x h3.1 hg (hhb.2 v3 h3.1)) (by omega) H locs ls hX hS (lv_sub hl [1, 2, 3, 0] rfl)
            refine r_icmp_ne (tgt := 65) C (by omega) (by decide) dX0_withdraw_55 (by decide) (fun c_6 => ?_) (fun c_6 => ?_)
            · refine lv_aload_n C.x C.b dX0_withdraw_65 rfl (lv_at hl 0 rfl) ?_
              refine x_ga C hX 42 (by decide) rfl q779 (fun _ h => h) dX0_withdraw_66 ?_
              refine lv_iload_n C.x C.b dX0_withdraw_69 rfl (lv_at hl 3 rfl) ?_
              refine x_la C hX 42 rfl rfl rfl (by decide) rfl rfl (show 0 ≤ v3 ∧ v3 < F 43 from (by omega)) (by omega) (by decide) dX0_withdraw_70 ?_
              refine x_goN C hX 59 (by decide) (show 0 ≤ v3 ∧ v3 < F 43 from (by omega)).1 (xK_59 (show 0 ≤ v3 ∧ v3 < F 43 from (by omega))) rfl in_X9 4 (by decide) (List.mem_of_getElem? (i := 6) rfl) (fun _ h => h) (.int (zi (m209 v3))) rfl dX0_withdraw_71 ?_
              have r71 : -4 ≤ m209 v3 ∧ m209 v3 ≤ 99 := hX.2.2.1 209 (-4, 99) rfl _
              exact J74_5 (m209 v3) ((sel_f c_6).symm) H locs ls hX hS hl
            · refine lv_aload_n C.x C.b dX0_withdraw_58 rfl (lv_at hl 0 rfl) ?_
              refine x_gi C hX 44 (by decide) rfl q783 (fun _ h => h) (F 44) rfl (b := (0, 99)) rfl dX0_withdraw_59 (fun _ => ?_)
              refine lv_goto (tgt := 74) C.x C.b dX0_withdraw_62 (by decide) ?_
              exact J74_5 (F 44) ((sel_t c_6).symm) H locs ls hX hS hl
      exact L35 _ 0 (M 209) (by omega) (fun j a => by rw [sel_f (fun q => absurd q.1 (by omega))]) (Nat.lt_succ_self _) H locs ls (hX.to rfl rfl ((up_id M (k := 209) (a := (M 209)) rfl).symm.trans rfl) rfl rfl) hS (lv_sub hl [2, 3, 1, 0] rfl)
    · refine r_bipush C (by decide) dX0_withdraw_24 ?_
      rw [← hQQ]
      exact r_iret C hS (Nat.le_of_ble_eq_true rfl) (Nat.le_of_ble_eq_true rfl) dX0_withdraw_26 ⟨(M 209), (fun q => absurd q.2 (by assumption)), (fun q => absurd (by assumption) q), (fun _ _ => ⟨rfl, rfl⟩), (hX.to rfl rfl ((up_id M (k := 209) (a := (M 209)) rfl).symm.trans rfl) rfl rfl)⟩
  · refine r_const C dX0_withdraw_8 ?_
    rw [← hQQ]
    exact r_iret C hS (Nat.le_of_ble_eq_true rfl) (Nat.le_of_ble_eq_true rfl) dX0_withdraw_9 ⟨(M 209), (fun q => absurd q.1 (by assumption)), (fun _ => ⟨rfl, rfl⟩), (fun q => absurd q (by assumption)), (hX.to rfl rfl ((up_id M (k := 209) (a := (M 209)) rfl).symm.trans rfl) rfl rfl)⟩

theorem hd_X0_count : yX0_count.cls = RX0 ∧ yX0_count.cls ≠ "java/lang/invoke/MethodHandle" ∧ yX0_count.cls ≠ "java/lang/invoke/VarHandle" ∧ (parseMethodDescriptor yX0_count.desc).map (fun d => d.parameters.length) = some 1 := by decide +kernel
abbrev rm_X0_count : Room := { frames := 1, cells := 0, slots := 0, locals := 26 }
set_option maxHeartbeats 8000000 in
theorem met_X0_count (l : Launch) (E : us_E) (A : Nat → Prop) (B : Nat → Int → Nat) (F : Nat → Int) (M : Nat → Int → Int) (G : Nat → Int → Option Nat) (T : x_T) (w : Int) (hw : -2147483648 ≤ w ∧ w < 2147483648) : cMet l yX0_count cX0_count 4 (some .int) rm_X0_count A E [.ref (B 49 0), .int (zi w)] (fun H => XH E A B F M G T H) (qi A (fun r H => (r = sel (w = 0) (F 1) (sel (w = 1) (F 6) (sel (w = 2) (alls (M 3) (mtc (M 56)) (M 200) (F 6)) (sel (w = 3) (F 21) (sel (w = 4) (F 24) (sel (w = 5) (F 26) (sel (w = 6) (F 43) (sel (w = 7) (isum (fun k => bI (¬ M 209 k = -4)) (F 43)) (sel (w = 8) (F 44) (sel (w = 9) (F 46) (sel (w = 10) (sel (M 203 0 = -4) (-4) (M 204 0)) (-1)))))))))))) ∧ XH E A B F M G T H)) := by
  refine cMet.of (by decide) (Nat.le_of_ble_eq_true rfl) (fun p e s m args below meth c C hnm hX hS ls hl => ?_)
  have C : Cx p s m args meth c A RX0 cX0_count 4 (some .int) E := C
  have hX : XH E A B F M G T s.heap := hX
  have hl : lv_has ls 4 [(0, .ref (B 49 0)), (1, .int (zi w))] := hl
  generalize hH : s.heap = H at hX
  have hS : va_S A s.heap H [] := by rw [← hH]; exact hS
  generalize hlocs : ([] : List Loc) = locs at hS ⊢
  obtain ⟨QQ, hQQ⟩ : ∃ zQQ, MQ below (qi A (fun r H => (r = sel (w = 0) (F 1) (sel (w = 1) (F 6) (sel (w = 2) (alls (M 3) (mtc (M 56)) (M 200) (F 6)) (sel (w = 3) (F 21) (sel (w = 4) (F 24) (sel (w = 5) (F 26) (sel (w = 6) (F 43) (sel (w = 7) (isum (fun k => bI (¬ M 209 k = -4)) (F 43)) (sel (w = 8) (F 44) (sel (w = 9) (F 46) (sel (w = 10) (sel (M 203 0 = -4) (-4) (M 204 0)) (-1)))))))))))) ∧ XH E A B F M G T H)) args s (rm_X0_count).cells (rm_X0_count).slots A = zQQ := ⟨_, rfl⟩
  rw [hQQ]
  have rF1 : 0 ≤ F 1 ∧ F 1 ≤ 24 := hX.2.1 1 (0, 24) rfl
  have rF6 : 0 ≤ F 6 ∧ F 6 ≤ 8 := hX.2.1 6 (0, 8) rfl
  have rF21 : 0 ≤ F 21 ∧ F 21 ≤ 8 := hX.2.1 21 (0, 8) rfl
  have rF24 : 0 ≤ F 24 ∧ F 24 ≤ 4 := hX.2.1 24 (0, 4) rfl
  have rF26 : 0 ≤ F 26 ∧ F 26 ≤ 12 := hX.2.1 26 (0, 12) rfl
  have rF43 : 0 ≤ F 43 ∧ F 43 ≤ 20 := hX.2.1 43 (0, 20) rfl
  have rF44 : 0 ≤ F 44 ∧ F 44 ≤ 99 := hX.2.1 44 (0, 99) rfl
  have rF46 : 0 ≤ F 46 ∧ F 46 ≤ 160 := hX.2.1 46 (0, 160) rfl
  refine r_const C dX0_count_0 ?_
  refine lv_istore_n (lv' := [(2, .int (zi 0)), (0, .ref (B 49 0)), (1, .int (zi w))]) C.x C.b dX0_count_1 rfl hl (by decide) rfl (fun ls hl => ?_)
  refine lv_iload_n C.x C.b dX0_count_2 rfl (lv_at hl 2 rfl) ?_
  rcases (show w = 0 ∨ w = 1 ∨ w = 2 ∨ w = 3 ∨ w = 4 ∨ w = 5 ∨ w = 6 ∨ w = 7 ∨ w = 8 ∨ w = 9 ∨ w = 10 ∨ (w < 0 ∨ 10 < w) by omega) with cs | cs | cs | cs | cs | cs | cs | cs | cs | cs | cs | cs
  · refine r_tswIn (k := 0) (tgt := 60) (off := 57) C cs (by omega) dX0_count_3 (by decide) rfl (by decide) ?_
    refine lv_aload_n C.x C.b dX0_count_60 rfl (lv_at hl 1 rfl) ?_
    refine x_gi C hX 1 (by decide) rfl q737 (fun _ h => h) (F 1) rfl (b := (0, 24)) rfl dX0_count_61 (fun _ => ?_)
    rw [← hQQ]
    exact r_iret C hS (Nat.le_of_ble_eq_true rfl) (Nat.le_of_ble_eq_true rfl) dX0_count_64 ⟨(by (repeat first | rw [sel_t (c := w = _) (by omega)] | rw [sel_f (c := w = _) (by omega)]) <;> first | rfl | assumption | omega), hX⟩
  · refine r_tswIn (k := 1) (tgt := 65) (off := 62) C cs (by omega) dX0_count_3 (by decide) rfl (by decide) ?_
    refine lv_aload_n C.x C.b dX0_count_65 rfl (lv_at hl 1 rfl) ?_
    refine x_gi C hX 6 (by decide) rfl q742 (fun _ h => h) (F 6) rfl (b := (0, 8)) rfl dX0_count_66 (fun _ => ?_)
    rw [← hQQ]
    exact r_iret C hS (Nat.le_of_ble_eq_true rfl) (Nat.le_of_ble_eq_true rfl) dX0_count_69 ⟨(by (repeat first | rw [sel_t (c := w = _) (by omega)] | rw [sel_f (c := w = _) (by omega)]) <;> first | rfl | assumption | omega), hX⟩
  · refine r_tswIn (k := 2) (tgt := 70) (off := 67) C cs (by omega) dX0_count_3 (by decide) rfl (by decide) ?_
    refine lv_aload_n C.x C.b dX0_count_70 rfl (lv_at hl 1 rfl) ?_
    refine r_callVi (As := []) (rest := []) (cells' := 0) (slots' := 0) C (met_X0_allSigns l E A B F M G T) (lw_V q214 q216 qs9 q86 q217) hd_X0_allSigns rfl (by decide) (x_this C hX) hX hS hl.1 rfl (Nat.le_of_ble_eq_true rfl) dX0_count_71 rfl rfl ⟨Nat.le_of_ble_eq_true rfl, Nat.le_of_ble_eq_true rfl⟩ (fun rr H locs hp hS => ?_)
    obtain ⟨hal, hrr, hX⟩ := hp
    have hrr : rr = alls ((M 3)) (mtc ((M 56))) ((M 200)) ((F 6)) := hrr
    subst hrr
    replace hal : 0 ≤ alls ((M 3)) (mtc ((M 56))) ((M 200)) ((F 6)) ∧ alls ((M 3)) (mtc ((M 56))) ((M 200)) ((F 6)) ≤ 192 := hal
    rw [← hQQ]
    exact r_iret C hS (Nat.le_of_ble_eq_true rfl) (Nat.le_of_ble_eq_true rfl) dX0_count_74 ⟨(by (repeat first | rw [sel_t (c := w = _) (by omega)] | rw [sel_f (c := w = _) (by omega)]) <;> first | rfl | assumption | omega), hX⟩
  · refine r_tswIn (k := 3) (tgt := 75) (off := 72) C cs (by omega) dX0_count_3 (by decide) rfl (by decide) ?_
    refine lv_aload_n C.x C.b dX0_count_75 rfl (lv_at hl 1 rfl) ?_
    refine x_gi C hX 21 (by decide) rfl q757 (fun _ h => h) (F 21) rfl (b := (0, 8)) rfl dX0_count_76 (fun _ => ?_)
    rw [← hQQ]
    exact r_iret C hS (Nat.le_of_ble_eq_true rfl) (Nat.le_of_ble_eq_true rfl) dX0_count_79 ⟨(by (repeat first | rw [sel_t (c := w = _) (by omega)] | rw [sel_f (c := w = _) (by omega)]) <;> first | rfl | assumption | omega), hX⟩
  · refine r_tswIn (k := 4) (tgt := 80) (off := 77) C cs (by omega) dX0_count_3 (by decide) rfl (by decide) ?_
    refine lv_aload_n C.x C.b dX0_count_80 rfl (lv_at hl 1 rfl) ?_
    refine x_gi C hX 24 (by decide) rfl q760 (fun _ h => h) (F 24) rfl (b := (0, 4)) rfl dX0_count_81 (fun _ => ?_)
    rw [← hQQ]
    exact r_iret C hS (Nat.le_of_ble_eq_true rfl) (Nat.le_of_ble_eq_true rfl) dX0_count_84 ⟨(by (repeat first | rw [sel_t (c := w = _) (by omega)] | rw [sel_f (c := w = _) (by omega)]) <;> first | rfl | assumption | omega), hX⟩
  · refine r_tswIn (k := 5) (tgt := 85) (off := 82) C cs (by omega) dX0_count_3 (by decide) rfl (by decide) ?_
    refine lv_aload_n C.x C.b dX0_count_85 rfl (lv_at hl 1 rfl) ?_
    refine x_gi C hX 26 (by decide) rfl q762 (fun _ h => h) (F 26) rfl (b := (0, 12)) rfl dX0_count_86 (fun _ => ?_)
    rw [← hQQ]
    exact r_iret C hS (Nat.le_of_ble_eq_true rfl) (Nat.le_of_ble_eq_true rfl) dX0_count_89 ⟨(by (repeat first | rw [sel_t (c := w = _) (by omega)] | rw [sel_f (c := w = _) (by omega)]) <;> first | rfl | assumption | omega), hX⟩
  · refine r_tswIn (k := 6) (tgt := 90) (off := 87) C cs (by omega) dX0_count_3 (by decide) rfl (by decide) ?_
    refine lv_aload_n C.x C.b dX0_count_90 rfl (lv_at hl 1 rfl) ?_
    refine x_gi C hX 43 (by decide) rfl q781 (fun _ h => h) (F 43) rfl (b := (0, 20)) rfl dX0_count_91 (fun _ => ?_)
    rw [← hQQ]
    exact r_iret C hS (Nat.le_of_ble_eq_true rfl) (Nat.le_of_ble_eq_true rfl) dX0_count_94 ⟨(by (repeat first | rw [sel_t (c := w = _) (by omega)] | rw [sel_f (c := w = _) (by omega)]) <;> first | rfl | assumption | omega), hX⟩
  · refine r_tswIn (k := 7) (tgt := 95) (off := 92) C cs (by omega) dX0_count_3 (by decide) rfl (by decide) ?_
    refine r_const C dX0_count_95 ?_
    refine lv_istore_n (lv' := [(3, .int (zi 0)), (2, .int (zi 0)), (0, .ref (B 49 0)), (1, .int (zi w))]) C.x C.b dX0_count_96 rfl hl (by decide) rfl (fun ls hl => ?_)
    have L97 : ∀ (fu : Nat) (v2 : Int) (v3 : Int) (h3 : 0 ≤ v3 ∧ v3 ≤ F 43) (ha : v2 = isum (fun k => bI (¬ M 209 k = -4)) v3) (hm : Int.toNat (F 43 - v3) < fu) (H : Heap) (locs : List Loc) (ls : Array Slot) (hX : XH E A B F M G T H) (hS : va_S A s.heap H locs) (hl : lv_has ls 4 [(0, .ref (B 49 0)), (1, .int (zi w)), (2, .int (zi v2)), (3, .int (zi v3))]), W p l e rm_X0_count s m args below meth c H locs 0 0 QQ (F0 m 97 ls []) := by
      intro fu
      induction fu with
      | zero => intro v2 v3 h3 ha hm; exact absurd hm (Nat.not_lt_zero _)
      | succ fu ih97 =>
        intro v2 v3 h3 ha hm H locs ls hX hS hl
        refine lv_iload_n C.x C.b dX0_count_97 rfl (lv_at hl 3 rfl) ?_
        refine lv_aload_n C.x C.b dX0_count_98 rfl (lv_at hl 0 rfl) ?_
        refine x_gi C hX 43 (by decide) rfl q781 (fun _ h => h) (F 43) rfl (b := (0, 20)) rfl dX0_count_99 (fun _ => ?_)
        refine r_icmp_ge (tgt := 133) C (by omega) (by omega) dX0_count_102 (by decide) (fun c_1 => ?_) (fun c_1 => ?_)
        · have ha2 : v2 = isum (fun k => bI (¬ M 209 k = -4)) (F 43) := by rw [ha, show v3 = F 43 by omega]
          refine lv_iload_n C.x C.b dX0_count_133 rfl (lv_at hl 2 rfl) ?_
          rw [← hQQ]
          exact r_iret C hS (Nat.le_of_ble_eq_true rfl) (Nat.le_of_ble_eq_true rfl) dX0_count_134 ⟨(by (repeat first | rw [sel_t (c := w = _) (by omega)] | rw [sel_f (c := w = _) (by omega)]) <;> first | rfl | assumption | omega), hX⟩
        · refine lv_iload_n C.x C.b dX0_count_105 rfl (lv_at hl 2 rfl) ?_
          refine lv_aload_n C.x C.b dX0_count_106 rfl (lv_at hl 0 rfl) ?_
          refine x_ga C hX 42 (by decide) rfl q779 (fun _ h => h) dX0_count_107 ?_
          refine lv_iload_n C.x C.b dX0_count_110 rfl (lv_at hl 3 rfl) ?_
          refine x_la C hX 42 rfl rfl rfl (by decide) rfl rfl (show 0 ≤ v3 ∧ v3 < F 43 from (by omega)) (by omega) (by decide) dX0_count_111 ?_
          refine x_goN C hX 59 (by decide) (show 0 ≤ v3 ∧ v3 < F 43 from (by omega)).1 (xK_59 (show 0 ≤ v3 ∧ v3 < F 43 from (by omega))) rfl in_X9 4 (by decide) (List.mem_of_getElem? (i := 6) rfl) (fun _ h => h) (.int (zi (M 209 v3))) rfl dX0_count_112 ?_
          have r112 : -4 ≤ M 209 v3 ∧ M 209 v3 ≤ 99 := hX.2.2.1 209 (-4, 99) rfl _
          refine r_bipush C (by decide) dX0_count_115 ?_
          have J125_2 : ∀ (t1 : Int) (ht1 : t1 = bI (¬ ((M 209 v3) = (-4)))) (H : Heap) (locs : List Loc) (ls : Array Slot) (hX : XH E A B F M G T H) (hS : va_S A s.heap H locs) (hl : lv_has ls 4 [(0, .ref (B 49 0)), (1, .int (zi w)), (2, .int (zi v2)), (3, .int (zi v3))]), W p l e rm_X0_count s m args below meth c H locs 0 0 QQ (F0 m 125 ls [.int (zi t1), .int (zi v2)]) := by
            intro t1 ht1 H locs ls hX hS hl
            subst ht1
            refine r_iadd C dX0_count_125 ?_
            refine lv_istore_n (lv' := [(2, .int (zi (v2 + (bI (¬ ((M 209 v3) = (-4))))))), (0, .ref (B 49 0)), (1, .int (zi w)), (3, .int (zi v3))]) C.x C.b dX0_count_126 rfl hl (by decide) rfl (fun ls hl => ?_)
            refine r_iinc (lv' := [(3, .int (zi (v3 + 1))), (2, .int (zi (v2 + (bI (¬ ((M 209 v3) = (-4))))))), (0, .ref (B 49 0)), (1, .int (zi w))]) C dX0_count_127 hl (k := 3) rfl (by decide) rfl (fun ls hl => ?_)
            refine lv_goto (tgt := 97) C.x C.b dX0_count_130 (by decide) ?_
            exact ih97 (v2 + (bI (¬ ((M 209 v3) = (-4))))) (v3 + 1) (by omega) (isum_st h3.1 ha (by first | rfl | exact sel_bI)) (by omega) H locs ls hX hS (lv_sub hl [2, 3, 1, 0] rfl)
          refine r_icmp_eq (tgt := 124) C (by omega) (by decide) dX0_count_117 (by decide) (fun c_3 => ?_) (fun c_3 => ?_)
          · refine r_const C dX0_count_124 ?_
            exact J125_2 0 ((bI_f (fun q => q c_3)).symm) H locs ls hX hS hl
          · refine r_const C dX0_count_120 ?_
            refine lv_goto (tgt := 125) C.x C.b dX0_count_121 (by decide) ?_
            exact J125_2 1 ((bI_t c_3).symm) H locs ls hX hS hl
    exact L97 _ 0 0 (by omega) rfl (Nat.lt_succ_self _) H locs ls hX hS (lv_sub hl [2, 3, 1, 0] rfl)
  · refine r_tswIn (k := 8) (tgt := 135) (off := 132) C cs (by omega) dX0_count_3 (by decide) rfl (by decide) ?_
    refine lv_aload_n C.x C.b dX0_count_135 rfl (lv_at hl 1 rfl) ?_
    refine x_gi C hX 44 (by decide) rfl q783 (fun _ h => h) (F 44) rfl (b := (0, 99)) rfl dX0_count_136 (fun _ => ?_)
    rw [← hQQ]
    exact r_iret C hS (Nat.le_of_ble_eq_true rfl) (Nat.le_of_ble_eq_true rfl) dX0_count_139 ⟨(by (repeat first | rw [sel_t (c := w = _) (by omega)] | rw [sel_f (c := w = _) (by omega)]) <;> first | rfl | assumption | omega), hX⟩
  · refine r_tswIn (k := 9) (tgt := 140) (off := 137) C cs (by omega) dX0_count_3 (by decide) rfl (by decide) ?_
    refine lv_aload_n C.x C.b dX0_count_140 rfl (lv_at hl 1 rfl) ?_
    refine x_gi C hX 46 (by decide) rfl q785 (fun _ h => h) (F 46) rfl (b := (0, 160)) rfl dX0_count_141 (fun _ => ?_)
    rw [← hQQ]
    exact r_iret C hS (Nat.le_of_ble_eq_true rfl) (Nat.le_of_ble_eq_true rfl) dX0_count_144 ⟨(by (repeat first | rw [sel_t (c := w = _) (by omega)] | rw [sel_f (c := w = _) (by omega)]) <;> first | rfl | assumption | omega), hX⟩
  · refine r_tswIn (k := 10) (tgt := 145) (off := 142) C cs (by omega) dX0_count_3 (by decide) rfl (by decide) ?_
    refine lv_aload_n C.x C.b dX0_count_145 rfl (lv_at hl 1 rfl) ?_
    refine x_ga C hX 48 (by decide) rfl q787 (fun _ h => h) dX0_count_146 ?_
    refine r_const C dX0_count_149 ?_
    refine x_la C hX 48 rfl rfl rfl (by decide) rfl rfl (show 0 ≤ 0 ∧ 0 < 4 from (by omega)) (by omega) (by decide) dX0_count_150 ?_
    refine x_goN C hX 60 (by decide) (show 0 ≤ (0 : Int) ∧ 0 < 4 from (by omega)).1 (xK_60 (show 0 ≤ (0 : Int) ∧ 0 < 4 from (by omega))) rfl in_X1 0 (by decide) (List.mem_of_getElem? (i := 7) rfl) (fun _ h => h) ((if M 203 0 = -4 then .null else .ref (B 61 0))) rfl dX0_count_151 ?_
    have J171_4 : ∀ (t0 : Int) (ht0 : t0 = sel (M 203 0 = -4) (-4) (M 204 0)) (H : Heap) (locs : List Loc) (ls : Array Slot) (hX : XH E A B F M G T H) (hS : va_S A s.heap H locs) (hl : lv_has ls 4 [(2, .int (zi 0)), (0, .ref (B 49 0)), (1, .int (zi w))]), W p l e rm_X0_count s m args below meth c H locs 0 0 QQ (F0 m 171 ls [.int (zi t0)]) := by
      intro t0 ht0 H locs ls hX hS hl
      subst ht0
      rw [← hQQ]
      exact r_iret C hS (Nat.le_of_ble_eq_true rfl) (Nat.le_of_ble_eq_true rfl) dX0_count_171 ⟨(by (repeat first | rw [sel_t (c := w = _) (by omega)] | rw [sel_f (c := w = _) (by omega)]) <;> first | rfl | assumption | omega), hX⟩
    refine r_ifnn_or (tgt := 162) C dX0_count_154 (by decide) (fun c_5 => ?_) (fun c_5 => ?_)
    · refine lv_aload_n C.x C.b dX0_count_162 rfl (lv_at hl 1 rfl) ?_
      refine x_ga C hX 48 (by decide) rfl q787 (fun _ h => h) dX0_count_163 ?_
      refine r_const C dX0_count_166 ?_
      refine x_la C hX 48 rfl rfl rfl (by decide) rfl rfl (show 0 ≤ 0 ∧ 0 < 4 from (by omega)) (by omega) (by decide) dX0_count_167 ?_
      refine x_goN C hX 60 (by decide) (show 0 ≤ (0 : Int) ∧ 0 < 4 from (by omega)).1 (xK_60 (show 0 ≤ (0 : Int) ∧ 0 < 4 from (by omega))) rfl in_X1 1 (by decide) (List.mem_of_getElem? (i := 8) rfl) (fun _ h => h) (.int (zi (M 204 0))) rfl dX0_count_168 ?_
      have r168 : 0 ≤ M 204 0 ∧ M 204 0 ≤ 60 := hX.2.2.1 204 (0, 60) rfl _
      exact J171_4 (M 204 0) ((sel_f c_5).symm) H locs ls hX hS hl
    · refine r_bipush C (by decide) dX0_count_157 ?_
      refine lv_goto (tgt := 171) C.x C.b dX0_count_159 (by decide) ?_
      exact J171_4 (-4) ((sel_t c_5).symm) H locs ls hX hS hl
  · refine r_tswOut (tgt := 172) C (by omega) dX0_count_3 cs (by decide) ?_
    refine r_const C dX0_count_172 ?_
    rw [← hQQ]
    exact r_iret C hS (Nat.le_of_ble_eq_true rfl) (Nat.le_of_ble_eq_true rfl) dX0_count_173 ⟨(by (repeat first | rw [sel_t (c := w = _) (by omega)] | rw [sel_f (c := w = _) (by omega)]) <;> first | rfl | assumption | omega), hX⟩
