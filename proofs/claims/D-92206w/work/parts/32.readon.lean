set_option maxRecDepth 100000

theorem hd_X2_readOn : yX2_readOn.cls = RX2 ∧ yX2_readOn.cls ≠ "java/lang/invoke/MethodHandle" ∧ yX2_readOn.cls ≠ "java/lang/invoke/VarHandle" ∧ (parseMethodDescriptor yX2_readOn.desc).map (fun d => d.parameters.length) = some 1 := by decide +kernel
abbrev rm_X2_readOn : Room := { frames := 4, cells := 0, slots := 0, locals := 88 }
set_option maxHeartbeats 8000000 in
theorem met_X2_readOn (l : Launch) (E : us_E) (A : Nat → Prop) (ad : Nat → Nat) (F : Nat → Int) (M : Nat → Int → Int) (n : Int) (hn : 0 ≤ n ∧ n ≤ 20) (hp : 0 ≤ F 46 ∧ F 46 ≤ F 45) (h0 : F 50 = 0) : cMet l yX2_readOn cX2_readOn 4 (some .int) rm_X2_readOn A E [.ref (ad 63), .int (zi n)] (fun H => MH E A ad F M H) (qi A (fun r H => ∃ f46 : Int, ∃ f47 : Int, ∃ f48 : Int, ∃ f49 : Int, ∃ f50 : Int, ∃ f51 : Int, (F 46 ≤ f46 ∧ f46 ≤ F 45) ∧ (0 ≤ r ∧ r < 2 ^ n.toNat) ∧ ((0 < f50 ∧ hang (M 44) (F 45) (M 56) n 200 (F 46) 0 = pBad f50 f51) ∨ (f50 = 0 ∧ ∃ q : Int, hang (M 44) (F 45) (M 56) n 200 (F 46) 0 = pOk q r ∧ (0 ≤ q ∧ q ≤ F 45) ∧ Cur (M 44) (F 45) q f46 f47 f48 f49 f50)) ∧ MH E A ad (va_up (va_up (va_up (va_up (va_up (va_up F 46 f46) 47 f47) 48 f48) 49 f49) 50 f50) 51 f51) M H)) := by
  refine cMet.of (by decide) (Nat.le_of_ble_eq_true rfl) (fun p e s m args below meth c C hnm hX hS ls hl => ?_)
  have C : Cx p s m args meth c A RX2 cX2_readOn 4 (some .int) E := C
  have hX : MH E A ad F M s.heap := hX
  have hl : lv_has ls 4 [(0, .ref (ad 63)), (1, .int (zi n))] := hl
  generalize hH : s.heap = H at hX
  have hS : va_S A s.heap H [] := by rw [← hH]; exact hS
  generalize hlocs : ([] : List Loc) = locs at hS ⊢
  obtain ⟨QQ, hQQ⟩ : ∃ z, MQ below (qi A (fun r H => ∃ f46 : Int, ∃ f47 : Int, ∃ f48 : Int, ∃ f49 : Int, ∃ f50 : Int, ∃ f51 : Int, (F 46 ≤ f46 ∧ f46 ≤ F 45) ∧ (0 ≤ r ∧ r < 2 ^ n.toNat) ∧ ((0 < f50 ∧ hang (M 44) (F 45) (M 56) n 200 (F 46) 0 = pBad f50 f51) ∨ (f50 = 0 ∧ ∃ q : Int, hang (M 44) (F 45) (M 56) n 200 (F 46) 0 = pOk q r ∧ (0 ≤ q ∧ q ≤ F 45) ∧ Cur (M 44) (F 45) q f46 f47 f48 f49 f50)) ∧ MH E A ad (va_up (va_up (va_up (va_up (va_up (va_up F 46 f46) 47 f47) 48 f48) 49 f49) 50 f50) 51 f51) M H)) args s (rm_X2_readOn).cells (rm_X2_readOn).slots A = z := ⟨_, rfl⟩
  rw [hQQ]
  have rF45 : 0 ≤ F 45 ∧ F 45 ≤ 160 := hX.2.1 45 (0, 160) rfl
  have rF46 : 0 ≤ F 46 ∧ F 46 ≤ 160 := hX.2.1 46 (0, 160) rfl
  have rF47 : 0 ≤ F 47 ∧ F 47 ≤ 160 := hX.2.1 47 (0, 160) rfl
  have rF48 : 0 ≤ F 48 ∧ F 48 ≤ 4 := hX.2.1 48 (0, 4) rfl
  have rF49 : -4 ≤ F 49 ∧ F 49 ≤ 99 := hX.2.1 49 (-4, 99) rfl
  have rF50 : 0 ≤ F 50 ∧ F 50 ≤ 5 := hX.2.1 50 (0, 5) rfl
  have rF51 : 0 ≤ F 51 ∧ F 51 ≤ 160 := hX.2.1 51 (0, 160) rfl
  have ht44 : ∀ j, 0 ≤ M 44 j ∧ M 44 j ≤ 255 := fun j => hX.2.2 44 (0, 255) rfl j
  obtain ⟨C0, hC0⟩ : ∃ C0, C0 = hang (M 44) (F 45) (M 56) n 200 (F 46) 0 := ⟨_, rfl⟩
  have hpw := p2_20 hn
  refine r_const C dX2_readOn_0 ?_
  refine lv_istore_n (lv' := [(2, .int (zi 0)), (0, .ref (ad 63)), (1, .int (zi n))]) C.x C.b dX2_readOn_1 rfl hl (by decide) rfl (fun ls hl => ?_)
  refine r_const C dX2_readOn_2 ?_
  refine lv_istore_n (lv' := [(3, .int (zi 1)), (2, .int (zi 0)), (0, .ref (ad 63)), (1, .int (zi n))]) C.x C.b dX2_readOn_3 rfl hl (by decide) rfl (fun ls hl => ?_)
  have L4 : ∀ (fu : Nat) (v2 : Int) (v3 : Prop) (xv3 : Int) (hv3 : xv3 = bI v3) (f46 : Int) (f47 : Int) (f48 : Int) (f49 : Int) (f50 : Int) (f51 : Int) (hon : 0 ≤ v2 ∧ v2 < 2 ^ n.toNat) (hpp : F 46 ≤ f46 ∧ f46 ≤ F 45) (h5_ : 0 ≤ f50 ∧ f50 ≤ 5) (hI : ∀ _ : Unit, ((0 < f50 ∧ C0 = pBad f50 f51) ∨ (f50 = 0 ∧ v3 ∧ ∃ k : Nat, F 45 - f46 < k ∧ hang (M 44) (F 45) (M 56) n k f46 v2 = C0) ∨ (f50 = 0 ∧ ¬ v3 ∧ ∃ q : Int, C0 = pOk q v2 ∧ (0 ≤ q ∧ q ≤ F 45) ∧ Cur (M 44) (F 45) q f46 f47 f48 f49 f50))) (hm : Int.toNat (sel (f50 = 0) (F 45 - f46 + 1) 0) < fu) (H : Heap) (locs : List Loc) (ls : Array Slot) (hX : MH E A ad (va_up (va_up (va_up (va_up (va_up (va_up F 46 f46) 47 f47) 48 f48) 49 f49) 50 f50) 51 f51) M H) (hS : va_S A s.heap H locs) (hl : lv_has ls 4 [(0, .ref (ad 63)), (1, .int (zi n)), (2, .int (zi v2)), (3, .int (zi xv3))]), W p l e rm_X2_readOn s m args below meth c H locs 0 0 QQ (F0 m 4 ls []) := by
    intro fu
    induction fu with
    | zero => intro v2 v3 xv3 hv3 f46 f47 f48 f49 f50 f51 hon hpp h5_ hI hm; exact absurd hm (Nat.not_lt_zero _)
    | succ fu ih4 =>
      intro v2 v3 xv3 hv3 f46 f47 f48 f49 f50 f51 hon hpp h5_ hI hm H locs ls hX hS hl
      subst hv3
      refine lv_iload_n C.x C.b dX2_readOn_4 rfl (lv_at hl 3 rfl) ?_
      refine r_if_eq_b (tgt := 128) C dX2_readOn_5 (by decide) (fun c_1 => ?_) (fun c_1 => ?_)
      · refine lv_iload_n C.x C.b dX2_readOn_128 rfl (lv_at hl 2 rfl) ?_
        rw [← hQQ]
        exact r_iret C hS (Nat.le_of_ble_eq_true rfl) (Nat.le_of_ble_eq_true rfl) dX2_readOn_129 ⟨f46, f47, f48, f49, f50, f51, (by first | rfl | assumption | exact (sel_t (by omega)).symm | exact (sel_f (by omega)).symm | omega), hon, (by rw [← hC0]; rcases hI () with q | q | q; exact Or.inl q; (first | exact absurd q.2.1 (by assumption) | exact absurd q.1 (by assumption)); exact Or.inr ⟨q.1, q.2.2⟩), hX⟩
      · refine lv_aload_n C.x C.b dX2_readOn_8 rfl (lv_at hl 0 rfl) ?_
        refine mg_50 C hX f50 rfl dX2_readOn_9 (fun r9 => ?_)
        refine r_if_ne (tgt := 128) C (by omega) dX2_readOn_12 (by decide) (fun c_2 => ?_) (fun c_2 => ?_)
        · refine lv_iload_n C.x C.b dX2_readOn_128 rfl (lv_at hl 2 rfl) ?_
          rw [← hQQ]
          exact r_iret C hS (Nat.le_of_ble_eq_true rfl) (Nat.le_of_ble_eq_true rfl) dX2_readOn_129 ⟨f46, f47, f48, f49, f50, f51, (by first | rfl | assumption | exact (sel_t (by omega)).symm | exact (sel_f (by omega)).symm | omega), hon, (by rw [← hC0]; rcases hI () with q | q | q; exact Or.inl q; (first | exact absurd q.2.1 (by assumption) | exact absurd q.1 (by assumption)); exact Or.inr ⟨q.1, q.2.2⟩), hX⟩
        · have h500 : f50 = 0 := by omega
          obtain ⟨k, hk, hH⟩ : ∃ k : Nat, F 45 - f46 < ((k + 1 : Nat) : Int) ∧ hang (M 44) (F 45) (M 56) n (k + 1) f46 v2 = C0 := by
            rcases hI () with q | q | q
            · exact absurd q.1 (by omega)
            · obtain ⟨k, q1, q2⟩ := q.2.2
              cases k with
              | zero => exact absurd q1 (by omega)
              | succ k => exact ⟨k, q1, q2⟩
            · exact absurd (by assumption) q.2.1
          have htkb := tok_b (n := F 45) (p := f46) ht44 ⟨by omega, hpp.2⟩
          have htk : Bx _ := Bx.i (tok_r (n := F 45) (p := f46) ht44 ⟨by omega, hpp.2⟩)
          have htk2 := tok_b (n := F 45) (p := (tp (M 44) (F 45) f46)) ht44 ⟨by omega, by omega⟩
          have hP0 : PG C0 _ f50 f51 := Or.inl ⟨h500, hH.symm⟩
          rw [hang_s] at hP0
          refine lv_aload_n C.x C.b dX2_readOn_15 rfl (lv_at hl 0 rfl) ?_
          refine r_callVv (As := []) (rest := []) (cells' := 0) (slots' := 0) C (met_X2_next l E A ad (va_up (va_up (va_up (va_up (va_up (va_up F 46 f46) 47 f47) 48 f48) 49 f49) 50 f50) 51 f51) M (show 0 ≤ f46 ∧ f46 ≤ (F 45) from (by omega))) (lw_V q1470 q1472 qs75 q88 q1473) hd_X2_next rfl (by decide) (m_recv C hX) hX hS hl.1 rfl (Nat.le_of_ble_eq_true rfl) dX2_readOn_16 rfl rfl ⟨Nat.le_of_ble_eq_true rfl, Nat.le_of_ble_eq_true rfl⟩ (fun H locs hp hS => ?_)
          obtain ⟨a46, a47, a48, a49, a50, a51, hno1, hyes1, hps1, hX⟩ := hp
          replace hno1 : 0 < f50 → a46 = f46 ∧ a47 = f47 ∧ a48 = f48 ∧ a49 = f49 ∧ a50 = f50 ∧ a51 = f51 := hno1
          replace hyes1 : f50 = 0 → Nxt ((M 44)) ((F 45)) (f46) a46 a47 a48 a49 a50 a51 := hyes1
          replace hps1 : f46 ≤ a46 ∧ a46 ≤ (F 45) := hps1
          have hX : MH E A ad (va_up (va_up (va_up (va_up (va_up (va_up F 46 a46) 47 a47) 48 a48) 49 a49) 50 a50) 51 a51) M H := hX.to ((congrArg (fun z => va_up z 51 a51) ((congrArg (fun z => va_up z 50 a50) ((congrArg (fun z => va_up z 49 a49) ((congrArg (fun z => va_up z 48 a48) ((congrArg (fun z => va_up z 47 a47) (up_in (by decide) (up_in (by decide) (up_in (by decide) (up_in (by decide) (up_in (by decide) (up_up _ _ _ _))))))).trans (up_in (by decide) (up_in (by decide) (up_in (by decide) (up_in (by decide) (up_up _ _ _ _))))))).trans (up_in (by decide) (up_in (by decide) (up_in (by decide) (up_up _ _ _ _)))))).trans (up_in (by decide) (up_in (by decide) (up_up _ _ _ _))))).trans (up_in (by decide) (up_up _ _ _ _)))).trans (up_up _ _ _ _)) rfl
          have hP1 : Bx _ := Bx.i <| hP0.next hno1 hyes1 (fun _ => rfl)
          clear hno1 hyes1
          have h50a : 0 ≤ a50 := by rcases hP1.o.1 with q | q <;> omega
          refine lv_aload_n C.x C.b dX2_readOn_19 rfl (lv_at hl 0 rfl) ?_
          refine lv_aload_n C.x C.b dX2_readOn_20 rfl (lv_at hl 0 rfl) ?_
          refine mg_48 C hX a48 rfl dX2_readOn_21 (fun r21 => ?_)
          refine r_const C dX2_readOn_24 ?_
          have J33_3 : ∀ (t1 : Int) (ht1 : t1 = bI (a48 = 2)) (H : Heap) (locs : List Loc) (ls : Array Slot) (hX : MH E A ad (va_up (va_up (va_up (va_up (va_up (va_up F 46 a46) 47 a47) 48 a48) 49 a49) 50 a50) 51 a51) M H) (hS : va_S A s.heap H locs) (hl : lv_has ls 4 [(0, .ref (ad 63)), (1, .int (zi n)), (2, .int (zi v2)), (3, .int (zi (bI v3)))]), W p l e rm_X2_readOn s m args below meth c H locs 0 0 QQ (F0 m 33 ls [.int (zi t1), .ref (ad 63)]) := by
            intro t1 ht1 H locs ls hX hS hl
            subst ht1
            refine r_const C dX2_readOn_33 ?_
            refine r_callVv (As := [.int (zi (bI (a48 = 2))), .int (zi 2)]) (rest := []) (cells' := 0) (slots' := 0) C (met_X2_wants l E A ad (va_up (va_up (va_up (va_up (va_up (va_up F 46 a46) 47 a47) 48 a48) 49 a49) 50 a50) 51 a51) M (a48 = 2) 2 (show 0 ≤ 2 ∧ 2 ≤ 5 from (by omega))) (lw_V q1488 q1490 qs79 q88 q1491) hd_X2_wants rfl (by decide) (m_recv C hX) hX hS hl.1 rfl (Nat.le_of_ble_eq_true rfl) dX2_readOn_34 rfl rfl ⟨Nat.le_of_ble_eq_true rfl, Nat.le_of_ble_eq_true rfl⟩ (fun H locs hp hS => ?_)
            obtain ⟨b50, b51, hwb0, hwb1, hX⟩ := hp
            replace hwb0 : b50 = sel (¬ (a48 = 2) ∧ a50 = 0) 2 (a50) := hwb0
            replace hwb1 : b51 = sel (¬ (a48 = 2) ∧ a50 = 0) (a47) (a51) := hwb1
            have hX : MH E A ad (va_up (va_up (va_up (va_up (va_up (va_up F 46 a46) 47 a47) 48 a48) 49 a49) 50 b50) 51 b51) M H := hX.to ((congrArg (fun z => va_up z 51 b51) (up_in (by decide) (up_up _ _ _ _))).trans (up_up _ _ _ _)) rfl
            have hP2 : Bx _ := Bx.i <| hP1.o.1.wants (by omega) hwb0 hwb1 (fun z => by rw [(hP1.o.2 z).2.1.2.2.2.1]) (fun z => (hP1.o.2 z).2.1.2.2.1)
            have h50b : 0 ≤ b50 := by rcases hP2.o.1 with q | q <;> omega
            refine lv_aload_n C.x C.b dX2_readOn_37 rfl (lv_at hl 0 rfl) ?_
            refine mg_50 C hX b50 rfl dX2_readOn_38 (fun r38 => ?_)
            refine r_if_ne (tgt := 87) C (by omega) dX2_readOn_41 (by decide) (fun c_4 => ?_) (fun c_4 => ?_)
            · first
              | (have hP3 : Bx _ := Bx.i <| hP2.o.1.wants (k := 3) (by omega) hwc0 hwc1 (fun z => by rw [← ea49]; constructor <;> (intro q; omega)) (fun z => hcur.1.2.2.1); have h50c : 0 ≤ c50 := by rcases hP3.o.1 with q | q <;> omega)
              | skip
              refine lv_iload_n C.x C.b dX2_readOn_87 rfl (lv_at hl 2 rfl) ?_
              refine lv_aload_n C.x C.b dX2_readOn_88 rfl (lv_at hl 0 rfl) ?_
              refine mg_50 C hX b50 rfl dX2_readOn_89 (fun _ => ?_)
              refine r_if_ne (tgt := 104) C (by omega) dX2_readOn_92 (by decide) (fun c_5 => ?_) (fun c_5 => ?_)
              · refine r_const C dX2_readOn_104 ?_
                refine r_ior (v := oo v2 0) C (zi_or (by omega) (by omega)) dX2_readOn_105 ?_
                refine lv_istore_n (lv' := [(2, .int (zi (oo v2 0))), (0, .ref (ad 63)), (1, .int (zi n)), (3, .int (zi (bI v3)))]) C.x C.b dX2_readOn_106 rfl hl (by decide) rfl (fun ls hl => ?_)
                first
                | have hon2 : 0 ≤ oo v2 (1 * 2 ^ a49.toNat) ∧ oo v2 (1 * 2 ^ a49.toNat) < 2 ^ n.toNat := by rw [oo_bit hon.1 hcd.2]; exact bit_lt hon ⟨by omega, hvn⟩ hcd.2
                | skip
                refine lv_aload_n C.x C.b dX2_readOn_107 rfl (lv_at hl 1 rfl) ?_
                refine r_callVv (As := []) (rest := []) (cells' := 0) (slots' := 0) C (met_X2_next l E A ad (va_up (va_up (va_up (va_up (va_up (va_up F 46 a46) 47 a47) 48 a48) 49 a49) 50 b50) 51 b51) M (show 0 ≤ a46 ∧ a46 ≤ (F 45) from (by omega))) (lw_V q1470 q1472 qs75 q88 q1473) hd_X2_next rfl (by decide) (m_recv C hX) hX hS hl.1 rfl (Nat.le_of_ble_eq_true rfl) dX2_readOn_108 rfl rfl ⟨Nat.le_of_ble_eq_true rfl, Nat.le_of_ble_eq_true rfl⟩ (fun H locs hp hS => ?_)
                obtain ⟨d46, d47, d48, d49, d50, d51, hno2, hyes2, hps2, hX⟩ := hp
                replace hno2 : 0 < b50 → d46 = a46 ∧ d47 = a47 ∧ d48 = a48 ∧ d49 = a49 ∧ d50 = b50 ∧ d51 = b51 := hno2
                replace hyes2 : b50 = 0 → Nxt ((M 44)) ((F 45)) (a46) d46 d47 d48 d49 d50 d51 := hyes2
                replace hps2 : a46 ≤ d46 ∧ d46 ≤ (F 45) := hps2
                have hX : MH E A ad (va_up (va_up (va_up (va_up (va_up (va_up F 46 d46) 47 d47) 48 d48) 49 d49) 50 d50) 51 d51) M H := hX.to ((congrArg (fun z => va_up z 51 d51) ((congrArg (fun z => va_up z 50 d50) ((congrArg (fun z => va_up z 49 d49) ((congrArg (fun z => va_up z 48 d48) ((congrArg (fun z => va_up z 47 d47) (up_in (by decide) (up_in (by decide) (up_in (by decide) (up_in (by decide) (up_in (by decide) (up_up _ _ _ _))))))).trans (up_in (by decide) (up_in (by decide) (up_in (by decide) (up_in (by decide) (up_up _ _ _ _))))))).trans (up_in (by decide) (up_in (by decide) (up_in (by decide) (up_up _ _ _ _)))))).trans (up_in (by decide) (up_in (by decide) (up_up _ _ _ _))))).trans (up_in (by decide) (up_up _ _ _ _)))).trans (up_up _ _ _ _)) rfl
                refine lv_aload_n C.x C.b dX2_readOn_111 rfl (lv_at hl 1 rfl) ?_
                refine mg_48 C hX d48 rfl dX2_readOn_112 (fun r112 => ?_)
                refine r_const C dX2_readOn_115 ?_
                have J124_6 : ∀ (t0 : Int) (ht0 : t0 = bI (d48 = 4)) (H : Heap) (locs : List Loc) (ls : Array Slot) (hX : MH E A ad (va_up (va_up (va_up (va_up (va_up (va_up F 46 d46) 47 d47) 48 d48) 49 d49) 50 d50) 51 d51) M H) (hS : va_S A s.heap H locs) (hl : lv_has ls 4 [(2, .int (zi (oo v2 0))), (0, .ref (ad 63)), (1, .int (zi n)), (3, .int (zi (bI v3)))]), W p l e rm_X2_readOn s m args below meth c H locs 0 0 QQ (F0 m 124 ls [.int (zi t0)]) := by
                  intro t0 ht0 H locs ls hX hS hl
                  subst ht0
                  refine lv_istore_n (lv' := [(3, .int (zi (bI (d48 = 4)))), (2, .int (zi (oo v2 0))), (0, .ref (ad 63)), (1, .int (zi n))]) C.x C.b dX2_readOn_124 rfl hl (by decide) rfl (fun ls hl => ?_)
                  first
                  | (have hP4 : Bx _ := Bx.i <| hP3.o.1.next hno2 hyes2 (fun _ => ea46); clear hno2 hyes2; have h50d : 0 ≤ d50 ∧ d50 ≤ 5 := hX.2.1 50 (0, 5) rfl)
                  | have h50d : 0 ≤ d50 ∧ d50 ≤ 5 := hX.2.1 50 (0, 5) rfl
                  first
                  | have hst : ∀ _ : Unit, ((0 < d50 ∧ C0 = pBad d50 d51) ∨ (d50 = 0 ∧ d48 = 4 ∧ ∃ k : Nat, F 45 - d46 < k ∧ hang (M 44) (F 45) (M 56) n k d46 (oo v2 0) = C0) ∨ (d50 = 0 ∧ ¬ d48 = 4 ∧ ∃ q : Int, C0 = pOk q (oo v2 0) ∧ (0 ≤ q ∧ q ≤ F 45) ∧ Cur (M 44) (F 45) q d46 d47 d48 d49 d50)) := fun _ => Or.inl (by rcases hP2.o.1 with q | q; exact absurd q.1 (by assumption); have z := hno2 q.1; rw [z.2.2.2.2.1, z.2.2.2.2.2]; exact q)
                  | have hst : ∀ _ : Unit, ((0 < d50 ∧ C0 = pBad d50 d51) ∨ (d50 = 0 ∧ d48 = 4 ∧ ∃ k : Nat, F 45 - d46 < k ∧ hang (M 44) (F 45) (M 56) n k d46 (oo v2 0) = C0) ∨ (d50 = 0 ∧ ¬ d48 = 4 ∧ ∃ q : Int, C0 = pOk q (oo v2 0) ∧ (0 ≤ q ∧ q ≤ F 45) ∧ Cur (M 44) (F 45) q d46 d47 d48 d49 d50)) := fun _ => Or.inl (by rcases hP4.o.1 with q | q; exact absurd (hP4.o.2 q.1).1 (by assumption); exact q)
                  | have hst : ∀ _ : Unit, ((0 < d50 ∧ C0 = pBad d50 d51) ∨ (d50 = 0 ∧ d48 = 4 ∧ ∃ k : Nat, F 45 - d46 < k ∧ hang (M 44) (F 45) (M 56) n k d46 (oo v2 (1 * 2 ^ a49.toNat)) = C0) ∨ (d50 = 0 ∧ ¬ d48 = 4 ∧ ∃ q : Int, C0 = pOk q (oo v2 (1 * 2 ^ a49.toNat)) ∧ (0 ≤ q ∧ q ≤ F 45) ∧ Cur (M 44) (F 45) q d46 d47 d48 d49 d50)) := fun _ => by
                      rcases hP4.o.1 with q | q
                      · have cur2 := (hP4.o.2 q.1).2
                        have ev : v2 + 2 ^ (tv (M 44) (F 45) f46).toNat = oo v2 (1 * 2 ^ a49.toNat) := by rw [← ea49]; exact (oo_bit hon.1 hcd.2).symm
                        have q2 := q.2
                        rw [ev] at q2
                        by_cases z : d48 = 4
                        · rw [sel_t (by rw [← cur2.1.2.2.2.1]; exact z)] at q2
                          exact Or.inr (Or.inl ⟨q.1, z, k, by rw [cur2.1.2.2.2.2]; omega, by rw [cur2.1.2.2.2.2]; exact q2.symm⟩)
                        · rw [sel_f (by rw [← cur2.1.2.2.2.1]; exact z)] at q2
                          exact Or.inr (Or.inr ⟨q.1, z, _, q2, ⟨by omega, by omega⟩, cur2⟩)
                      · exact Or.inl q
                  first
                  | have hmst : Int.toNat (sel (d50 = 0) (F 45 - d46 + 1) 0) < fu := by
                      rw [sel_t h500] at hm
                      by_cases e : d50 = 0
                      · have cur2 := (hP4.o.2 e).2.1.2.2.2.2
                        rw [sel_t e, cur2]; omega
                      · rw [sel_f e]; omega
                  | have hmst : Int.toNat (sel (d50 = 0) (F 45 - d46 + 1) 0) < fu := by
                      rw [sel_t h500] at hm
                      have e : ¬ d50 = 0 := by rcases hP2.o.1 with q | q; exact absurd q.1 (by assumption); have z := hno2 q.1; omega
                      rw [sel_f e]; omega
                  refine lv_goto (tgt := 4) C.x C.b dX2_readOn_125 (by decide) ?_
                  exact ih4 (oo v2 0) (d48 = 4) (bI (d48 = 4)) rfl d46 d47 d48 d49 d50 d51 (by first | exact hon2 | (rw [oo_0 hon.1]; exact hon)) (by omega) (by omega) hst hmst H locs ls hX hS (lv_sub hl [2, 3, 1, 0] rfl)
                refine r_icmp_ne (tgt := 123) C (by omega) (by decide) dX2_readOn_116 (by decide) (fun c_7 => ?_) (fun c_7 => ?_)
                · refine r_const C dX2_readOn_123 ?_
                  exact J124_6 0 ((bI_f c_7).symm) H locs ls hX hS hl
                · refine r_const C dX2_readOn_119 ?_
                  refine lv_goto (tgt := 124) C.x C.b dX2_readOn_120 (by decide) ?_
                  exact J124_6 1 ((bI_t c_7).symm) H locs ls hX hS hl
              · exact absurd c_5 c_4
            · have hb0 : b50 = 0 := by omega
              have hcur := (hP1.o.2 (hP2.o.2 hb0).1).2
              have htk2_ := (hP2.o.2 hb0).2
              have ea49 : a49 = (tv (M 44) (F 45) f46) := hcur.2 (Or.inr htk2_)
              have hva := htk.o.2.2.2.1 htk2_
              have ea46 : a46 = (tp (M 44) (F 45) f46) := hcur.1.2.2.2.2
              have hstep := htk.o.2.2.1 (by omega)
              refine lv_aload_n C.x C.b dX2_readOn_44 rfl (lv_at hl 0 rfl) ?_
              refine lv_aload_n C.x C.b dX2_readOn_45 rfl (lv_at hl 0 rfl) ?_
              refine mg_49 C hX a49 rfl dX2_readOn_46 (fun r46 => ?_)
              refine lv_iload_n C.x C.b dX2_readOn_49 rfl (lv_at hl 1 rfl) ?_
              have J83_8 : ∀ (t1 : Int) (ht1 : t1 = bI ((a49 < n) ∧ (((M 56 a49) = (-4)) ∧ (((v2 / 2 ^ a49.toNat) % 2) = 0)))) (H : Heap) (locs : List Loc) (ls : Array Slot) (hX : MH E A ad (va_up (va_up (va_up (va_up (va_up (va_up F 46 a46) 47 a47) 48 a48) 49 a49) 50 b50) 51 b51) M H) (hS : va_S A s.heap H locs) (hl : lv_has ls 4 [(0, .ref (ad 63)), (1, .int (zi n)), (2, .int (zi v2)), (3, .int (zi (bI v3)))]), W p l e rm_X2_readOn s m args below meth c H locs 0 0 QQ (F0 m 83 ls [.int (zi t1), .ref (ad 63)]) := by
                intro t1 ht1 H locs ls hX hS hl
                subst ht1
                refine r_const C dX2_readOn_83 ?_
                refine r_callVv (As := [.int (zi (bI ((a49 < n) ∧ (((M 56 a49) = (-4)) ∧ (((v2 / 2 ^ a49.toNat) % 2) = 0))))), .int (zi 3)]) (rest := []) (cells' := 0) (slots' := 0) C (met_X2_wants l E A ad (va_up (va_up (va_up (va_up (va_up (va_up F 46 a46) 47 a47) 48 a48) 49 a49) 50 b50) 51 b51) M ((a49 < n) ∧ (((M 56 a49) = (-4)) ∧ (((v2 / 2 ^ a49.toNat) % 2) = 0))) 3 (show 0 ≤ 3 ∧ 3 ≤ 5 from (by omega))) (lw_V q1488 q1490 qs79 q88 q1491) hd_X2_wants rfl (by decide) (m_recv C hX) hX hS hl.1 rfl (Nat.le_of_ble_eq_true rfl) dX2_readOn_84 rfl rfl ⟨Nat.le_of_ble_eq_true rfl, Nat.le_of_ble_eq_true rfl⟩ (fun H locs hp hS => ?_)
                obtain ⟨c50, c51, hwc0, hwc1, hX⟩ := hp
                replace hwc0 : c50 = sel (¬ ((a49 < n) ∧ (((M 56 a49) = (-4)) ∧ (((v2 / 2 ^ a49.toNat) % 2) = 0))) ∧ b50 = 0) 3 (b50) := hwc0
                replace hwc1 : c51 = sel (¬ ((a49 < n) ∧ (((M 56 a49) = (-4)) ∧ (((v2 / 2 ^ a49.toNat) % 2) = 0))) ∧ b50 = 0) (a47) (b51) := hwc1
                have hX : MH E A ad (va_up (va_up (va_up (va_up (va_up (va_up F 46 a46) 47 a47) 48 a48) 49 a49) 50 c50) 51 c51) M H := hX.to ((congrArg (fun z => va_up z 51 c51) (up_in (by decide) (up_up _ _ _ _))).trans (up_up _ _ _ _)) rfl
                first
                | (have hP3 : Bx _ := Bx.i <| hP2.o.1.wants (k := 3) (by omega) hwc0 hwc1 (fun z => by rw [← ea49]; constructor <;> (intro q; omega)) (fun z => hcur.1.2.2.1); have h50c : 0 ≤ c50 := by rcases hP3.o.1 with q | q <;> omega)
                | skip
                refine lv_iload_n C.x C.b dX2_readOn_87 rfl (lv_at hl 2 rfl) ?_
                refine lv_aload_n C.x C.b dX2_readOn_88 rfl (lv_at hl 0 rfl) ?_
                refine mg_50 C hX c50 rfl dX2_readOn_89 (fun r89 => ?_)
                refine r_if_ne (tgt := 104) C (by omega) dX2_readOn_92 (by decide) (fun c_9 => ?_) (fun c_9 => ?_)
                · refine r_const C dX2_readOn_104 ?_
                  refine r_ior (v := oo v2 0) C (zi_or (by omega) (by omega)) dX2_readOn_105 ?_
                  refine lv_istore_n (lv' := [(2, .int (zi (oo v2 0))), (0, .ref (ad 63)), (1, .int (zi n)), (3, .int (zi (bI v3)))]) C.x C.b dX2_readOn_106 rfl hl (by decide) rfl (fun ls hl => ?_)
                  first
                  | have hon2 : 0 ≤ oo v2 (1 * 2 ^ a49.toNat) ∧ oo v2 (1 * 2 ^ a49.toNat) < 2 ^ n.toNat := by rw [oo_bit hon.1 hcd.2]; exact bit_lt hon ⟨by omega, hvn⟩ hcd.2
                  | skip
                  refine lv_aload_n C.x C.b dX2_readOn_107 rfl (lv_at hl 1 rfl) ?_
                  refine r_callVv (As := []) (rest := []) (cells' := 0) (slots' := 0) C (met_X2_next l E A ad (va_up (va_up (va_up (va_up (va_up (va_up F 46 a46) 47 a47) 48 a48) 49 a49) 50 c50) 51 c51) M (show 0 ≤ a46 ∧ a46 ≤ (F 45) from (by omega))) (lw_V q1470 q1472 qs75 q88 q1473) hd_X2_next rfl (by decide) (m_recv C hX) hX hS hl.1 rfl (Nat.le_of_ble_eq_true rfl) dX2_readOn_108 rfl rfl ⟨Nat.le_of_ble_eq_true rfl, Nat.le_of_ble_eq_true rfl⟩ (fun H locs hp hS => ?_)
                  obtain ⟨d46, d47, d48, d49, d50, d51, hno2, hyes2, hps2, hX⟩ := hp
                  replace hno2 : 0 < c50 → d46 = a46 ∧ d47 = a47 ∧ d48 = a48 ∧ d49 = a49 ∧ d50 = c50 ∧ d51 = c51 := hno2
                  replace hyes2 : c50 = 0 → Nxt ((M 44)) ((F 45)) (a46) d46 d47 d48 d49 d50 d51 := hyes2
                  replace hps2 : a46 ≤ d46 ∧ d46 ≤ (F 45) := hps2
                  have hX : MH E A ad (va_up (va_up (va_up (va_up (va_up (va_up F 46 d46) 47 d47) 48 d48) 49 d49) 50 d50) 51 d51) M H := hX.to ((congrArg (fun z => va_up z 51 d51) ((congrArg (fun z => va_up z 50 d50) ((congrArg (fun z => va_up z 49 d49) ((congrArg (fun z => va_up z 48 d48) ((congrArg (fun z => va_up z 47 d47) (up_in (by decide) (up_in (by decide) (up_in (by decide) (up_in (by decide) (up_in (by decide) (up_up _ _ _ _))))))).trans (up_in (by decide) (up_in (by decide) (up_in (by decide) (up_in (by decide) (up_up _ _ _ _))))))).trans (up_in (by decide) (up_in (by decide) (up_in (by decide) (up_up _ _ _ _)))))).trans (up_in (by decide) (up_in (by decide) (up_up _ _ _ _))))).trans (up_in (by decide) (up_up _ _ _ _)))).trans (up_up _ _ _ _)) rfl
                  refine lv_aload_n C.x C.b dX2_readOn_111 rfl (lv_at hl 1 rfl) ?_
                  refine mg_48 C hX d48 rfl dX2_readOn_112 (fun r112 => ?_)
                  refine r_const C dX2_readOn_115 ?_
                  have J124_10 : ∀ (t0 : Int) (ht0 : t0 = bI (d48 = 4)) (H : Heap) (locs : List Loc) (ls : Array Slot) (hX : MH E A ad (va_up (va_up (va_up (va_up (va_up (va_up F 46 d46) 47 d47) 48 d48) 49 d49) 50 d50) 51 d51) M H) (hS : va_S A s.heap H locs) (hl : lv_has ls 4 [(2, .int (zi (oo v2 0))), (0, .ref (ad 63)), (1, .int (zi n)), (3, .int (zi (bI v3)))]), W p l e rm_X2_readOn s m args below meth c H locs 0 0 QQ (F0 m 124 ls [.int (zi t0)]) := by
                    intro t0 ht0 H locs ls hX hS hl
                    subst ht0
                    refine lv_istore_n (lv' := [(3, .int (zi (bI (d48 = 4)))), (2, .int (zi (oo v2 0))), (0, .ref (ad 63)), (1, .int (zi n))]) C.x C.b dX2_readOn_124 rfl hl (by decide) rfl (fun ls hl => ?_)
                    first
                    | (have hP4 : Bx _ := Bx.i <| hP3.o.1.next hno2 hyes2 (fun _ => ea46); clear hno2 hyes2; have h50d : 0 ≤ d50 ∧ d50 ≤ 5 := hX.2.1 50 (0, 5) rfl)
                    | have h50d : 0 ≤ d50 ∧ d50 ≤ 5 := hX.2.1 50 (0, 5) rfl
                    first
                    | have hst : ∀ _ : Unit, ((0 < d50 ∧ C0 = pBad d50 d51) ∨ (d50 = 0 ∧ d48 = 4 ∧ ∃ k : Nat, F 45 - d46 < k ∧ hang (M 44) (F 45) (M 56) n k d46 (oo v2 0) = C0) ∨ (d50 = 0 ∧ ¬ d48 = 4 ∧ ∃ q : Int, C0 = pOk q (oo v2 0) ∧ (0 ≤ q ∧ q ≤ F 45) ∧ Cur (M 44) (F 45) q d46 d47 d48 d49 d50)) := fun _ => Or.inl (by rcases hP2.o.1 with q | q; exact absurd q.1 (by assumption); have z := hno2 q.1; rw [z.2.2.2.2.1, z.2.2.2.2.2]; exact q)
                    | have hst : ∀ _ : Unit, ((0 < d50 ∧ C0 = pBad d50 d51) ∨ (d50 = 0 ∧ d48 = 4 ∧ ∃ k : Nat, F 45 - d46 < k ∧ hang (M 44) (F 45) (M 56) n k d46 (oo v2 0) = C0) ∨ (d50 = 0 ∧ ¬ d48 = 4 ∧ ∃ q : Int, C0 = pOk q (oo v2 0) ∧ (0 ≤ q ∧ q ≤ F 45) ∧ Cur (M 44) (F 45) q d46 d47 d48 d49 d50)) := fun _ => Or.inl (by rcases hP4.o.1 with q | q; exact absurd (hP4.o.2 q.1).1 (by assumption); exact q)
                    | have hst : ∀ _ : Unit, ((0 < d50 ∧ C0 = pBad d50 d51) ∨ (d50 = 0 ∧ d48 = 4 ∧ ∃ k : Nat, F 45 - d46 < k ∧ hang (M 44) (F 45) (M 56) n k d46 (oo v2 (1 * 2 ^ a49.toNat)) = C0) ∨ (d50 = 0 ∧ ¬ d48 = 4 ∧ ∃ q : Int, C0 = pOk q (oo v2 (1 * 2 ^ a49.toNat)) ∧ (0 ≤ q ∧ q ≤ F 45) ∧ Cur (M 44) (F 45) q d46 d47 d48 d49 d50)) := fun _ => by
                        rcases hP4.o.1 with q | q
                        · have cur2 := (hP4.o.2 q.1).2
                          have ev : v2 + 2 ^ (tv (M 44) (F 45) f46).toNat = oo v2 (1 * 2 ^ a49.toNat) := by rw [← ea49]; exact (oo_bit hon.1 hcd.2).symm
                          have q2 := q.2
                          rw [ev] at q2
                          by_cases z : d48 = 4
                          · rw [sel_t (by rw [← cur2.1.2.2.2.1]; exact z)] at q2
                            exact Or.inr (Or.inl ⟨q.1, z, k, by rw [cur2.1.2.2.2.2]; omega, by rw [cur2.1.2.2.2.2]; exact q2.symm⟩)
                          · rw [sel_f (by rw [← cur2.1.2.2.2.1]; exact z)] at q2
                            exact Or.inr (Or.inr ⟨q.1, z, _, q2, ⟨by omega, by omega⟩, cur2⟩)
                        · exact Or.inl q
                    first
                    | have hmst : Int.toNat (sel (d50 = 0) (F 45 - d46 + 1) 0) < fu := by
                        rw [sel_t h500] at hm
                        by_cases e : d50 = 0
                        · have cur2 := (hP4.o.2 e).2.1.2.2.2.2
                          rw [sel_t e, cur2]; omega
                        · rw [sel_f e]; omega
                    | have hmst : Int.toNat (sel (d50 = 0) (F 45 - d46 + 1) 0) < fu := by
                        rw [sel_t h500] at hm
                        have e : ¬ d50 = 0 := by rcases hP2.o.1 with q | q; exact absurd q.1 (by assumption); have z := hno2 q.1; omega
                        rw [sel_f e]; omega
                    refine lv_goto (tgt := 4) C.x C.b dX2_readOn_125 (by decide) ?_
                    exact ih4 (oo v2 0) (d48 = 4) (bI (d48 = 4)) rfl d46 d47 d48 d49 d50 d51 (by first | exact hon2 | (rw [oo_0 hon.1]; exact hon)) (by omega) (by omega) hst hmst H locs ls hX hS (lv_sub hl [2, 3, 1, 0] rfl)
                  refine r_icmp_ne (tgt := 123) C (by omega) (by decide) dX2_readOn_116 (by decide) (fun c_11 => ?_) (fun c_11 => ?_)
                  · refine r_const C dX2_readOn_123 ?_
                    exact J124_10 0 ((bI_f c_11).symm) H locs ls hX hS hl
                  · refine r_const C dX2_readOn_119 ?_
                    refine lv_goto (tgt := 124) C.x C.b dX2_readOn_120 (by decide) ?_
                    exact J124_10 1 ((bI_t c_11).symm) H locs ls hX hS hl
                · have hc0 : c50 = 0 := by omega
                  have hcd := (hP3.o.2 hc0).2
                  rw [← ea49] at hcd
                  have hvn := hcd.1.1
                  have hpv := p2_20 (k := a49) (by omega)
                  refine r_const C dX2_readOn_95 ?_
                  refine lv_aload_n C.x C.b dX2_readOn_96 rfl (lv_at hl 0 rfl) ?_
                  refine mg_49 C hX a49 rfl dX2_readOn_97 (fun _ => ?_)
                  refine r_ishl C (by omega) (by omega) rfl dX2_readOn_100 ?_
                  refine lv_goto (tgt := 105) C.x C.b dX2_readOn_101 (by decide) ?_
                  refine r_ior (v := oo v2 (1 * 2 ^ a49.toNat)) C (zi_or (by omega) (by omega)) dX2_readOn_105 ?_
                  refine lv_istore_n (lv' := [(2, .int (zi (oo v2 (1 * 2 ^ a49.toNat)))), (0, .ref (ad 63)), (1, .int (zi n)), (3, .int (zi (bI v3)))]) C.x C.b dX2_readOn_106 rfl hl (by decide) rfl (fun ls hl => ?_)
                  first
                  | have hon2 : 0 ≤ oo v2 (1 * 2 ^ a49.toNat) ∧ oo v2 (1 * 2 ^ a49.toNat) < 2 ^ n.toNat := by rw [oo_bit hon.1 hcd.2]; exact bit_lt hon ⟨by omega, hvn⟩ hcd.2
                  | skip
                  refine lv_aload_n C.x C.b dX2_readOn_107 rfl (lv_at hl 1 rfl) ?_
                  refine r_callVv (As := []) (rest := []) (cells' := 0) (slots' := 0) C (met_X2_next l E A ad (va_up (va_up (va_up (va_up (va_up (va_up F 46 a46) 47 a47) 48 a48) 49 a49) 50 c50) 51 c51) M (show 0 ≤ a46 ∧ a46 ≤ (F 45) from (by omega))) (lw_V q1470 q1472 qs75 q88 q1473) hd_X2_next rfl (by decide) (m_recv C hX) hX hS hl.1 rfl (Nat.le_of_ble_eq_true rfl) dX2_readOn_108 rfl rfl ⟨Nat.le_of_ble_eq_true rfl, Nat.le_of_ble_eq_true rfl⟩ (fun H locs hp hS => ?_)
                  obtain ⟨d46, d47, d48, d49, d50, d51, hno2, hyes2, hps2, hX⟩ := hp
                  replace hno2 : 0 < c50 → d46 = a46 ∧ d47 = a47 ∧ d48 = a48 ∧ d49 = a49 ∧ d50 = c50 ∧ d51 = c51 := hno2
                  replace hyes2 : c50 = 0 → Nxt ((M 44)) ((F 45)) (a46) d46 d47 d48 d49 d50 d51 := hyes2
                  replace hps2 : a46 ≤ d46 ∧ d46 ≤ (F 45) := hps2
                  have hX : MH E A ad (va_up (va_up (va_up (va_up (va_up (va_up F 46 d46) 47 d47) 48 d48) 49 d49) 50 d50) 51 d51) M H := hX.to ((congrArg (fun z => va_up z 51 d51) ((congrArg (fun z => va_up z 50 d50) ((congrArg (fun z => va_up z 49 d49) ((congrArg (fun z => va_up z 48 d48) ((congrArg (fun z => va_up z 47 d47) (up_in (by decide) (up_in (by decide) (up_in (by decide) (up_in (by decide) (up_in (by decide) (up_up _ _ _ _))))))).trans (up_in (by decide) (up_in (by decide) (up_in (by decide) (up_in (by decide) (up_up _ _ _ _))))))).trans (up_in (by decide) (up_in (by decide) (up_in (by decide) (up_up _ _ _ _)))))).trans (up_in (by decide) (up_in (by decide) (up_up _ _ _ _))))).trans (up_in (by decide) (up_up _ _ _ _)))).trans (up_up _ _ _ _)) rfl
                  refine lv_aload_n C.x C.b dX2_readOn_111 rfl (lv_at hl 1 rfl) ?_
                  refine mg_48 C hX d48 rfl dX2_readOn_112 (fun r112 => ?_)
                  refine r_const C dX2_readOn_115 ?_
                  have J124_12 : ∀ (t0 : Int) (ht0 : t0 = bI (d48 = 4)) (H : Heap) (locs : List Loc) (ls : Array Slot) (hX : MH E A ad (va_up (va_up (va_up (va_up (va_up (va_up F 46 d46) 47 d47) 48 d48) 49 d49) 50 d50) 51 d51) M H) (hS : va_S A s.heap H locs) (hl : lv_has ls 4 [(2, .int (zi (oo v2 (1 * 2 ^ a49.toNat)))), (0, .ref (ad 63)), (1, .int (zi n)), (3, .int (zi (bI v3)))]), W p l e rm_X2_readOn s m args below meth c H locs 0 0 QQ (F0 m 124 ls [.int (zi t0)]) := by
                    intro t0 ht0 H locs ls hX hS hl
                    subst ht0
                    refine lv_istore_n (lv' := [(3, .int (zi (bI (d48 = 4)))), (2, .int (zi (oo v2 (1 * 2 ^ a49.toNat)))), (0, .ref (ad 63)), (1, .int (zi n))]) C.x C.b dX2_readOn_124 rfl hl (by decide) rfl (fun ls hl => ?_)
                    first
                    | (have hP4 : Bx _ := Bx.i <| hP3.o.1.next hno2 hyes2 (fun _ => ea46); clear hno2 hyes2; have h50d : 0 ≤ d50 ∧ d50 ≤ 5 := hX.2.1 50 (0, 5) rfl)
                    | have h50d : 0 ≤ d50 ∧ d50 ≤ 5 := hX.2.1 50 (0, 5) rfl
                    first
                    | have hst : ∀ _ : Unit, ((0 < d50 ∧ C0 = pBad d50 d51) ∨ (d50 = 0 ∧ d48 = 4 ∧ ∃ k : Nat, F 45 - d46 < k ∧ hang (M 44) (F 45) (M 56) n k d46 (oo v2 0) = C0) ∨ (d50 = 0 ∧ ¬ d48 = 4 ∧ ∃ q : Int, C0 = pOk q (oo v2 0) ∧ (0 ≤ q ∧ q ≤ F 45) ∧ Cur (M 44) (F 45) q d46 d47 d48 d49 d50)) := fun _ => Or.inl (by rcases hP2.o.1 with q | q; exact absurd q.1 (by assumption); have z := hno2 q.1; rw [z.2.2.2.2.1, z.2.2.2.2.2]; exact q)
                    | have hst : ∀ _ : Unit, ((0 < d50 ∧ C0 = pBad d50 d51) ∨ (d50 = 0 ∧ d48 = 4 ∧ ∃ k : Nat, F 45 - d46 < k ∧ hang (M 44) (F 45) (M 56) n k d46 (oo v2 0) = C0) ∨ (d50 = 0 ∧ ¬ d48 = 4 ∧ ∃ q : Int, C0 = pOk q (oo v2 0) ∧ (0 ≤ q ∧ q ≤ F 45) ∧ Cur (M 44) (F 45) q d46 d47 d48 d49 d50)) := fun _ => Or.inl (by rcases hP4.o.1 with q | q; exact absurd (hP4.o.2 q.1).1 (by assumption); exact q)
                    | have hst : ∀ _ : Unit, ((0 < d50 ∧ C0 = pBad d50 d51) ∨ (d50 = 0 ∧ d48 = 4 ∧ ∃ k : Nat, F 45 - d46 < k ∧ hang (M 44) (F 45) (M 56) n k d46 (oo v2 (1 * 2 ^ a49.toNat)) = C0) ∨ (d50 = 0 ∧ ¬ d48 = 4 ∧ ∃ q : Int, C0 = pOk q (oo v2 (1 * 2 ^ a49.toNat)) ∧ (0 ≤ q ∧ q ≤ F 45) ∧ Cur (M 44) (F 45) q d46 d47 d48 d49 d50)) := fun _ => by
                        rcases hP4.o.1 with q | q
                        · have cur2 := (hP4.o.2 q.1).2
                          have ev : v2 + 2 ^ (tv (M 44) (F 45) f46).toNat = oo v2 (1 * 2 ^ a49.toNat) := by rw [← ea49]; exact (oo_bit hon.1 hcd.2).symm
                          have q2 := q.2
                          rw [ev] at q2
                          by_cases z : d48 = 4
                          · rw [sel_t (by rw [← cur2.1.2.2.2.1]; exact z)] at q2
                            exact Or.inr (Or.inl ⟨q.1, z, k, by rw [cur2.1.2.2.2.2]; omega, by rw [cur2.1.2.2.2.2]; exact q2.symm⟩)
                          · rw [sel_f (by rw [← cur2.1.2.2.2.1]; exact z)] at q2
                            exact Or.inr (Or.inr ⟨q.1, z, _, q2, ⟨by omega, by omega⟩, cur2⟩)
                        · exact Or.inl q
                    first
                    | have hmst : Int.toNat (sel (d50 = 0) (F 45 - d46 + 1) 0) < fu := by
                        rw [sel_t h500] at hm
                        by_cases e : d50 = 0
                        · have cur2 := (hP4.o.2 e).2.1.2.2.2.2
                          rw [sel_t e, cur2]; omega
                        · rw [sel_f e]; omega
                    | have hmst : Int.toNat (sel (d50 = 0) (F 45 - d46 + 1) 0) < fu := by
                        rw [sel_t h500] at hm
                        have e : ¬ d50 = 0 := by rcases hP2.o.1 with q | q; exact absurd q.1 (by assumption); have z := hno2 q.1; omega
                        rw [sel_f e]; omega
                    refine lv_goto (tgt := 4) C.x C.b dX2_readOn_125 (by decide) ?_
                    exact ih4 (oo v2 (1 * 2 ^ a49.toNat)) (d48 = 4) (bI (d48 = 4)) rfl d46 d47 d48 d49 d50 d51 (by first | exact hon2 | (rw [oo_0 hon.1]; exact hon)) (by omega) (by omega) hst hmst H locs ls hX hS (lv_sub hl [2, 3, 1, 0] rfl)
                  refine r_icmp_ne (tgt := 123) C (by omega) (by decide) dX2_readOn_116 (by decide) (fun c_13 => ?_) (fun c_13 => ?_)
                  · refine r_const C dX2_readOn_123 ?_
                    exact J124_12 0 ((bI_f c_13).symm) H locs ls hX hS hl
                  · refine r_const C dX2_readOn_119 ?_
                    refine lv_goto (tgt := 124) C.x C.b dX2_readOn_120 (by decide) ?_
                    exact J124_12 1 ((bI_t c_13).symm) H locs ls hX hS hl
              refine r_icmp_ge (tgt := 82) C (by omega) (by omega) dX2_readOn_50 (by decide) (fun c_14 => ?_) (fun c_14 => ?_)
              · refine r_const C dX2_readOn_82 ?_
                exact J83_8 0 ((bI_f (fun q => c_14 q.1)).symm) H locs ls hX hS hl
              · refine lv_aload_n C.x C.b dX2_readOn_53 rfl (lv_at hl 0 rfl) ?_
                refine mg_56 C hX dX2_readOn_54 ?_
                refine lv_aload_n C.x C.b dX2_readOn_57 rfl (lv_at hl 0 rfl) ?_
                refine mg_49 C hX a49 rfl dX2_readOn_58 (fun _ => ?_)
                refine ml_56 C hX (by omega) (M 56) rfl dX2_readOn_61 (fun r61 => ?_)
                refine r_bipush C (by decide) dX2_readOn_62 ?_
                refine r_icmp_ne (tgt := 82) C (by omega) (by decide) dX2_readOn_64 (by decide) (fun c_15 => ?_) (fun c_15 => ?_)
                · refine r_const C dX2_readOn_82 ?_
                  exact J83_8 0 ((bI_f (fun q => (fun q => c_15 q.1) q.2)).symm) H locs ls hX hS hl
                · refine lv_iload_n C.x C.b dX2_readOn_67 rfl (lv_at hl 2 rfl) ?_
                  refine lv_aload_n C.x C.b dX2_readOn_68 rfl (lv_at hl 0 rfl) ?_
                  refine mg_49 C hX a49 rfl dX2_readOn_69 (fun _ => ?_)
                  refine r_ishr C (by omega) (by omega) rfl dX2_readOn_72 ?_
                  refine r_const C dX2_readOn_73 ?_
                  refine r_iand C (zi_and1 _) dX2_readOn_74 ?_
                  refine r_if_ne (tgt := 82) C (by omega) dX2_readOn_75 (by decide) (fun c_16 => ?_) (fun c_16 => ?_)
                  · refine r_const C dX2_readOn_82 ?_
                    exact J83_8 0 ((bI_f (fun q => (fun q => c_16 q.2) q.2)).symm) H locs ls hX hS hl
                  · refine r_const C dX2_readOn_78 ?_
                    refine lv_goto (tgt := 83) C.x C.b dX2_readOn_79 (by decide) ?_
                    exact J83_8 1 ((bI_t ⟨c_14, ⟨c_15, c_16⟩⟩).symm) H locs ls hX hS hl
          refine r_icmp_ne (tgt := 32) C (by omega) (by decide) dX2_readOn_25 (by decide) (fun c_17 => ?_) (fun c_17 => ?_)
          · refine r_const C dX2_readOn_32 ?_
            exact J33_3 0 ((bI_f c_17).symm) H locs ls hX hS hl
          · refine r_const C dX2_readOn_28 ?_
            refine lv_goto (tgt := 33) C.x C.b dX2_readOn_29 (by decide) ?_
            exact J33_3 1 ((bI_t c_17).symm) H locs ls hX hS hl
  exact L4 _ 0 True 1 bI_T.symm (F 46) (F 47) (F 48) (F 49) (F 50) (F 51) (by omega) (by omega) (by omega) (fun _ => Or.inr (Or.inl ⟨h0, trivial, 200, by omega, hC0.symm⟩)) (Nat.lt_succ_self _) H locs ls (hX.to (((((((up_id F (k := 46) (a := (F 46)) rfl).symm.trans rfl).trans ((up_id (va_up F 46 (F 46)) (k := 47) (a := (F 47)) rfl).symm.trans rfl)).trans ((up_id (va_up (va_up F 46 (F 46)) 47 (F 47)) (k := 48) (a := (F 48)) rfl).symm.trans rfl)).trans ((up_id (va_up (va_up (va_up F 46 (F 46)) 47 (F 47)) 48 (F 48)) (k := 49) (a := (F 49)) rfl).symm.trans rfl)).trans ((up_id (va_up (va_up (va_up (va_up F 46 (F 46)) 47 (F 47)) 48 (F 48)) 49 (F 49)) (k := 50) (a := (F 50)) rfl).symm.trans rfl)).trans ((up_id (va_up (va_up (va_up (va_up (va_up F 46 (F 46)) 47 (F 47)) 48 (F 48)) 49 (F 49)) 50 (F 50)) (k := 51) (a := (F 51)) rfl).symm.trans rfl)) rfl) hS (lv_sub hl [2, 3, 1, 0] rfl)
