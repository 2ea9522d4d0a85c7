set_option maxRecDepth 100000

theorem hd_X2_readClaim : yX2_readClaim.cls = RX2 ∧ yX2_readClaim.cls ≠ "java/lang/invoke/MethodHandle" ∧ yX2_readClaim.cls ≠ "java/lang/invoke/VarHandle" ∧ (parseMethodDescriptor yX2_readClaim.desc).map (fun d => d.parameters.length) = some 1 := by decide +kernel
abbrev rm_X2_readClaim : Room := { frames := 5, cells := 0, slots := 0, locals := 111 }
set_option maxHeartbeats 8000000 in
theorem met_X2_readClaim (l : Launch) (E : us_E) (A : Nat → Prop) (ad : Nat → Nat) (F : Nat → Int) (M : Nat → Int → Int) (q : Int) (n : Int) (hn : 0 ≤ n ∧ n ≤ 20) (hp : 0 ≤ F 46 ∧ F 46 ≤ F 45) (h0 : F 50 = 0) (hq : 0 ≤ q ∧ q ≤ F 45) (hcur : Cur (M 44) (F 45) q (F 46) (F 47) (F 48) (F 49) (F 50)) : cMet l yX2_readClaim cX2_readClaim 5 (some .int) rm_X2_readClaim A E [.ref (ad 63), .int (zi n)] (fun H => MH E A ad F M H) (qi A (fun r H => ∃ f46 : Int, ∃ f47 : Int, ∃ f48 : Int, ∃ f49 : Int, ∃ f50 : Int, ∃ f51 : Int, ∃ m53 : Int → Int, ∃ m54 : Int → Int, ∃ m55 : Int → Int, ∃ m56 : Int → Int, ∃ m57 : Int → Int, (F 46 ≤ f46 ∧ f46 ≤ F 45) ∧ ((0 < f50 ∧ rclaim (M 44) (F 45) (M 53) (M 54) (M 56) n q = pBad f50 f51 ∧ r = n ∧ (m53 = M 53 ∧ m54 = M 54 ∧ m55 = M 55 ∧ m56 = M 56 ∧ m57 = M 57)) ∨ (f50 = 0 ∧ (F 46 < f46 ∧ n < 20) ∧ ∃ xq onq : Int, rclaim (M 44) (F 45) (M 53) (M 54) (M 56) n q = pOk xq onq ∧ (0 ≤ xq ∧ xq ≤ F 45) ∧ Cur (M 44) (F 45) xq f46 f47 f48 f49 f50 ∧ r = n + 1 ∧ m53 = fup (M 53) n (tv (M 44) (F 45) q) ∧ m54 = fup (M 54) n (tv (M 44) (F 45) (tp (M 44) (F 45) q)) ∧ m55 = fup (M 55) n (F 58) ∧ m56 = fup (M 56) n (-4) ∧ m57 = fup (M 57) n onq)) ∧ MH E A ad (va_up (va_up (va_up (va_up (va_up (va_up F 46 f46) 47 f47) 48 f48) 49 f49) 50 f50) 51 f51) (va_up (va_up (va_up (va_up (va_up M 53 m53) 54 m54) 55 m55) 56 m56) 57 m57) H)) := by
  refine cMet.of (by decide) (Nat.le_of_ble_eq_true rfl) (fun p e s m args below meth c C hnm hX hS ls hl => ?_)
  have C : Cx p s m args meth c A RX2 cX2_readClaim 5 (some .int) E := C
  have hX : MH E A ad F M s.heap := hX
  have hl : lv_has ls 5 [(0, .ref (ad 63)), (1, .int (zi n))] := hl
  generalize hH : s.heap = H at hX
  have hS : va_S A s.heap H [] := by rw [← hH]; exact hS
  generalize hlocs : ([] : List Loc) = locs at hS ⊢
  obtain ⟨QQ, hQQ⟩ : ∃ z, MQ below (qi A (fun r H => ∃ f46 : Int, ∃ f47 : Int, ∃ f48 : Int, ∃ f49 : Int, ∃ f50 : Int, ∃ f51 : Int, ∃ m53 : Int → Int, ∃ m54 : Int → Int, ∃ m55 : Int → Int, ∃ m56 : Int → Int, ∃ m57 : Int → Int, (F 46 ≤ f46 ∧ f46 ≤ F 45) ∧ ((0 < f50 ∧ rclaim (M 44) (F 45) (M 53) (M 54) (M 56) n q = pBad f50 f51 ∧ r = n ∧ (m53 = M 53 ∧ m54 = M 54 ∧ m55 = M 55 ∧ m56 = M 56 ∧ m57 = M 57)) ∨ (f50 = 0 ∧ (F 46 < f46 ∧ n < 20) ∧ ∃ xq onq : Int, rclaim (M 44) (F 45) (M 53) (M 54) (M 56) n q = pOk xq onq ∧ (0 ≤ xq ∧ xq ≤ F 45) ∧ Cur (M 44) (F 45) xq f46 f47 f48 f49 f50 ∧ r = n + 1 ∧ m53 = fup (M 53) n (tv (M 44) (F 45) q) ∧ m54 = fup (M 54) n (tv (M 44) (F 45) (tp (M 44) (F 45) q)) ∧ m55 = fup (M 55) n (F 58) ∧ m56 = fup (M 56) n (-4) ∧ m57 = fup (M 57) n onq)) ∧ MH E A ad (va_up (va_up (va_up (va_up (va_up (va_up F 46 f46) 47 f47) 48 f48) 49 f49) 50 f50) 51 f51) (va_up (va_up (va_up (va_up (va_up M 53 m53) 54 m54) 55 m55) 56 m56) 57 m57) H)) args s (rm_X2_readClaim).cells (rm_X2_readClaim).slots A = z := ⟨_, rfl⟩
  rw [hQQ]
  have rF45 : 0 ≤ F 45 ∧ F 45 ≤ 160 := hX.2.1 45 (0, 160) rfl
  have rF46 : 0 ≤ F 46 ∧ F 46 ≤ 160 := hX.2.1 46 (0, 160) rfl
  have rF47 : 0 ≤ F 47 ∧ F 47 ≤ 160 := hX.2.1 47 (0, 160) rfl
  have rF48 : 0 ≤ F 48 ∧ F 48 ≤ 4 := hX.2.1 48 (0, 4) rfl
  have rF49 : -4 ≤ F 49 ∧ F 49 ≤ 99 := hX.2.1 49 (-4, 99) rfl
  have rF50 : 0 ≤ F 50 ∧ F 50 ≤ 5 := hX.2.1 50 (0, 5) rfl
  have rF51 : 0 ≤ F 51 ∧ F 51 ≤ 160 := hX.2.1 51 (0, 160) rfl
  have rF58 : 0 ≤ F 58 ∧ F 58 ≤ 99 := hX.2.1 58 (0, 99) rfl
  have ht44 : ∀ j, 0 ≤ M 44 j ∧ M 44 j ≤ 255 := fun j => hX.2.2 44 (0, 255) rfl j
  obtain ⟨C0, hC0⟩ : ∃ C0, C0 = rclaim (M 44) (F 45) (M 53) (M 54) (M 56) n q := ⟨_, rfl⟩
  have hP0 : PG C0 (rclaim (M 44) (F 45) (M 53) (M 54) (M 56) n q) (F 50) (F 51) := Or.inl ⟨h0, hC0⟩
  unfold rclaim at hP0
  have k48 := hcur.1.2.2.2.1
  have k49 : Bx _ := Bx.i hcur.2
  have k46 := hcur.1.2.2.2.2
  have k47 := hcur.1.2.2.1
  have hte := hcur.1.1
  have hpn := p2_20 hn
  have tqb := tok_b (n := F 45) (p := q) ht44 hq
  have tq : Bx _ := Bx.i (tok_r (n := F 45) (p := q) ht44 hq)
  have tq1b := tok_b (n := F 45) (p := (tp (M 44) (F 45) q)) ht44 ⟨by omega, by omega⟩
  have tq1 : Bx _ := Bx.i (tok_r (n := F 45) (p := (tp (M 44) (F 45) q)) ht44 ⟨by omega, by omega⟩)
  have tq2b := tok_b (n := F 45) (p := (tp (M 44) (F 45) (tp (M 44) (F 45) q))) ht44 ⟨by omega, by omega⟩
  refine lv_aload_n C.x C.b dX2_readClaim_0 rfl (lv_at hl 0 rfl) ?_
  refine lv_aload_n C.x C.b dX2_readClaim_1 rfl (lv_at hl 0 rfl) ?_
  refine mg_48 C hX (F 48) rfl dX2_readClaim_2 (fun _ => ?_)
  refine r_const C dX2_readClaim_5 ?_
  have J22_1 : ∀ (t1 : Int) (ht1 : t1 = bI (((F 48) = 1) ∧ ((F 49) < 5))) (H : Heap) (locs : List Loc) (ls : Array Slot) (hX : MH E A ad F M H) (hS : va_S A s.heap H locs) (hl : lv_has ls 5 [(0, .ref (ad 63)), (1, .int (zi n))]), W p l e rm_X2_readClaim s m args below meth c H locs 0 0 QQ (F0 m 22 ls [.int (zi t1), .ref (ad 63)]) := by
    intro t1 ht1 H locs ls hX hS hl
    subst ht1
    refine r_const C dX2_readClaim_22 ?_
    refine r_callVv (As := [.int (zi (bI (((F 48) = 1) ∧ ((F 49) < 5)))), .int (zi 2)]) (rest := []) (cells' := 0) (slots' := 0) C (met_X2_wants l E A ad F M (((F 48) = 1) ∧ ((F 49) < 5)) 2 (show 0 ≤ (2 : Int) ∧ (2 : Int) ≤ 5 from (by omega))) (lw_V q1488 q1490 qs79 q88 q1491) hd_X2_wants rfl (by decide) (m_recv C hX) hX hS hl.1 rfl (Nat.le_of_ble_eq_true rfl) dX2_readClaim_23 rfl rfl ⟨Nat.le_of_ble_eq_true rfl, Nat.le_of_ble_eq_true rfl⟩ (fun H locs hp hS => ?_)
    obtain ⟨b50, b51, hwb0, hwb1, hX⟩ := hp
    replace hwb0 : b50 = sel (¬ (((F 48) = 1) ∧ ((F 49) < 5)) ∧ (F 50) = 0) (2 : Int) ((F 50)) := hwb0
    replace hwb1 : b51 = sel (¬ (((F 48) = 1) ∧ ((F 49) < 5)) ∧ (F 50) = 0) ((F 47)) ((F 51)) := hwb1
    have hX : MH E A ad (va_up (va_up F 50 b50) 51 b51) M H := hX.to ((congrArg (fun z => va_up z 51 b51) rfl).trans rfl) rfl
    have hP1 : Bx _ := Bx.i <| hP0.wants (by omega) hwb0 hwb1 (fun _ => by have k49 := k49.o; constructor <;> (intro z; omega)) (fun _ => k47)
    refine lv_aload_n C.x C.b dX2_readClaim_26 rfl (lv_at hl 0 rfl) ?_
    refine lv_iload_n C.x C.b dX2_readClaim_27 rfl (lv_at hl 1 rfl) ?_
    refine r_bipush C (by decide) dX2_readClaim_28 ?_
    have J38_2 : ∀ (t1 : Int) (ht1 : t1 = bI (n < 20)) (H : Heap) (locs : List Loc) (ls : Array Slot) (hX : MH E A ad (va_up (va_up F 50 b50) 51 b51) M H) (hS : va_S A s.heap H locs) (hl : lv_has ls 5 [(0, .ref (ad 63)), (1, .int (zi n))]), W p l e rm_X2_readClaim s m args below meth c H locs 0 0 QQ (F0 m 38 ls [.int (zi t1), .ref (ad 63)]) := by
      intro t1 ht1 H locs ls hX hS hl
      subst ht1
      refine r_const C dX2_readClaim_38 ?_
      refine r_callVv (As := [.int (zi (bI (n < 20))), .int (zi 5)]) (rest := []) (cells' := 0) (slots' := 0) C (met_X2_wants l E A ad (va_up (va_up F 50 b50) 51 b51) M (n < 20) 5 (show 0 ≤ (5 : Int) ∧ (5 : Int) ≤ 5 from (by omega))) (lw_V q1488 q1490 qs79 q88 q1491) hd_X2_wants rfl (by decide) (m_recv C hX) hX hS hl.1 rfl (Nat.le_of_ble_eq_true rfl) dX2_readClaim_39 rfl rfl ⟨Nat.le_of_ble_eq_true rfl, Nat.le_of_ble_eq_true rfl⟩ (fun H locs hp hS => ?_)
      obtain ⟨c50, c51, hwc0, hwc1, hX⟩ := hp
      replace hwc0 : c50 = sel (¬ (n < 20) ∧ b50 = 0) (5 : Int) (b50) := hwc0
      replace hwc1 : c51 = sel (¬ (n < 20) ∧ b50 = 0) ((F 47)) (b51) := hwc1
      have hX : MH E A ad (va_up (va_up F 50 c50) 51 c51) M H := hX.to ((congrArg (fun z => va_up z 51 c51) (up_in (by decide) (up_up _ _ _ _))).trans (up_up _ _ _ _)) rfl
      have hP2 : Bx _ := Bx.i <| hP1.o.1.wants (by omega) hwc0 hwc1 (fun _ => Iff.rfl) (fun _ => k47)
      refine lv_aload_n C.x C.b dX2_readClaim_42 rfl (lv_at hl 0 rfl) ?_
      refine mg_49 C hX (F 49) rfl dX2_readClaim_43 (fun _ => ?_)
      refine lv_istore_n (lv' := [(2, .int (zi (F 49))), (0, .ref (ad 63)), (1, .int (zi n))]) C.x C.b dX2_readClaim_46 rfl hl (by decide) rfl (fun ls hl => ?_)
      refine lv_aload_n C.x C.b dX2_readClaim_47 rfl (lv_at hl 1 rfl) ?_
      refine r_callVv (As := []) (rest := []) (cells' := 0) (slots' := 0) C (met_X2_next l E A ad (va_up (va_up F 50 c50) 51 c51) M (show 0 ≤ (F 46) ∧ (F 46) ≤ (F 45) from (by omega))) (lw_V q1470 q1472 qs75 q88 q1473) hd_X2_next rfl (by decide) (m_recv C hX) hX hS hl.1 rfl (Nat.le_of_ble_eq_true rfl) dX2_readClaim_48 rfl rfl ⟨Nat.le_of_ble_eq_true rfl, Nat.le_of_ble_eq_true rfl⟩ (fun H locs hp hS => ?_)
      obtain ⟨d46, d47, d48, d49, d50, d51, hno1, hyes1, hps1, hX⟩ := hp
      replace hno1 : 0 < c50 → d46 = (F 46) ∧ d47 = (F 47) ∧ d48 = (F 48) ∧ d49 = (F 49) ∧ d50 = c50 ∧ d51 = c51 := hno1
      replace hyes1 : c50 = 0 → Nxt ((M 44)) ((F 45)) ((F 46)) d46 d47 d48 d49 d50 d51 := hyes1
      replace hps1 : (F 46) ≤ d46 ∧ d46 ≤ (F 45) := hps1
      have hX : MH E A ad (va_up (va_up (va_up (va_up (va_up (va_up F 46 d46) 47 d47) 48 d48) 49 d49) 50 d50) 51 d51) M H := hX.to ((congrArg (fun z => va_up z 51 d51) ((congrArg (fun z => va_up z 50 d50) ((congrArg (fun z => va_up z 49 d49) ((congrArg (fun z => va_up z 48 d48) ((congrArg (fun z => va_up z 47 d47) (up_in (by decide) (up_in (by decide) rfl))).trans (up_in (by decide) (up_in (by decide) rfl)))).trans (up_in (by decide) (up_in (by decide) rfl)))).trans (up_in (by decide) (up_in (by decide) rfl)))).trans (up_in (by decide) (up_up _ _ _ _)))).trans (up_up _ _ _ _)) rfl
      have hP3 : Bx _ := Bx.i <| hP2.o.1.next hno1 hyes1 (fun _ => k46)
      clear hno1 hyes1
      refine lv_aload_n C.x C.b dX2_readClaim_51 rfl (lv_at hl 1 rfl) ?_
      refine lv_aload_n C.x C.b dX2_readClaim_52 rfl (lv_at hl 1 rfl) ?_
      refine mg_48 C hX d48 rfl dX2_readClaim_53 (fun r53 => ?_)
      refine r_const C dX2_readClaim_56 ?_
      have J65_3 : ∀ (t1 : Int) (ht1 : t1 = bI (d48 = 2)) (H : Heap) (locs : List Loc) (ls : Array Slot) (hX : MH E A ad (va_up (va_up (va_up (va_up (va_up (va_up F 46 d46) 47 d47) 48 d48) 49 d49) 50 d50) 51 d51) M H) (hS : va_S A s.heap H locs) (hl : lv_has ls 5 [(2, .int (zi (F 49))), (0, .ref (ad 63)), (1, .int (zi n))]), W p l e rm_X2_readClaim s m args below meth c H locs 0 0 QQ (F0 m 65 ls [.int (zi t1), .ref (ad 63)]) := by
        intro t1 ht1 H locs ls hX hS hl
        subst ht1
        refine r_const C dX2_readClaim_65 ?_
        refine r_callVv (As := [.int (zi (bI (d48 = 2))), .int (zi 2)]) (rest := []) (cells' := 0) (slots' := 0) C (met_X2_wants l E A ad (va_up (va_up (va_up (va_up (va_up (va_up F 46 d46) 47 d47) 48 d48) 49 d49) 50 d50) 51 d51) M (d48 = 2) 2 (show 0 ≤ (2 : Int) ∧ (2 : Int) ≤ 5 from (by omega))) (lw_V q1488 q1490 qs79 q88 q1491) hd_X2_wants rfl (by decide) (m_recv C hX) hX hS hl.1 rfl (Nat.le_of_ble_eq_true rfl) dX2_readClaim_66 rfl rfl ⟨Nat.le_of_ble_eq_true rfl, Nat.le_of_ble_eq_true rfl⟩ (fun H locs hp hS => ?_)
        obtain ⟨e50, e51, hwe0, hwe1, hX⟩ := hp
        replace hwe0 : e50 = sel (¬ (d48 = 2) ∧ d50 = 0) (2 : Int) (d50) := hwe0
        replace hwe1 : e51 = sel (¬ (d48 = 2) ∧ d50 = 0) (d47) (d51) := hwe1
        have hX : MH E A ad (va_up (va_up (va_up (va_up (va_up (va_up F 46 d46) 47 d47) 48 d48) 49 d49) 50 e50) 51 e51) M H := hX.to ((congrArg (fun z => va_up z 51 e51) (up_in (by decide) (up_up _ _ _ _))).trans (up_up _ _ _ _)) rfl
        have hP4 : Bx _ := Bx.i <| hP3.o.1.wants (by omega) hwe0 hwe1 (fun z => by rw [(hP3.o.2 z).2.1.2.2.2.1]) (fun z => (hP3.o.2 z).2.1.2.2.1)
        have hE : Bx (e50 = 0 → (tk (M 44) (F 45) q = 1 ∧ tv (M 44) (F 45) q < 5) ∧ n < 20 ∧ F 49 = (tv (M 44) (F 45) q) ∧ d49 = (tv (M 44) (F 45) (tp (M 44) (F 45) q)) ∧ d47 = (tf (M 44) (F 45) (tp (M 44) (F 45) q)) ∧ d46 = (tp (M 44) (F 45) (tp (M 44) (F 45) q)) ∧ tk (M 44) (F 45) (tp (M 44) (F 45) q) = 2 ∧ te (M 44) (F 45) (tp (M 44) (F 45) q) = 0) := fun z => by
          have a := hP4.o.2 z
          have b := hP3.o.2 a.1
          have c := hP2.o.2 b.1
          have d := hP1.o.2 c.1
          exact ⟨d.2, c.2, k49.o (Or.inl d.2.1), b.2.2 (Or.inr a.2), b.2.1.2.2.1, b.2.1.2.2.2.2, a.2, b.2.1.1⟩
        refine lv_aload_n C.x C.b dX2_readClaim_69 rfl (lv_at hl 1 rfl) ?_
        refine mg_49 C hX d49 rfl dX2_readClaim_70 (fun r70 => ?_)
        refine lv_istore_n (lv' := [(3, .int (zi d49)), (2, .int (zi (F 49))), (0, .ref (ad 63)), (1, .int (zi n))]) C.x C.b dX2_readClaim_73 rfl hl (by decide) rfl (fun ls hl => ?_)
        refine r_const C dX2_readClaim_74 ?_
        refine lv_istore (lv' := [(4, .int (zi 0)), (3, .int (zi d49)), (2, .int (zi (F 49))), (0, .ref (ad 63)), (1, .int (zi n))]) C.x C.b dX2_readClaim_75 hl (by decide) rfl (fun ls hl => ?_)
        have L77 : ∀ (fu : Nat) (v4 : Int) (f50 : Int) (f51 : Int) (h4 : 0 ≤ v4 ∧ v4 ≤ n) (h5_ : 0 ≤ f50 ∧ f50 ≤ 5) (hI : PG C0 (sel (¬ ∀ k : Int, v4 ≤ k → k < n → dupF (M 53) (M 54) (M 56) (tv (M 44) (F 45) q) (tv (M 44) (F 45) (tp (M 44) (F 45) q)) k) (pBad 4 (tf (M 44) (F 45) (tp (M 44) (F 45) q))) (sel (¬ te (M 44) (F 45) (tp (M 44) (F 45) (tp (M 44) (F 45) q)) = 0) (pBad 1 (tf (M 44) (F 45) (tp (M 44) (F 45) (tp (M 44) (F 45) q)))) (rEnd (M 44) (F 45) (rHang (M 44) (F 45) (M 56) n (tp (M 44) (F 45) (tp (M 44) (F 45) q)))))) f50 f51) (hZ : Bx (f50 = 0 → e50 = 0)) (hm : Int.toNat (n - v4) < fu) (H : Heap) (locs : List Loc) (ls : Array Slot) (hX : MH E A ad (va_up (va_up (va_up (va_up (va_up (va_up F 46 d46) 47 d47) 48 d48) 49 d49) 50 f50) 51 f51) M H) (hS : va_S A s.heap H locs) (hl : lv_has ls 5 [(0, .ref (ad 63)), (1, .int (zi n)), (2, .int (zi (F 49))), (3, .int (zi d49)), (4, .int (zi v4))]), W p l e rm_X2_readClaim s m args below meth c H locs 0 0 QQ (F0 m 77 ls []) := by
          intro fu
          induction fu with
          | zero => intro v4 f50 f51 h4 h5_ hI hZ hm; exact absurd hm (Nat.not_lt_zero _)
          | succ fu ih77 =>
            intro v4 f50 f51 h4 h5_ hI hZ hm H locs ls hX hS hl
            refine lv_iload C.x C.b dX2_readClaim_77 (lv_at hl 4 rfl) ?_
            refine lv_iload_n C.x C.b dX2_readClaim_79 rfl (lv_at hl 1 rfl) ?_
            have J140_4 : ∀ (hQ : PG C0 (sel (¬ te (M 44) (F 45) (tp (M 44) (F 45) (tp (M 44) (F 45) q)) = 0) (pBad 1 (tf (M 44) (F 45) (tp (M 44) (F 45) (tp (M 44) (F 45) q)))) (rEnd (M 44) (F 45) (rHang (M 44) (F 45) (M 56) n (tp (M 44) (F 45) (tp (M 44) (F 45) q))))) f50 f51) (H : Heap) (locs : List Loc) (ls : Array Slot) (hX : MH E A ad (va_up (va_up (va_up (va_up (va_up (va_up F 46 d46) 47 d47) 48 d48) 49 d49) 50 f50) 51 f51) M H) (hS : va_S A s.heap H locs) (hl : lv_has ls 5 [(0, .ref (ad 63)), (1, .int (zi n)), (2, .int (zi (F 49))), (3, .int (zi d49)), (4, .int (zi v4))]), W p l e rm_X2_readClaim s m args below meth c H locs 0 0 QQ (F0 m 140 ls []) := by
              intro hQ H locs ls hX hS hl
              refine lv_aload_n C.x C.b dX2_readClaim_140 rfl (lv_at hl 0 rfl) ?_
              refine r_callVv (As := []) (rest := []) (cells' := 0) (slots' := 0) C (met_X2_next l E A ad (va_up (va_up (va_up (va_up (va_up (va_up F 46 d46) 47 d47) 48 d48) 49 d49) 50 f50) 51 f51) M (show 0 ≤ d46 ∧ d46 ≤ (F 45) from (by omega))) (lw_V q1470 q1472 qs75 q88 q1473) hd_X2_next rfl (by decide) (m_recv C hX) hX hS hl.1 rfl (Nat.le_of_ble_eq_true rfl) dX2_readClaim_141 rfl rfl ⟨Nat.le_of_ble_eq_true rfl, Nat.le_of_ble_eq_true rfl⟩ (fun H locs hp hS => ?_)
              obtain ⟨k46, k47, k48, k49, k50, k51, hno2, hyes2, hps2, hX⟩ := hp
              replace hno2 : 0 < f50 → k46 = d46 ∧ k47 = d47 ∧ k48 = d48 ∧ k49 = d49 ∧ k50 = f50 ∧ k51 = f51 := hno2
              replace hyes2 : f50 = 0 → Nxt ((M 44)) ((F 45)) (d46) k46 k47 k48 k49 k50 k51 := hyes2
              replace hps2 : d46 ≤ k46 ∧ k46 ≤ (F 45) := hps2
              have hX : MH E A ad (va_up (va_up (va_up (va_up (va_up (va_up F 46 k46) 47 k47) 48 k48) 49 k49) 50 k50) 51 k51) M H := hX.to ((congrArg (fun z => va_up z 51 k51) ((congrArg (fun z => va_up z 50 k50) ((congrArg (fun z => va_up z 49 k49) ((congrArg (fun z => va_up z 48 k48) ((congrArg (fun z => va_up z 47 k47) (up_in (by decide) (up_in (by decide) (up_in (by decide) (up_in (by decide) (up_in (by decide) (up_up _ _ _ _))))))).trans (up_in (by decide) (up_in (by decide) (up_in (by decide) (up_in (by decide) (up_up _ _ _ _))))))).trans (up_in (by decide) (up_in (by decide) (up_in (by decide) (up_up _ _ _ _)))))).trans (up_in (by decide) (up_in (by decide) (up_up _ _ _ _))))).trans (up_in (by decide) (up_up _ _ _ _)))).trans (up_up _ _ _ _)) rfl
              have hP6 : Bx _ := Bx.i <| hQ.next hno2 hyes2 (fun z => (hE.o (hZ.o z)).2.2.2.2.2.1)
              clear hno2 hyes2
              have hc6 : Bx (k50 = 0 → (e50 = 0) ∧ (0 ≤ (tp (M 44) (F 45) (tp (M 44) (F 45) q)) ∧ (tp (M 44) (F 45) (tp (M 44) (F 45) q)) ≤ F 45) ∧ Cur (M 44) (F 45) (tp (M 44) (F 45) (tp (M 44) (F 45) q)) k46 k47 k48 k49 k50) := fun z => ⟨hZ.o (hP6.o.2 z).1, ⟨by omega, by omega⟩, (hP6.o.2 z).2⟩
              refine r_const C dX2_readClaim_144 ?_
              refine lv_istore (lv' := [(4, .int (zi 0)), (0, .ref (ad 63)), (1, .int (zi n)), (2, .int (zi (F 49))), (3, .int (zi d49))]) C.x C.b dX2_readClaim_145 hl (by decide) rfl (fun ls hl => ?_)
              refine lv_aload_n C.x C.b dX2_readClaim_147 rfl (lv_at hl 1 rfl) ?_
              refine mg_50 C hX k50 rfl dX2_readClaim_148 (fun r148 => ?_)
              have J177_5 : ∀ (z4 : Int) (z46 : Int) (z47 : Int) (z48 : Int) (z49 : Int) (z50 : Int) (z51 : Int) (hz4 : 0 ≤ z4 ∧ z4 < 2 ^ n.toNat) (hz46 : d46 ≤ z46 ∧ z46 ≤ F 45) (hz50 : 0 ≤ z50 ∧ z50 ≤ 5) (hzP : PJ C0 (M 44) (F 45) (e50 = 0) z4 z46 z47 z48 z49 z50 z51) (H : Heap) (locs : List Loc) (ls : Array Slot) (hX : MH E A ad (va_up (va_up (va_up (va_up (va_up (va_up F 46 z46) 47 z47) 48 z48) 49 z49) 50 z50) 51 z51) M H) (hS : va_S A s.heap H locs) (hl : lv_has ls 5 [(4, .int (zi z4)), (0, .ref (ad 63)), (1, .int (zi n)), (2, .int (zi (F 49))), (3, .int (zi d49))]), W p l e rm_X2_readClaim s m args below meth c H locs 0 0 QQ (F0 m 177 ls []) := by
                intro z4 z46 z47 z48 z49 z50 z51 hz4 hz46 hz50 hzP H locs ls hX hS hl
                refine lv_aload_n C.x C.b dX2_readClaim_177 rfl (lv_at hl 1 rfl) ?_
                refine mg_50 C hX z50 rfl dX2_readClaim_178 (fun r178 => ?_)
                have J202_6 : ∀ (y50 : Int) (y51 : Int) (hy50 : 0 ≤ y50 ∧ y50 ≤ 5) (hyP : PK C0 (M 44) (F 45) (e50 = 0) z4 z46 z47 z48 z49 y50 y51) (H : Heap) (locs : List Loc) (ls : Array Slot) (hX : MH E A ad (va_up (va_up (va_up (va_up (va_up (va_up F 46 z46) 47 z47) 48 z48) 49 z49) 50 y50) 51 y51) M H) (hS : va_S A s.heap H locs) (hl : lv_has ls 5 [(4, .int (zi z4)), (0, .ref (ad 63)), (1, .int (zi n)), (2, .int (zi (F 49))), (3, .int (zi d49))]), W p l e rm_X2_readClaim s m args below meth c H locs 0 0 QQ (F0 m 202 ls []) := by
                  intro y50 y51 hy50 hyP H locs ls hX hS hl
                  refine lv_aload_n C.x C.b dX2_readClaim_202 rfl (lv_at hl 1 rfl) ?_
                  refine r_callVv (As := []) (rest := []) (cells' := 0) (slots' := 0) C (met_X2_next l E A ad (va_up (va_up (va_up (va_up (va_up (va_up F 46 z46) 47 z47) 48 z48) 49 z49) 50 y50) 51 y51) M (show 0 ≤ z46 ∧ z46 ≤ (F 45) from (by omega))) (lw_V q1470 q1472 qs75 q88 q1473) hd_X2_next rfl (by decide) (m_recv C hX) hX hS hl.1 rfl (Nat.le_of_ble_eq_true rfl) dX2_readClaim_203 rfl rfl ⟨Nat.le_of_ble_eq_true rfl, Nat.le_of_ble_eq_true rfl⟩ (fun H locs hp hS => ?_)
                  obtain ⟨u46, u47, u48, u49, u50, u51, hno4, hyes4, hps4, hX⟩ := hp
                  replace hno4 : 0 < y50 → u46 = z46 ∧ u47 = z47 ∧ u48 = z48 ∧ u49 = z49 ∧ u50 = y50 ∧ u51 = y51 := hno4
                  replace hyes4 : y50 = 0 → Nxt ((M 44)) ((F 45)) (z46) u46 u47 u48 u49 u50 u51 := hyes4
                  replace hps4 : z46 ≤ u46 ∧ u46 ≤ (F 45) := hps4
                  have hX : MH E A ad (va_up (va_up (va_up (va_up (va_up (va_up F 46 u46) 47 u47) 48 u48) 49 u49) 50 u50) 51 u51) M H := hX.to ((congrArg (fun z => va_up z 51 u51) ((congrArg (fun z => va_up z 50 u50) ((congrArg (fun z => va_up z 49 u49) ((congrArg (fun z => va_up z 48 u48) ((congrArg (fun z => va_up z 47 u47) (up_in (by decide) (up_in (by decide) (up_in (by decide) (up_in (by decide) (up_in (by decide) (up_up _ _ _ _))))))).trans (up_in (by decide) (up_in (by decide) (up_in (by decide) (up_in (by decide) (up_up _ _ _ _))))))).trans (up_in (by decide) (up_in (by decide) (up_in (by decide) (up_up _ _ _ _)))))).trans (up_in (by decide) (up_in (by decide) (up_up _ _ _ _))))).trans (up_in (by decide) (up_up _ _ _ _)))).trans (up_up _ _ _ _)) rfl
                  have hR := PL.fin ht44 hyP hno4 hyes4
                  refine lv_aload_n C.x C.b dX2_readClaim_206 rfl (lv_at hl 1 rfl) ?_
                  refine mg_50 C hX u50 rfl dX2_readClaim_207 (fun r207 => ?_)
                  refine r_if_le (tgt := 215) C (by omega) dX2_readClaim_210 (by decide) (fun c_7 => ?_) (fun c_7 => ?_)
                  · have hR2 := hR.resolve_left (fun q => by have := q.1; omega)
                    have hE2 := hE.o hR2.2.1
                    have t1 := tq.o.2.2.2.2.1 hE2.1.1 hte
                    have t2 := tq1.o.2.2.2.1 hE2.2.2.2.2.2.2.1
                    have t3 := tq1.o.2.2.1 (by omega)
                    refine lv_aload_n C.x C.b dX2_readClaim_215 rfl (lv_at hl 1 rfl) ?_
                    refine mg_53 C hX dX2_readClaim_216 ?_
                    refine lv_iload_n C.x C.b dX2_readClaim_219 rfl (lv_at hl 2 rfl) ?_
                    refine lv_iload_n C.x C.b dX2_readClaim_220 rfl (lv_at hl 3 rfl) ?_
                    refine ms_53 C hX hS (by omega) (by omega) (M 53) rfl (M' := (va_up M 53 (fup (M 53) n (F 49)))) rfl dX2_readClaim_221 (fun H locs hX hS => ?_)
                    refine lv_aload_n C.x C.b dX2_readClaim_222 rfl (lv_at hl 1 rfl) ?_
                    refine mg_54 C hX dX2_readClaim_223 ?_
                    refine lv_iload_n C.x C.b dX2_readClaim_226 rfl (lv_at hl 2 rfl) ?_
                    refine lv_iload_n C.x C.b dX2_readClaim_227 rfl (lv_at hl 4 rfl) ?_
                    refine ms_54 C hX hS (by omega) (by omega) (M 54) rfl (M' := (va_up (va_up M 53 (fup (M 53) n (F 49))) 54 (fup (M 54) n d49))) rfl dX2_readClaim_228 (fun H locs hX hS => ?_)
                    refine lv_aload_n C.x C.b dX2_readClaim_229 rfl (lv_at hl 1 rfl) ?_
                    refine mg_55 C hX dX2_readClaim_230 ?_
                    refine lv_iload_n C.x C.b dX2_readClaim_233 rfl (lv_at hl 2 rfl) ?_
                    refine lv_aload_n C.x C.b dX2_readClaim_234 rfl (lv_at hl 1 rfl) ?_
                    refine mg_58 C hX (F 58) rfl dX2_readClaim_235 (fun _ => ?_)
                    refine ms_55 C hX hS (by omega) (by omega) (M 55) rfl (M' := (va_up (va_up (va_up M 53 (fup (M 53) n (F 49))) 54 (fup (M 54) n d49)) 55 (fup (M 55) n (F 58)))) rfl dX2_readClaim_238 (fun H locs hX hS => ?_)
                    refine lv_aload_n C.x C.b dX2_readClaim_239 rfl (lv_at hl 1 rfl) ?_
                    refine mg_56 C hX dX2_readClaim_240 ?_
                    refine lv_iload_n C.x C.b dX2_readClaim_243 rfl (lv_at hl 2 rfl) ?_
                    refine r_bipush C (by decide) dX2_readClaim_244 ?_
                    refine ms_56 C hX hS (by omega) (by omega) (M 56) rfl (M' := (va_up (va_up (va_up (va_up M 53 (fup (M 53) n (F 49))) 54 (fup (M 54) n d49)) 55 (fup (M 55) n (F 58))) 56 (fup (M 56) n (-4)))) rfl dX2_readClaim_246 (fun H locs hX hS => ?_)
                    refine lv_aload_n C.x C.b dX2_readClaim_247 rfl (lv_at hl 1 rfl) ?_
                    refine mg_57 C hX dX2_readClaim_248 ?_
                    refine lv_iload_n C.x C.b dX2_readClaim_251 rfl (lv_at hl 2 rfl) ?_
                    refine lv_iload C.x C.b dX2_readClaim_252 (lv_at hl 0 rfl) ?_
                    refine ms_57 C hX hS (by omega) (by omega) (M 57) rfl (M' := (va_up (va_up (va_up (va_up (va_up M 53 (fup (M 53) n (F 49))) 54 (fup (M 54) n d49)) 55 (fup (M 55) n (F 58))) 56 (fup (M 56) n (-4))) 57 (fup (M 57) n z4))) rfl dX2_readClaim_254 (fun H locs hX hS => ?_)
                    refine lv_iload_n C.x C.b dX2_readClaim_255 rfl (lv_at hl 2 rfl) ?_
                    refine r_const C dX2_readClaim_256 ?_
                    refine r_iadd C dX2_readClaim_257 ?_
                    rw [← hQQ]
                    exact r_iret C hS (Nat.le_of_ble_eq_true rfl) (Nat.le_of_ble_eq_true rfl) dX2_readClaim_258 ⟨u46, u47, u48, u49, u50, u51, (fup (M 53) n (F 49)), (fup (M 54) n d49), (fup (M 55) n (F 58)), (fup (M 56) n (-4)), (fup (M 57) n z4), (by omega), (Or.inr (by obtain ⟨a1, a2, x, a3, a4, a5⟩ := hR2; exact ⟨a1, ⟨by omega, hE2.2.1⟩, x, _, by rw [← hC0]; exact a3, a4, a5, rfl, by rw [hE2.2.2.1], by rw [hE2.2.2.2.1], rfl, rfl, rfl⟩)), hX⟩
                  · refine lv_iload_n C.x C.b dX2_readClaim_213 rfl (lv_at hl 2 rfl) ?_
                    rw [← hQQ]
                    exact r_iret C hS (Nat.le_of_ble_eq_true rfl) (Nat.le_of_ble_eq_true rfl) dX2_readClaim_214 ⟨u46, u47, u48, u49, u50, u51, (M 53), (M 54), (M 55), (M 56), (M 57), (by omega), (Or.inl (by rcases hR with q | q; exact ⟨q.1, by rw [← hC0]; exact q.2, rfl, rfl, rfl, rfl, rfl, rfl⟩; have := q.1; omega)), (hX.to rfl ((((((up_id M (k := 53) (a := (M 53)) rfl).symm.trans rfl).trans ((up_id (va_up M 53 (M 53)) (k := 54) (a := (M 54)) rfl).symm.trans rfl)).trans ((up_id (va_up (va_up M 53 (M 53)) 54 (M 54)) (k := 55) (a := (M 55)) rfl).symm.trans rfl)).trans ((up_id (va_up (va_up (va_up M 53 (M 53)) 54 (M 54)) 55 (M 55)) (k := 56) (a := (M 56)) rfl).symm.trans rfl)).trans ((up_id (va_up (va_up (va_up (va_up M 53 (M 53)) 54 (M 54)) 55 (M 55)) 56 (M 56)) (k := 57) (a := (M 57)) rfl).symm.trans rfl)))⟩
                refine r_if_ne (tgt := 202) C (by omega) dX2_readClaim_181 (by decide) (fun c_8 => ?_) (fun c_8 => ?_)
                · exact J202_6 z50 z51 (hX.2.1 50 (0, 5) rfl) (by first | exact PK.skip hzP (by assumption) | exact PK.stop hzP (by assumption) Iff.rfl hwo0 hwo1) H locs ls hX hS hl
                · refine lv_aload_n C.x C.b dX2_readClaim_184 rfl (lv_at hl 1 rfl) ?_
                  refine lv_aload_n C.x C.b dX2_readClaim_185 rfl (lv_at hl 1 rfl) ?_
                  refine mg_48 C hX z48 rfl dX2_readClaim_186 (fun r186 => ?_)
                  refine r_const C dX2_readClaim_189 ?_
                  have J198_9 : ∀ (t1 : Int) (ht1 : t1 = bI (z48 = 3)) (H : Heap) (locs : List Loc) (ls : Array Slot) (hX : MH E A ad (va_up (va_up (va_up (va_up (va_up (va_up F 46 z46) 47 z47) 48 z48) 49 z49) 50 z50) 51 z51) M H) (hS : va_S A s.heap H locs) (hl : lv_has ls 5 [(4, .int (zi z4)), (0, .ref (ad 63)), (1, .int (zi n)), (2, .int (zi (F 49))), (3, .int (zi d49))]), W p l e rm_X2_readClaim s m args below meth c H locs 0 0 QQ (F0 m 198 ls [.int (zi t1), .ref (ad 63)]) := by
                    intro t1 ht1 H locs ls hX hS hl
                    subst ht1
                    refine r_const C dX2_readClaim_198 ?_
                    refine r_callVv (As := [.int (zi (bI (z48 = 3))), .int (zi 2)]) (rest := []) (cells' := 0) (slots' := 0) C (met_X2_wants l E A ad (va_up (va_up (va_up (va_up (va_up (va_up F 46 z46) 47 z47) 48 z48) 49 z49) 50 z50) 51 z51) M (z48 = 3) 2 (show 0 ≤ (2 : Int) ∧ (2 : Int) ≤ 5 from (by omega))) (lw_V q1488 q1490 qs79 q88 q1491) hd_X2_wants rfl (by decide) (m_recv C hX) hX hS hl.1 rfl (Nat.le_of_ble_eq_true rfl) dX2_readClaim_199 rfl rfl ⟨Nat.le_of_ble_eq_true rfl, Nat.le_of_ble_eq_true rfl⟩ (fun H locs hp hS => ?_)
                    obtain ⟨o50, o51, hwo0, hwo1, hX⟩ := hp
                    replace hwo0 : o50 = sel (¬ (z48 = 3) ∧ z50 = 0) (2 : Int) (z50) := hwo0
                    replace hwo1 : o51 = sel (¬ (z48 = 3) ∧ z50 = 0) (z47) (z51) := hwo1
                    have hX : MH E A ad (va_up (va_up (va_up (va_up (va_up (va_up F 46 z46) 47 z47) 48 z48) 49 z49) 50 o50) 51 o51) M H := hX.to ((congrArg (fun z => va_up z 51 o51) (up_in (by decide) (up_up _ _ _ _))).trans (up_up _ _ _ _)) rfl
                    exact J202_6 o50 o51 (hX.2.1 50 (0, 5) rfl) (by first | exact PK.skip hzP (by assumption) | exact PK.stop hzP (by assumption) Iff.rfl hwo0 hwo1) H locs ls hX hS hl
                  refine r_icmp_ne (tgt := 197) C (by omega) (by decide) dX2_readClaim_190 (by decide) (fun c_10 => ?_) (fun c_10 => ?_)
                  · refine r_const C dX2_readClaim_197 ?_
                    exact J198_9 0 ((bI_f c_10).symm) H locs ls hX hS hl
                  · refine r_const C dX2_readClaim_193 ?_
                    refine lv_goto (tgt := 198) C.x C.b dX2_readClaim_194 (by decide) ?_
                    exact J198_9 1 ((bI_t c_10).symm) H locs ls hX hS hl
              refine r_if_ne (tgt := 177) C (by omega) dX2_readClaim_151 (by decide) (fun c_11 => ?_) (fun c_11 => ?_)
              · exact J177_5 0 k46 k47 k48 k49 k50 k51 (by first | exact hon3 | exact ⟨by omega, by omega⟩) (by omega) (hX.2.1 50 (0, 5) rfl) (by first | exact PJ.yes hP6.o.1 hc6.o (by assumption) (by assumption) (by assumption) hhg3 | exact PJ.no hP6.o.1 hc6.o (by omega)) H locs ls hX hS hl
              · refine lv_aload_n C.x C.b dX2_readClaim_154 rfl (lv_at hl 1 rfl) ?_
                refine mg_48 C hX k48 rfl dX2_readClaim_155 (fun r155 => ?_)
                refine r_const C dX2_readClaim_158 ?_
                refine r_icmp_ne (tgt := 177) C (by omega) (by decide) dX2_readClaim_159 (by decide) (fun c_12 => ?_) (fun c_12 => ?_)
                · exact J177_5 0 k46 k47 k48 k49 k50 k51 (by first | exact hon3 | exact ⟨by omega, by omega⟩) (by omega) (hX.2.1 50 (0, 5) rfl) (by first | exact PJ.yes hP6.o.1 hc6.o (by assumption) (by assumption) (by assumption) hhg3 | exact PJ.no hP6.o.1 hc6.o (by omega)) H locs ls hX hS hl
                · refine lv_aload_n C.x C.b dX2_readClaim_162 rfl (lv_at hl 1 rfl) ?_
                  refine mg_49 C hX k49 rfl dX2_readClaim_163 (fun r163 => ?_)
                  refine r_const C dX2_readClaim_166 ?_
                  refine r_icmp_ne (tgt := 177) C (by omega) (by decide) dX2_readClaim_167 (by decide) (fun c_13 => ?_) (fun c_13 => ?_)
                  · exact J177_5 0 k46 k47 k48 k49 k50 k51 (by first | exact hon3 | exact ⟨by omega, by omega⟩) (by omega) (hX.2.1 50 (0, 5) rfl) (by first | exact PJ.yes hP6.o.1 hc6.o (by assumption) (by assumption) (by assumption) hhg3 | exact PJ.no hP6.o.1 hc6.o (by omega)) H locs ls hX hS hl
                  · refine lv_aload_n C.x C.b dX2_readClaim_170 rfl (lv_at hl 1 rfl) ?_
                    refine lv_iload_n C.x C.b dX2_readClaim_171 rfl (lv_at hl 2 rfl) ?_
                    refine r_callVi (As := [.int (zi n)]) (rest := []) (cells' := 0) (slots' := 0) C (met_X2_readOn l E A ad (va_up (va_up (va_up (va_up (va_up (va_up F 46 k46) 47 k47) 48 k48) 49 k49) 50 k50) 51 k51) M n (show 0 ≤ n ∧ n ≤ 20 from (by omega)) (show 0 ≤ k46 ∧ k46 ≤ (F 45) from (by omega)) (show k50 = 0 from (by omega))) (lw_V q1498 q1500 qs81 q88 q1501) hd_X2_readOn rfl (by decide) (m_recv C hX) hX hS hl.1 rfl (Nat.le_of_ble_eq_true rfl) dX2_readClaim_172 rfl rfl ⟨Nat.le_of_ble_eq_true rfl, Nat.le_of_ble_eq_true rfl⟩ (fun rr H locs hp hS => ?_)
                    obtain ⟨r_14, hrr⟩ : ∃ z, z = rr := ⟨_, rfl⟩
                    rw [← hrr] at hp ⊢
                    obtain ⟨n46, n47, n48, n49, n50, n51, hps3, hon3, hhg3, hX⟩ := hp
                    replace hps3 : k46 ≤ n46 ∧ n46 ≤ (F 45) := hps3
                    replace hon3 : 0 ≤ r_14 ∧ r_14 < 2 ^ n.toNat := hon3
                    replace hhg3 : (0 < n50 ∧ hang ((M 44)) ((F 45)) ((M 56)) n 200 (k46) 0 = pBad n50 n51) ∨ (n50 = 0 ∧ ∃ q : Int, hang ((M 44)) ((F 45)) ((M 56)) n 200 (k46) 0 = pOk q r_14 ∧ (0 ≤ q ∧ q ≤ (F 45)) ∧ Cur ((M 44)) ((F 45)) q n46 n47 n48 n49 n50) := hhg3
                    have hX : MH E A ad (va_up (va_up (va_up (va_up (va_up (va_up F 46 n46) 47 n47) 48 n48) 49 n49) 50 n50) 51 n51) M H := hX.to ((congrArg (fun z => va_up z 51 n51) ((congrArg (fun z => va_up z 50 n50) ((congrArg (fun z => va_up z 49 n49) ((congrArg (fun z => va_up z 48 n48) ((congrArg (fun z => va_up z 47 n47) (up_in (by decide) (up_in (by decide) (up_in (by decide) (up_in (by decide) (up_in (by decide) (up_up _ _ _ _))))))).trans (up_in (by decide) (up_in (by decide) (up_in (by decide) (up_in (by decide) (up_up _ _ _ _))))))).trans (up_in (by decide) (up_in (by decide) (up_in (by decide) (up_up _ _ _ _)))))).trans (up_in (by decide) (up_in (by decide) (up_up _ _ _ _))))).trans (up_in (by decide) (up_up _ _ _ _)))).trans (up_up _ _ _ _)) rfl
                    refine lv_istore (lv' := [(4, .int (zi r_14)), (0, .ref (ad 63)), (1, .int (zi n)), (2, .int (zi (F 49))), (3, .int (zi d49))]) C.x C.b dX2_readClaim_175 hl (by decide) rfl (fun ls hl => ?_)
                    exact J177_5 r_14 n46 n47 n48 n49 n50 n51 (by first | exact hon3 | exact ⟨by omega, by omega⟩) (by omega) (hX.2.1 50 (0, 5) rfl) (by first | exact PJ.yes hP6.o.1 hc6.o (by assumption) (by assumption) (by assumption) hhg3 | exact PJ.no hP6.o.1 hc6.o (by omega)) H locs ls hX hS hl
            refine r_icmp_ge (tgt := 140) C (by omega) (by omega) dX2_readClaim_80 (by decide) (fun c_15 => ?_) (fun c_15 => ?_)
            · exact J140_4 (hI.none (by omega)) H locs ls hX hS hl
            · refine lv_aload_n C.x C.b dX2_readClaim_83 rfl (lv_at hl 0 rfl) ?_
              refine mg_50 C hX f50 rfl dX2_readClaim_84 (fun r84 => ?_)
              refine r_if_ne (tgt := 140) C (by omega) dX2_readClaim_87 (by decide) (fun c_16 => ?_) (fun c_16 => ?_)
              · exact J140_4 (hI.none (by omega)) H locs ls hX hS hl
              · refine lv_aload_n C.x C.b dX2_readClaim_90 rfl (lv_at hl 0 rfl) ?_
                refine lv_aload_n C.x C.b dX2_readClaim_91 rfl (lv_at hl 0 rfl) ?_
                refine mg_53 C hX dX2_readClaim_92 ?_
                refine lv_iload C.x C.b dX2_readClaim_95 (lv_at hl 4 rfl) ?_
                refine ml_53 C hX (by omega) (M 53) rfl dX2_readClaim_97 (fun r97 => ?_)
                refine lv_iload_n C.x C.b dX2_readClaim_98 rfl (lv_at hl 2 rfl) ?_
                have J130_17 : ∀ (t1 : Int) (ht1 : t1 = bI ((¬ ((M 53 v4) = (F 49))) ∨ ((¬ ((M 54 v4) = d49)) ∨ (¬ ((M 56 v4) = (-4)))))) (H : Heap) (locs : List Loc) (ls : Array Slot) (hX : MH E A ad (va_up (va_up (va_up (va_up (va_up (va_up F 46 d46) 47 d47) 48 d48) 49 d49) 50 f50) 51 f51) M H) (hS : va_S A s.heap H locs) (hl : lv_has ls 5 [(0, .ref (ad 63)), (1, .int (zi n)), (2, .int (zi (F 49))), (3, .int (zi d49)), (4, .int (zi v4))]), W p l e rm_X2_readClaim s m args below meth c H locs 0 0 QQ (F0 m 130 ls [.int (zi t1), .ref (ad 63)]) := by
                  intro t1 ht1 H locs ls hX hS hl
                  subst ht1
                  refine r_const C dX2_readClaim_130 ?_
                  refine r_callVv (As := [.int (zi (bI ((¬ ((M 53 v4) = (F 49))) ∨ ((¬ ((M 54 v4) = d49)) ∨ (¬ ((M 56 v4) = (-4))))))), .int (zi 4)]) (rest := []) (cells' := 0) (slots' := 0) C (met_X2_wants l E A ad (va_up (va_up (va_up (va_up (va_up (va_up F 46 d46) 47 d47) 48 d48) 49 d49) 50 f50) 51 f51) M ((¬ ((M 53 v4) = (F 49))) ∨ ((¬ ((M 54 v4) = d49)) ∨ (¬ ((M 56 v4) = (-4))))) 4 (show 0 ≤ (4 : Int) ∧ (4 : Int) ≤ 5 from (by omega))) (lw_V q1488 q1490 qs79 q88 q1491) hd_X2_wants rfl (by decide) (m_recv C hX) hX hS hl.1 rfl (Nat.le_of_ble_eq_true rfl) dX2_readClaim_131 rfl rfl ⟨Nat.le_of_ble_eq_true rfl, Nat.le_of_ble_eq_true rfl⟩ (fun H locs hp hS => ?_)
                  obtain ⟨g50, g51, hwg0, hwg1, hX⟩ := hp
                  replace hwg0 : g50 = sel (¬ ((¬ ((M 53 v4) = (F 49))) ∨ ((¬ ((M 54 v4) = d49)) ∨ (¬ ((M 56 v4) = (-4))))) ∧ f50 = 0) (4 : Int) (f50) := hwg0
                  replace hwg1 : g51 = sel (¬ ((¬ ((M 53 v4) = (F 49))) ∨ ((¬ ((M 54 v4) = d49)) ∨ (¬ ((M 56 v4) = (-4))))) ∧ f50 = 0) (d47) (f51) := hwg1
                  have hX : MH E A ad (va_up (va_up (va_up (va_up (va_up (va_up F 46 d46) 47 d47) 48 d48) 49 d49) 50 g50) 51 g51) M H := hX.to ((congrArg (fun z => va_up z 51 g51) (up_in (by decide) (up_up _ _ _ _))).trans (up_up _ _ _ _)) rfl
                  have hI2 : Bx _ := Bx.i <| hI.all (by omega) (by omega) hwg0 hwg1 (fun z => by have a := hE.o (hZ.o z); unfold dupF; rw [a.2.2.1, a.2.2.2.1]; constructor <;> (intro y; omega)) (fun z => (hE.o (hZ.o z)).2.2.2.2.1)
                  refine r_iinc (lv' := [(4, .int (zi (v4 + 1))), (0, .ref (ad 63)), (1, .int (zi n)), (2, .int (zi (F 49))), (3, .int (zi d49))]) C dX2_readClaim_134 hl (k := 4) rfl (by decide) rfl (fun ls hl => ?_)
                  refine lv_goto (tgt := 77) C.x C.b dX2_readClaim_137 (by decide) ?_
                  exact ih77 (v4 + 1) g50 g51 (by omega) (by have := hX.2.1 50 (0, 5) rfl; exact this) hI2.o.1 (fun z => hZ.o (hI2.o.2 z)) (by omega) H locs ls hX hS (lv_sub hl [1, 2, 3, 4, 0] rfl)
                refine r_icmp_ne (tgt := 125) C (by omega) (by omega) dX2_readClaim_99 (by decide) (fun c_18 => ?_) (fun c_18 => ?_)
                · refine r_const C dX2_readClaim_125 ?_
                  refine lv_goto (tgt := 130) C.x C.b dX2_readClaim_126 (by decide) ?_
                  exact J130_17 1 ((bI_t (Or.inl c_18)).symm) H locs ls hX hS hl
                · refine lv_aload_n C.x C.b dX2_readClaim_102 rfl (lv_at hl 0 rfl) ?_
                  refine mg_54 C hX dX2_readClaim_103 ?_
                  refine lv_iload C.x C.b dX2_readClaim_106 (lv_at hl 4 rfl) ?_
                  refine ml_54 C hX (by omega) (M 54) rfl dX2_readClaim_108 (fun r108 => ?_)
                  refine lv_iload_n C.x C.b dX2_readClaim_109 rfl (lv_at hl 3 rfl) ?_
                  refine r_icmp_ne (tgt := 125) C (by omega) (by omega) dX2_readClaim_110 (by decide) (fun c_19 => ?_) (fun c_19 => ?_)
                  · refine r_const C dX2_readClaim_125 ?_
                    refine lv_goto (tgt := 130) C.x C.b dX2_readClaim_126 (by decide) ?_
                    exact J130_17 1 ((bI_t (Or.inr (Or.inl c_19))).symm) H locs ls hX hS hl
                  · refine lv_aload_n C.x C.b dX2_readClaim_113 rfl (lv_at hl 0 rfl) ?_
                    refine mg_56 C hX dX2_readClaim_114 ?_
                    refine lv_iload C.x C.b dX2_readClaim_117 (lv_at hl 4 rfl) ?_
                    refine ml_56 C hX (by omega) (M 56) rfl dX2_readClaim_119 (fun r119 => ?_)
                    refine r_bipush C (by decide) dX2_readClaim_120 ?_
                    refine r_icmp_eq (tgt := 129) C (by omega) (by decide) dX2_readClaim_122 (by decide) (fun c_20 => ?_) (fun c_20 => ?_)
                    · refine r_const C dX2_readClaim_129 ?_
                      exact J130_17 0 ((bI_f (fun q => q.elim (fun q => q c_18) (fun q => q.elim (fun q => q c_19) (fun q => q c_20)))).symm) H locs ls hX hS hl
                    · refine r_const C dX2_readClaim_125 ?_
                      refine lv_goto (tgt := 130) C.x C.b dX2_readClaim_126 (by decide) ?_
                      exact J130_17 1 ((bI_t (Or.inr (Or.inr c_20))).symm) H locs ls hX hS hl
        exact L77 _ 0 e50 e51 (by omega) (by have := hX.2.1 50 (0, 5) rfl; exact this) hP4.o.1 (fun z => z) (Nat.lt_succ_self _) H locs ls hX hS (lv_sub hl [3, 4, 2, 1, 0] rfl)
      refine r_icmp_ne (tgt := 64) C (by omega) (by decide) dX2_readClaim_57 (by decide) (fun c_21 => ?_) (fun c_21 => ?_)
      · refine r_const C dX2_readClaim_64 ?_
        exact J65_3 0 ((bI_f c_21).symm) H locs ls hX hS hl
      · refine r_const C dX2_readClaim_60 ?_
        refine lv_goto (tgt := 65) C.x C.b dX2_readClaim_61 (by decide) ?_
        exact J65_3 1 ((bI_t c_21).symm) H locs ls hX hS hl
    refine r_icmp_ge (tgt := 37) C (by omega) (by decide) dX2_readClaim_30 (by decide) (fun c_22 => ?_) (fun c_22 => ?_)
    · refine r_const C dX2_readClaim_37 ?_
      exact J38_2 0 ((bI_f c_22).symm) H locs ls hX hS hl
    · refine r_const C dX2_readClaim_33 ?_
      refine lv_goto (tgt := 38) C.x C.b dX2_readClaim_34 (by decide) ?_
      exact J38_2 1 ((bI_t c_22).symm) H locs ls hX hS hl
  refine r_icmp_ne (tgt := 21) C (by omega) (by decide) dX2_readClaim_6 (by decide) (fun c_23 => ?_) (fun c_23 => ?_)
  · refine r_const C dX2_readClaim_21 ?_
    exact J22_1 0 ((bI_f (fun q => c_23 q.1)).symm) H locs ls hX hS hl
  · refine lv_aload_n C.x C.b dX2_readClaim_9 rfl (lv_at hl 0 rfl) ?_
    refine mg_49 C hX (F 49) rfl dX2_readClaim_10 (fun _ => ?_)
    refine r_const C dX2_readClaim_13 ?_
    refine r_icmp_ge (tgt := 21) C (by omega) (by decide) dX2_readClaim_14 (by decide) (fun c_24 => ?_) (fun c_24 => ?_)
    · refine r_const C dX2_readClaim_21 ?_
      exact J22_1 0 ((bI_f (fun q => c_24 q.2)).symm) H locs ls hX hS hl
    · refine r_const C dX2_readClaim_17 ?_
      refine lv_goto (tgt := 22) C.x C.b dX2_readClaim_18 (by decide) ?_
      exact J22_1 1 ((bI_t ⟨c_23, c_24⟩).symm) H locs ls hX hS hl

theorem hd_X2_claims : yX2_claims.cls = RX2 ∧ yX2_claims.cls ≠ "java/lang/invoke/MethodHandle" ∧ yX2_claims.cls ≠ "java/lang/invoke/VarHandle" ∧ (parseMethodDescriptor yX2_claims.desc).map (fun d => d.parameters.length) = some 0 := by decide +kernel
abbrev rm_X2_claims : Room := { frames := 6, cells := 0, slots := 0, locals := 135 }
set_option maxHeartbeats 8000000 in
theorem met_X2_claims (l : Launch) (E : us_E) (A : Nat → Prop) (ad : Nat → Nat) (F : Nat → Int) (M : Nat → Int → Int) : cMet l yX2_claims cX2_claims 3 (some .int) rm_X2_claims A E [.ref (ad 63)] (fun H => MH E A ad F M H) (qi A (fun r H => ∃ f45 : Int, ∃ f46 : Int, ∃ f47 : Int, ∃ f48 : Int, ∃ f49 : Int, ∃ f50 : Int, ∃ f51 : Int, ∃ f52 : Int, ∃ m53 : Int → Int, ∃ m54 : Int → Int, ∃ m55 : Int → Int, ∃ m56 : Int → Int, ∃ m57 : Int → Int, (f45 = 0) ∧ ((∃ a b : Int, rtext (M 44) (F 45) (F 58) (F 52, M 53, M 54, M 55, M 56, M 57) = rBad a b ∧ 0 < a ∧ f50 = a ∧ f52 = F 52 ∧ r = -10 - b ∧ ∀ j : Int, 0 ≤ j → j < F 52 → m53 j = M 53 j ∧ m54 j = M 54 j ∧ m55 j = M 55 j ∧ m56 j = M 56 j ∧ m57 j = M 57 j) ∨ (rtext (M 44) (F 45) (F 58) (F 52, M 53, M 54, M 55, M 56, M 57) = rOk (f52, m53, m54, m55, m56, m57) ∧ f50 = 0 ∧ r = f52 - F 52 ∧ F 52 ≤ f52 ∧ ∀ j : Int, 0 ≤ j → j < F 52 → m53 j = M 53 j ∧ m54 j = M 54 j ∧ m55 j = M 55 j ∧ m56 j = M 56 j ∧ m57 j = M 57 j)) ∧ MH E A ad (va_up (va_up (va_up (va_up (va_up (va_up (va_up (va_up F 45 f45) 46 f46) 47 f47) 48 f48) 49 f49) 50 f50) 51 f51) 52 f52) (va_up (va_up (va_up (va_up (va_up M 53 m53) 54 m54) 55 m55) 56 m56) 57 m57) H)) := by
  refine cMet.of (by decide) (Nat.le_of_ble_eq_true rfl) (fun p e s m args below meth c C hnm hX hS ls hl => ?_)
  have C : Cx p s m args meth c A RX2 cX2_claims 3 (some .int) E := C
  have hX : MH E A ad F M s.heap := hX
  have hl : lv_has ls 3 [(0, .ref (ad 63))] := hl
  generalize hH : s.heap = H at hX
  have hS : va_S A s.heap H [] := by rw [← hH]; exact hS
  generalize hlocs : ([] : List Loc) = locs at hS ⊢
  obtain ⟨QQ, hQQ⟩ : ∃ z, MQ below (qi A (fun r H => ∃ f45 : Int, ∃ f46 : Int, ∃ f47 : Int, ∃ f48 : Int, ∃ f49 : Int, ∃ f50 : Int, ∃ f51 : Int, ∃ f52 : Int, ∃ m53 : Int → Int, ∃ m54 : Int → Int, ∃ m55 : Int → Int, ∃ m56 : Int → Int, ∃ m57 : Int → Int, (f45 = 0) ∧ ((∃ a b : Int, rtext (M 44) (F 45) (F 58) (F 52, M 53, M 54, M 55, M 56, M 57) = rBad a b ∧ 0 < a ∧ f50 = a ∧ f52 = F 52 ∧ r = -10 - b ∧ ∀ j : Int, 0 ≤ j → j < F 52 → m53 j = M 53 j ∧ m54 j = M 54 j ∧ m55 j = M 55 j ∧ m56 j = M 56 j ∧ m57 j = M 57 j) ∨ (rtext (M 44) (F 45) (F 58) (F 52, M 53, M 54, M 55, M 56, M 57) = rOk (f52, m53, m54, m55, m56, m57) ∧ f50 = 0 ∧ r = f52 - F 52 ∧ F 52 ≤ f52 ∧ ∀ j : Int, 0 ≤ j → j < F 52 → m53 j = M 53 j ∧ m54 j = M 54 j ∧ m55 j = M 55 j ∧ m56 j = M 56 j ∧ m57 j = M 57 j)) ∧ MH E A ad (va_up (va_up (va_up (va_up (va_up (va_up (va_up (va_up F 45 f45) 46 f46) 47 f47) 48 f48) 49 f49) 50 f50) 51 f51) 52 f52) (va_up (va_up (va_up (va_up (va_up M 53 m53) 54 m54) 55 m55) 56 m56) 57 m57) H)) args s (rm_X2_claims).cells (rm_X2_claims).slots A = z := ⟨_, rfl⟩
  rw [hQQ]
  have rF45 : 0 ≤ F 45 ∧ F 45 ≤ 160 := hX.2.1 45 (0, 160) rfl
  have rF46 : 0 ≤ F 46 ∧ F 46 ≤ 160 := hX.2.1 46 (0, 160) rfl
  have rF47 : 0 ≤ F 47 ∧ F 47 ≤ 160 := hX.2.1 47 (0, 160) rfl
  have rF48 : 0 ≤ F 48 ∧ F 48 ≤ 4 := hX.2.1 48 (0, 4) rfl
  have rF49 : -4 ≤ F 49 ∧ F 49 ≤ 99 := hX.2.1 49 (-4, 99) rfl
  have rF50 : 0 ≤ F 50 ∧ F 50 ≤ 5 := hX.2.1 50 (0, 5) rfl
  have rF51 : 0 ≤ F 51 ∧ F 51 ≤ 160 := hX.2.1 51 (0, 160) rfl
  have rF52 : 0 ≤ F 52 ∧ F 52 ≤ 20 := hX.2.1 52 (0, 20) rfl
  have rF58 : 0 ≤ F 58 ∧ F 58 ≤ 99 := hX.2.1 58 (0, 99) rfl
  have ht44 : ∀ j, 0 ≤ M 44 j ∧ M 44 j ≤ 255 := fun j => hX.2.2 44 (0, 255) rfl j
  obtain ⟨RA, hRA⟩ : ∃ RA, RA = rtext (M 44) (F 45) (F 58) (F 52, M 53, M 54, M 55, M 56, M 57) := ⟨_, rfl⟩
  refine lv_aload_n C.x C.b dX2_claims_0 rfl (lv_at hl 0 rfl) ?_
  refine mg_52 C hX (F 52) rfl dX2_claims_1 (fun _ => ?_)
  refine lv_istore_n (lv' := [(1, .int (zi (F 52))), (0, .ref (ad 63))]) C.x C.b dX2_claims_4 rfl hl (by decide) rfl (fun ls hl => ?_)
  refine lv_aload_n C.x C.b dX2_claims_5 rfl (lv_at hl 1 rfl) ?_
  refine r_const C dX2_claims_6 ?_
  refine mp_50 C hX hS (by omega) (F' := (va_up F 50 0)) rfl dX2_claims_7 (fun H locs hX hS => ?_)
  refine lv_aload_n C.x C.b dX2_claims_10 rfl (lv_at hl 1 rfl) ?_
  refine r_const C dX2_claims_11 ?_
  refine mp_46 C hX hS (by omega) (F' := (va_up (va_up F 46 0) 50 0)) (up_in (by decide) rfl) dX2_claims_12 (fun H locs hX hS => ?_)
  refine lv_aload_n C.x C.b dX2_claims_15 rfl (lv_at hl 1 rfl) ?_
  refine r_callVv (As := []) (rest := []) (cells' := 0) (slots' := 0) C (met_X2_next l E A ad (va_up (va_up F 46 0) 50 0) M (show 0 ≤ (0 : Int) ∧ (0 : Int) ≤ (F 45) from (by omega))) (lw_V q1470 q1472 qs75 q88 q1473) hd_X2_next rfl (by decide) (m_recv C hX) hX hS hl.1 rfl (Nat.le_of_ble_eq_true rfl) dX2_claims_16 rfl rfl ⟨Nat.le_of_ble_eq_true rfl, Nat.le_of_ble_eq_true rfl⟩ (fun H locs hp hS => ?_)
  obtain ⟨d46, d47, d48, d49, d50, d51, hno1, hyes1, hps1, hX⟩ := hp
  replace hno1 : 0 < (0 : Int) → d46 = (0 : Int) ∧ d47 = (F 47) ∧ d48 = (F 48) ∧ d49 = (F 49) ∧ d50 = (0 : Int) ∧ d51 = (F 51) := hno1
  replace hyes1 : (0 : Int) = 0 → Nxt ((M 44)) ((F 45)) ((0 : Int)) d46 d47 d48 d49 d50 d51 := hyes1
  replace hps1 : (0 : Int) ≤ d46 ∧ d46 ≤ (F 45) := hps1
  have hX : MH E A ad (va_up (va_up (va_up (va_up (va_up (va_up F 46 d46) 47 d47) 48 d48) 49 d49) 50 d50) 51 d51) M H := hX.to ((congrArg (fun z => va_up z 51 d51) ((congrArg (fun z => va_up z 50 d50) ((congrArg (fun z => va_up z 49 d49) ((congrArg (fun z => va_up z 48 d48) ((congrArg (fun z => va_up z 47 d47) (up_in (by decide) (up_up _ _ _ _))).trans (up_in (by decide) rfl))).trans (up_in (by decide) rfl))).trans (up_in (by decide) rfl))).trans (up_up _ _ _ _))).trans rfl) rfl
  have hI0 : Bx ((0 < d50 ∧ RA = rBad d50 d51) ∨ (d50 = 0 ∧ ∃ (k : Nat) (x : Int), F 45 - d46 < k ∧ RA = rall (M 44) (F 45) (F 58) k x (F 52, M 53, M 54, M 55, M 56, M 57) ∧ (0 ≤ x ∧ x ≤ F 45) ∧ Cur (M 44) (F 45) x d46 d47 d48 d49 d50)) := by
    rcases hyes1 rfl with q | q
    · exact Or.inr ⟨q.1.2.1, 200, 0, by omega, by rw [hRA]; unfold rtext; rw [sel_f (fun z => z q.1.1)], ⟨by omega, by omega⟩, q⟩
    · exact Or.inl ⟨by omega, by rw [hRA]; unfold rtext; rw [sel_t q.1, q.2.1, q.2.2]⟩
  clear hno1 hyes1
  have L19 : ∀ (fu : Nat) (v1 : Int) (f46 : Int) (f47 : Int) (f48 : Int) (f49 : Int) (f50 : Int) (f51 : Int) (m53 : Int → Int) (m54 : Int → Int) (m55 : Int → Int) (m56 : Int → Int) (m57 : Int → Int) (h1 : F 52 ≤ v1 ∧ v1 ≤ 20) (hps : 0 ≤ f46 ∧ f46 ≤ F 45) (h5_ : 0 ≤ f50 ∧ f50 ≤ 5) (hI : Bx ((0 < f50 ∧ RA = rBad f50 f51) ∨ (f50 = 0 ∧ ∃ (k : Nat) (x : Int), F 45 - f46 < k ∧ RA = rall (M 44) (F 45) (F 58) k x (v1, m53, m54, m55, m56, m57) ∧ (0 ≤ x ∧ x ≤ F 45) ∧ Cur (M 44) (F 45) x f46 f47 f48 f49 f50))) (hag : ∀ j : Int, 0 ≤ j → j < F 52 → m53 j = M 53 j ∧ m54 j = M 54 j ∧ m55 j = M 55 j ∧ m56 j = M 56 j ∧ m57 j = M 57 j) (hm : Int.toNat (sel (f50 = 0) (F 45 - f46 + 1) 0) < fu) (H : Heap) (locs : List Loc) (ls : Array Slot) (hX : MH E A ad (va_up (va_up (va_up (va_up (va_up (va_up F 46 f46) 47 f47) 48 f48) 49 f49) 50 f50) 51 f51) (va_up (va_up (va_up (va_up (va_up M 53 m53) 54 m54) 55 m55) 56 m56) 57 m57) H) (hS : va_S A s.heap H locs) (hl : lv_has ls 3 [(0, .ref (ad 63)), (1, .int (zi v1))]), W p l e rm_X2_claims s m args below meth c H locs 0 0 QQ (F0 m 19 ls []) := by
    intro fu
    induction fu with
    | zero => intro v1 f46 f47 f48 f49 f50 f51 m53 m54 m55 m56 m57 h1 hps h5_ hI hag hm; exact absurd hm (Nat.not_lt_zero _)
    | succ fu ih19 =>
      intro v1 f46 f47 f48 f49 f50 f51 m53 m54 m55 m56 m57 h1 hps h5_ hI hag hm H locs ls hX hS hl
      refine lv_aload_n C.x C.b dX2_claims_19 rfl (lv_at hl 0 rfl) ?_
      refine mg_50 C hX f50 rfl dX2_claims_20 (fun r20 => ?_)
      have J42_1 : ∀ (hF : (0 < f50 ∧ RA = rBad f50 f51) ∨ (f50 = 0 ∧ RA = rOk (v1, m53, m54, m55, m56, m57))) (H : Heap) (locs : List Loc) (ls : Array Slot) (hX : MH E A ad (va_up (va_up (va_up (va_up (va_up (va_up F 46 f46) 47 f47) 48 f48) 49 f49) 50 f50) 51 f51) (va_up (va_up (va_up (va_up (va_up M 53 m53) 54 m54) 55 m55) 56 m56) 57 m57) H) (hS : va_S A s.heap H locs) (hl : lv_has ls 3 [(0, .ref (ad 63)), (1, .int (zi v1))]), W p l e rm_X2_claims s m args below meth c H locs 0 0 QQ (F0 m 42 ls []) := by
        intro hF H locs ls hX hS hl
        refine lv_aload_n C.x C.b dX2_claims_42 rfl (lv_at hl 0 rfl) ?_
        refine r_const C dX2_claims_43 ?_
        refine mp_45 C hX hS (by omega) (F' := (va_up (va_up (va_up (va_up (va_up (va_up (va_up F 45 0) 46 f46) 47 f47) 48 f48) 49 f49) 50 f50) 51 f51)) (up_in (by decide) (up_in (by decide) (up_in (by decide) (up_in (by decide) (up_in (by decide) (up_in (by decide) rfl)))))) dX2_claims_44 (fun H locs hX hS => ?_)
        refine lv_aload_n C.x C.b dX2_claims_47 rfl (lv_at hl 0 rfl) ?_
        refine mg_50 C hX f50 rfl dX2_claims_48 (fun _ => ?_)
        refine r_if_le (tgt := 62) C (by omega) dX2_claims_51 (by decide) (fun c_2 => ?_) (fun c_2 => ?_)
        · refine lv_iload_n C.x C.b dX2_claims_62 rfl (lv_at hl 1 rfl) ?_
          refine lv_aload_n C.x C.b dX2_claims_63 rfl (lv_at hl 0 rfl) ?_
          refine mg_52 C hX (F 52) rfl dX2_claims_64 (fun _ => ?_)
          refine r_isub C dX2_claims_67 ?_
          refine lv_istore_n (lv' := [(2, .int (zi (v1 - (F 52)))), (0, .ref (ad 63)), (1, .int (zi v1))]) C.x C.b dX2_claims_68 rfl hl (by decide) rfl (fun ls hl => ?_)
          refine lv_aload_n C.x C.b dX2_claims_69 rfl (lv_at hl 1 rfl) ?_
          refine lv_iload_n C.x C.b dX2_claims_70 rfl (lv_at hl 2 rfl) ?_
          refine mp_52 C hX hS (by omega) (F' := (va_up (va_up (va_up (va_up (va_up (va_up (va_up (va_up F 45 0) 46 f46) 47 f47) 48 f48) 49 f49) 50 f50) 51 f51) 52 v1)) rfl dX2_claims_71 (fun H locs hX hS => ?_)
          refine lv_iload_n C.x C.b dX2_claims_74 rfl (lv_at hl 0 rfl) ?_
          rw [← hQQ]
          exact r_iret C hS (Nat.le_of_ble_eq_true rfl) (Nat.le_of_ble_eq_true rfl) dX2_claims_75 ⟨0, f46, f47, f48, f49, f50, f51, v1, m53, m54, m55, m56, m57, rfl, (Or.inr (by have q := hF.resolve_left (fun q => by have := q.1; omega); exact ⟨by rw [← hRA]; exact q.2, q.1, rfl, by omega, hag⟩)), hX⟩
        · refine r_bipush C (by decide) dX2_claims_54 ?_
          refine lv_aload_n C.x C.b dX2_claims_56 rfl (lv_at hl 0 rfl) ?_
          refine mg_51 C hX f51 rfl dX2_claims_57 (fun r57 => ?_)
          refine r_isub C dX2_claims_60 ?_
          rw [← hQQ]
          exact r_iret C hS (Nat.le_of_ble_eq_true rfl) (Nat.le_of_ble_eq_true rfl) dX2_claims_61 ⟨0, f46, f47, f48, f49, f50, f51, (F 52), m53, m54, m55, m56, m57, rfl, (Or.inl (by have q := hF.resolve_right (fun q => by have := q.1; omega); exact ⟨_, _, by rw [← hRA]; exact q.2, q.1, rfl, rfl, rfl, hag⟩)), (hX.to ((up_id (va_up (va_up (va_up (va_up (va_up (va_up (va_up F 45 0) 46 f46) 47 f47) 48 f48) 49 f49) 50 f50) 51 f51) (k := 52) (a := (F 52)) rfl).symm.trans rfl) rfl)⟩
      refine r_if_ne (tgt := 42) C (by omega) dX2_claims_23 (by decide) (fun c_3 => ?_) (fun c_3 => ?_)
      · exact J42_1 (by first | exact Or.inl (hI.o.resolve_right (fun q => by have := q.1; omega)) | (obtain ⟨k, x, hk, hk2, hx, hxc⟩ := (hI.o.resolve_left (fun q => by have := q.1; omega)).2; exact Or.inr ⟨by omega, rall_end hk2 (by omega) (by rw [← hxc.1.2.2.2.1]; assumption)⟩)) H locs ls hX hS hl
      · refine lv_aload_n C.x C.b dX2_claims_26 rfl (lv_at hl 0 rfl) ?_
        refine mg_48 C hX f48 rfl dX2_claims_27 (fun r27 => ?_)
        refine r_if_eq (tgt := 42) C (by omega) dX2_claims_30 (by decide) (fun c_4 => ?_) (fun c_4 => ?_)
        · exact J42_1 (by first | exact Or.inl (hI.o.resolve_right (fun q => by have := q.1; omega)) | (obtain ⟨k, x, hk, hk2, hx, hxc⟩ := (hI.o.resolve_left (fun q => by have := q.1; omega)).2; exact Or.inr ⟨by omega, rall_end hk2 (by omega) (by rw [← hxc.1.2.2.2.1]; assumption)⟩)) H locs ls hX hS hl
        · obtain ⟨k, x, hk, hk2, hx, hxc⟩ := (hI.o.resolve_left (fun q => by have := q.1; omega)).2
          have htx : ¬ tk (M 44) (F 45) x = 0 := by rw [← hxc.1.2.2.2.1]; assumption
          refine lv_aload_n C.x C.b dX2_claims_33 rfl (lv_at hl 0 rfl) ?_
          refine lv_iload_n C.x C.b dX2_claims_34 rfl (lv_at hl 1 rfl) ?_
          refine r_callVi (As := [.int (zi v1)]) (rest := []) (cells' := 0) (slots' := 0) C (met_X2_readClaim l E A ad (va_up (va_up (va_up (va_up (va_up (va_up F 46 f46) 47 f47) 48 f48) 49 f49) 50 f50) 51 f51) (va_up (va_up (va_up (va_up (va_up M 53 m53) 54 m54) 55 m55) 56 m56) 57 m57) x v1 (show 0 ≤ v1 ∧ v1 ≤ 20 from (by omega)) (show 0 ≤ f46 ∧ f46 ≤ (F 45) from (by omega)) (show f50 = 0 from (by omega)) (show 0 ≤ x ∧ x ≤ (F 45) from hx) (show Cur ((M 44)) ((F 45)) x (f46) (f47) (f48) (f49) (f50) from hxc)) (lw_V q1494 q1496 qs80 q88 q1497) hd_X2_readClaim rfl (by decide) (m_recv C hX) hX hS hl.1 rfl (Nat.le_of_ble_eq_true rfl) dX2_claims_35 rfl rfl ⟨Nat.le_of_ble_eq_true rfl, Nat.le_of_ble_eq_true rfl⟩ (fun rr H locs hp hS => ?_)
          obtain ⟨r_5, hrr⟩ : ∃ z, z = rr := ⟨_, rfl⟩
          rw [← hrr] at hp ⊢
          obtain ⟨e46, e47, e48, e49, e50, e51, w53, w54, w55, w56, w57, hps2, hrc, hX⟩ := hp
          replace hps2 : f46 ≤ e46 ∧ e46 ≤ (F 45) := hps2
          replace hrc : (0 < e50 ∧ rclaim ((M 44)) ((F 45)) (m53) (m54) (m56) v1 x = pBad e50 e51 ∧ r_5 = v1 ∧ (w53 = m53 ∧ w54 = m54 ∧ w55 = m55 ∧ w56 = m56 ∧ w57 = m57)) ∨ (e50 = 0 ∧ (f46 < e46 ∧ v1 < 20) ∧ ∃ xq onq : Int, rclaim ((M 44)) ((F 45)) (m53) (m54) (m56) v1 x = pOk xq onq ∧ (0 ≤ xq ∧ xq ≤ (F 45)) ∧ Cur ((M 44)) ((F 45)) xq e46 e47 e48 e49 e50 ∧ r_5 = v1 + 1 ∧ w53 = fup (m53) v1 (tv ((M 44)) ((F 45)) x) ∧ w54 = fup (m54) v1 (tv ((M 44)) ((F 45)) (tp ((M 44)) ((F 45)) x)) ∧ w55 = fup (m55) v1 ((F 58)) ∧ w56 = fup (m56) v1 (-4) ∧ w57 = fup (m57) v1 onq) := hrc
          have hX : MH E A ad (va_up (va_up (va_up (va_up (va_up (va_up F 46 e46) 47 e47) 48 e48) 49 e49) 50 e50) 51 e51) (va_up (va_up (va_up (va_up (va_up M 53 w53) 54 w54) 55 w55) 56 w56) 57 w57) H := hX.to ((congrArg (fun z => va_up z 51 e51) ((congrArg (fun z => va_up z 50 e50) ((congrArg (fun z => va_up z 49 e49) ((congrArg (fun z => va_up z 48 e48) ((congrArg (fun z => va_up z 47 e47) (up_in (by decide) (up_in (by decide) (up_in (by decide) (up_in (by decide) (up_in (by decide) (up_up _ _ _ _))))))).trans (up_in (by decide) (up_in (by decide) (up_in (by decide) (up_in (by decide) (up_up _ _ _ _))))))).trans (up_in (by decide) (up_in (by decide) (up_in (by decide) (up_up _ _ _ _)))))).trans (up_in (by decide) (up_in (by decide) (up_up _ _ _ _))))).trans (up_in (by decide) (up_up _ _ _ _)))).trans (up_up _ _ _ _)) ((congrArg (fun z => va_up z 57 w57) ((congrArg (fun z => va_up z 56 w56) ((congrArg (fun z => va_up z 55 w55) ((congrArg (fun z => va_up z 54 w54) (up_in (by decide) (up_in (by decide) (up_in (by decide) (up_in (by decide) (up_up _ _ _ _)))))).trans (up_in (by decide) (up_in (by decide) (up_in (by decide) (up_up _ _ _ _)))))).trans (up_in (by decide) (up_in (by decide) (up_up _ _ _ _))))).trans (up_in (by decide) (up_up _ _ _ _)))).trans (up_up _ _ _ _))
          replace hrc : Bx _ := Bx.i hrc
          have hst : ∀ r35_ : Int, r35_ = r_5 → Bx ((0 < e50 ∧ RA = rBad e50 e51) ∨ (e50 = 0 ∧ ∃ (k : Nat) (x : Int), F 45 - e46 < k ∧ RA = rall (M 44) (F 45) (F 58) k x (r35_, w53, w54, w55, w56, w57) ∧ (0 ≤ x ∧ x ≤ F 45) ∧ Cur (M 44) (F 45) x e46 e47 e48 e49 e50)) := by
            intro r35_ er
            rcases hrc.o with ⟨a, b, d, e1, e2, e3, e4, e5⟩ | ⟨a, b, y, on, d, e, g, i, e1, e2, e3, e4, e5⟩
            · exact Or.inl ⟨a, rall_bad hk2 (by omega) htx b⟩
            · obtain ⟨kk0, rfl⟩ : ∃ j, k = j + 1 := ⟨k - 1, by omega⟩
              refine Or.inr ⟨a, kk0, y, by omega, ?_, e, g⟩
              rw [rall_ok hk2 htx d, er, i, e1, e2, e3, e4, e5]
              rfl
          have hst2 : ∀ j : Int, 0 ≤ j → j < F 52 → w53 j = M 53 j ∧ w54 j = M 54 j ∧ w55 j = M 55 j ∧ w56 j = M 56 j ∧ w57 j = M 57 j := by
            intro j a b
            have z := hag j a b
            rcases hrc.o with ⟨_, _, _, e1, e2, e3, e4, e5⟩ | ⟨_, _, y, on, _, _, _, _, e1, e2, e3, e4, e5⟩
            · rw [e1, e2, e3, e4, e5]; exact z
            · rw [e1, e2, e3, e4, e5, fup_n _ _ (by omega), fup_n _ _ (by omega), fup_n _ _ (by omega), fup_n _ _ (by omega), fup_n _ _ (by omega)]; exact z
          have hst3 : F 52 ≤ r_5 ∧ r_5 ≤ 20 := by
            rcases hrc.o with ⟨_, _, d, _⟩ | ⟨_, b, y, on, _, _, _, i, _⟩ <;> omega
          have hst4 : Int.toNat (sel (e50 = 0) (F 45 - e46 + 1) 0) < fu := by
            rw [sel_t (by omega)] at hm
            rcases hrc.o with ⟨a, _⟩ | ⟨a, b, _⟩
            · rw [sel_f (by omega)]; omega
            · rw [sel_t a]; omega
          refine lv_istore_n (lv' := [(1, .int (zi r_5)), (0, .ref (ad 63))]) C.x C.b dX2_claims_38 rfl hl (by decide) rfl (fun ls hl => ?_)
          refine lv_goto (tgt := 19) C.x C.b dX2_claims_39 (by decide) ?_
          exact ih19 r_5 e46 e47 e48 e49 e50 e51 w53 w54 w55 w56 w57 hst3 (by omega) (hX.2.1 50 (0, 5) rfl) (hst _ rfl) hst2 hst4 H locs ls hX hS (lv_sub hl [1, 0] rfl)
  exact L19 _ (F 52) d46 d47 d48 d49 d50 d51 (M 53) (M 54) (M 55) (M 56) (M 57) (by omega) (by omega) (hX.2.1 50 (0, 5) rfl) hI0 (fun j a b => ⟨rfl, rfl, rfl, rfl, rfl⟩) (Nat.lt_succ_self _) H locs ls (hX.to rfl ((((((up_id M (k := 53) (a := (M 53)) rfl).symm.trans rfl).trans ((up_id (va_up M 53 (M 53)) (k := 54) (a := (M 54)) rfl).symm.trans rfl)).trans ((up_id (va_up (va_up M 53 (M 53)) 54 (M 54)) (k := 55) (a := (M 55)) rfl).symm.trans rfl)).trans ((up_id (va_up (va_up (va_up M 53 (M 53)) 54 (M 54)) 55 (M 55)) (k := 56) (a := (M 56)) rfl).symm.trans rfl)).trans ((up_id (va_up (va_up (va_up (va_up M 53 (M 53)) 54 (M 54)) 55 (M 55)) 56 (M 56)) (k := 57) (a := (M 57)) rfl).symm.trans rfl))) hS (lv_sub hl [1, 0] rfl)

theorem hd_X2_fault : yX2_fault.cls = RX2 ∧ yX2_fault.cls ≠ "java/lang/invoke/MethodHandle" ∧ yX2_fault.cls ≠ "java/lang/invoke/VarHandle" ∧ (parseMethodDescriptor yX2_fault.desc).map (fun d => d.parameters.length) = some 0 := by decide +kernel
abbrev rm_X2_fault : Room := { frames := 0, cells := 0, slots := 0, locals := 0 }
set_option maxHeartbeats 8000000 in
theorem met_X2_fault (l : Launch) (E : us_E) (A : Nat → Prop) (ad : Nat → Nat) (F : Nat → Int) (M : Nat → Int → Int) : cMet l yX2_fault cX2_fault 1 (some .int) rm_X2_fault A E [.ref (ad 63)] (fun H => MH E A ad F M H) (qi A (fun r H => (r = F 50) ∧ MH E A ad F M H)) := by
  refine cMet.of (by decide) (Nat.le_of_ble_eq_true rfl) (fun p e s m args below meth c C hnm hX hS ls hl => ?_)
  have C : Cx p s m args meth c A RX2 cX2_fault 1 (some .int) E := C
  have hX : MH E A ad F M s.heap := hX
  have hl : lv_has ls 1 [(0, .ref (ad 63))] := hl
  generalize hH : s.heap = H at hX
  have hS : va_S A s.heap H [] := by rw [← hH]; exact hS
  generalize hlocs : ([] : List Loc) = locs at hS ⊢
  obtain ⟨QQ, hQQ⟩ : ∃ z, MQ below (qi A (fun r H => (r = F 50) ∧ MH E A ad F M H)) args s (rm_X2_fault).cells (rm_X2_fault).slots A = z := ⟨_, rfl⟩
  rw [hQQ]
  have rF50 : 0 ≤ F 50 ∧ F 50 ≤ 5 := hX.2.1 50 (0, 5) rfl
  refine lv_aload_n C.x C.b dX2_fault_0 rfl (lv_at hl 0 rfl) ?_
  refine mg_50 C hX (F 50) rfl dX2_fault_1 (fun _ => ?_)
  rw [← hQQ]
  exact r_iret C hS (Nat.le_of_ble_eq_true rfl) (Nat.le_of_ble_eq_true rfl) dX2_fault_4 ⟨(by first | rfl | exact (sel_t (by omega)).symm | exact (sel_f (by omega)).symm | omega), hX⟩

theorem hd_X2_isClaim : yX2_isClaim.cls = RX2 ∧ yX2_isClaim.cls ≠ "java/lang/invoke/MethodHandle" ∧ yX2_isClaim.cls ≠ "java/lang/invoke/VarHandle" ∧ (parseMethodDescriptor yX2_isClaim.desc).map (fun d => d.parameters.length) = some 1 := by decide +kernel
abbrev rm_X2_isClaim : Room := { frames := 1, cells := 0, slots := 0, locals := 25 }
set_option maxHeartbeats 8000000 in
theorem met_X2_isClaim (l : Launch) (E : us_E) (A : Nat → Prop) (ad : Nat → Nat) (F : Nat → Int) (M : Nat → Int → Int) (k : Int) (hk : -2147483648 ≤ k ∧ k < 2147483648) : cMet l yX2_isClaim cX2_isClaim 2 (some .boolean) rm_X2_isClaim A E [.ref (ad 63), .int (zi k)] (fun H => MH E A ad F M H) (qi A (fun r H => (r = bI (0 ≤ k ∧ k < F 52)) ∧ MH E A ad F M H)) := by
  refine cMet.of (by decide) (Nat.le_of_ble_eq_true rfl) (fun p e s m args below meth c C hnm hX hS ls hl => ?_)
  have C : Cx p s m args meth c A RX2 cX2_isClaim 2 (some .boolean) E := C
  have hX : MH E A ad F M s.heap := hX
  have hl : lv_has ls 2 [(0, .ref (ad 63)), (1, .int (zi k))] := hl
  generalize hH : s.heap = H at hX
  have hS : va_S A s.heap H [] := by rw [← hH]; exact hS
  generalize hlocs : ([] : List Loc) = locs at hS ⊢
  obtain ⟨QQ, hQQ⟩ : ∃ z, MQ below (qi A (fun r H => (r = bI (0 ≤ k ∧ k < F 52)) ∧ MH E A ad F M H)) args s (rm_X2_isClaim).cells (rm_X2_isClaim).slots A = z := ⟨_, rfl⟩
  rw [hQQ]
  have rF52 : 0 ≤ F 52 ∧ F 52 ≤ 20 := hX.2.1 52 (0, 20) rfl
  refine lv_iload_n C.x C.b dX2_isClaim_0 rfl (lv_at hl 1 rfl) ?_
  refine r_i2l C (by omega) dX2_isClaim_1 ?_
  refine r_lconst C 0 rfl dX2_isClaim_2 ?_
  refine lv_aload_n C.x C.b dX2_isClaim_3 rfl (lv_at hl 0 rfl) ?_
  refine mg_52 C hX (F 52) rfl dX2_isClaim_4 (fun _ => ?_)
  refine r_const C dX2_isClaim_7 ?_
  refine r_isub C dX2_isClaim_8 ?_
  refine r_i2l C (by omega) dX2_isClaim_9 ?_
  refine r_callSi (As := [.long (zl k), .long (zl 0), .long (zl ((F 52) - 1))]) (rest := []) (cells' := 0) (slots' := 0) C (met_X2_in l E A ad H k 0 ((F 52) - 1) (show -9223372036854775808 ≤ k ∧ k < 9223372036854775808 from (by omega)) (show -9223372036854775808 ≤ (0 : Int) ∧ (0 : Int) < 9223372036854775808 from (by omega)) (show -9223372036854775808 ≤ ((F 52) - 1) ∧ ((F 52) - 1) < 9223372036854775808 from (by omega))) (lw_S q1209 q1210 q88 q1211) hd_X2_in rfl (by decide) rfl hS hl.1 rfl (Nat.le_of_ble_eq_true rfl) dX2_isClaim_10 rfl rfl ⟨Nat.le_of_ble_eq_true rfl, Nat.le_of_ble_eq_true rfl⟩ (fun rr H locs hp hS => ?_)
  obtain ⟨hrr, hH⟩ := hp
  have hrr : rr = bI ((0 : Int) ≤ k ∧ k ≤ ((F 52) - 1)) := hrr
  subst hrr
  have hX : MH E A ad F M H := by rw [hH]; exact hX
  rw [← hQQ]
  exact r_zret C (bI_e _) hS (Nat.le_of_ble_eq_true rfl) (Nat.le_of_ble_eq_true rfl) dX2_isClaim_13 ⟨(bI_c (by first | exact Iff.rfl | (constructor <;> intro _ <;> omega))), hX⟩

theorem hd_X2_hanging : yX2_hanging.cls = RX2 ∧ yX2_hanging.cls ≠ "java/lang/invoke/MethodHandle" ∧ yX2_hanging.cls ≠ "java/lang/invoke/VarHandle" ∧ (parseMethodDescriptor yX2_hanging.desc).map (fun d => d.parameters.length) = some 1 := by decide +kernel
abbrev rm_X2_hanging : Room := { frames := 0, cells := 0, slots := 0, locals := 0 }
set_option maxHeartbeats 8000000 in
theorem met_X2_hanging (l : Launch) (E : us_E) (A : Nat → Prop) (ad : Nat → Nat) (F : Nat → Int) (M : Nat → Int → Int) (k : Int) (hk : 0 ≤ k ∧ k < F 52) : cMet l yX2_hanging cX2_hanging 4 (some .int) rm_X2_hanging A E [.ref (ad 63), .int (zi k)] (fun H => MH E A ad F M H) (qi A (fun r H => ((0 ≤ r ∧ r < 1048576) ∧ ∀ b : Int, 0 ≤ b → (Bt r b ↔ HSm (M 57) k (F 52) b)) ∧ MH E A ad F M H)) := by
  refine cMet.of (by decide) (Nat.le_of_ble_eq_true rfl) (fun p e s m args below meth c C hnm hX hS ls hl => ?_)
  have C : Cx p s m args meth c A RX2 cX2_hanging 4 (some .int) E := C
  have hX : MH E A ad F M s.heap := hX
  have hl : lv_has ls 4 [(0, .ref (ad 63)), (1, .int (zi k))] := hl
  generalize hH : s.heap = H at hX
  have hS : va_S A s.heap H [] := by rw [← hH]; exact hS
  generalize hlocs : ([] : List Loc) = locs at hS ⊢
  obtain ⟨QQ, hQQ⟩ : ∃ z, MQ below (qi A (fun r H => ((0 ≤ r ∧ r < 1048576) ∧ ∀ b : Int, 0 ≤ b → (Bt r b ↔ HSm (M 57) k (F 52) b)) ∧ MH E A ad F M H)) args s (rm_X2_hanging).cells (rm_X2_hanging).slots A = z := ⟨_, rfl⟩
  rw [hQQ]
  have rF52 : 0 ≤ F 52 ∧ F 52 ≤ 20 := hX.2.1 52 (0, 20) rfl
  have hpk := p2_19 (k := k) (by have := hX.2.1 52 (0, 20) rfl; omega)
  refine r_const C dX2_hanging_0 ?_
  refine lv_iload_n C.x C.b dX2_hanging_1 rfl (lv_at hl 1 rfl) ?_
  refine r_ishl C (by omega) (by omega) rfl dX2_hanging_2 ?_
  refine lv_istore_n (lv' := [(2, .int (zi (1 * 2 ^ k.toNat))), (0, .ref (ad 63)), (1, .int (zi k))]) C.x C.b dX2_hanging_3 rfl hl (by decide) rfl (fun ls hl => ?_)
  refine lv_iload_n C.x C.b dX2_hanging_4 rfl (lv_at hl 2 rfl) ?_
  refine r_const C dX2_hanging_5 ?_
  refine r_iadd C dX2_hanging_6 ?_
  refine lv_istore_n (lv' := [(3, .int (zi (k + 1))), (2, .int (zi (1 * 2 ^ k.toNat))), (0, .ref (ad 63)), (1, .int (zi k))]) C.x C.b dX2_hanging_7 rfl hl (by decide) rfl (fun ls hl => ?_)
  have L8 : ∀ (fu : Nat) (v2 : Int) (v3 : Int) (h3 : k + 1 ≤ v3 ∧ v3 ≤ F 52) (hv2 : 0 ≤ v2 ∧ v2 < 1048576) (hb : ∀ b : Int, 0 ≤ b → (Bt v2 b ↔ HS (M 57) (fun _ => True) k (v3 - k - 1).toNat b)) (hm : Int.toNat (F 52 - v3) < fu) (H : Heap) (locs : List Loc) (ls : Array Slot) (hX : MH E A ad F M H) (hS : va_S A s.heap H locs) (hl : lv_has ls 4 [(0, .ref (ad 63)), (1, .int (zi k)), (2, .int (zi v2)), (3, .int (zi v3))]), W p l e rm_X2_hanging s m args below meth c H locs 0 0 QQ (F0 m 8 ls []) := by
    intro fu
    induction fu with
    | zero => intro v2 v3 h3 hv2 hb hm; exact absurd hm (Nat.not_lt_zero _)
    | succ fu ih8 =>
      intro v2 v3 h3 hv2 hb hm H locs ls hX hS hl
      refine lv_iload_n C.x C.b dX2_hanging_8 rfl (lv_at hl 3 rfl) ?_
      refine lv_aload_n C.x C.b dX2_hanging_9 rfl (lv_at hl 0 rfl) ?_
      refine mg_52 C hX (F 52) rfl dX2_hanging_10 (fun _ => ?_)
      refine r_icmp_ge (tgt := 43) C (by omega) (by omega) dX2_hanging_13 (by decide) (fun c_1 => ?_) (fun c_1 => ?_)
      · refine lv_iload_n C.x C.b dX2_hanging_43 rfl (lv_at hl 2 rfl) ?_
        rw [← hQQ]
        exact r_iret C hS (Nat.le_of_ble_eq_true rfl) (Nat.le_of_ble_eq_true rfl) dX2_hanging_44 ⟨⟨hv2, fun b z => by rw [hb b z, show v3 = F 52 by omega]; exact Iff.rfl⟩, hX⟩
      · have hp3 := p2_19 (k := v3) (by omega)
        have r57 : 0 ≤ M 57 v3 ∧ M 57 v3 ≤ 1048575 := hX.2.2 57 (0, 1048575) rfl v3
        have hnd := nd_r (y := v2) r57.1
        refine lv_iload_n C.x C.b dX2_hanging_16 rfl (lv_at hl 2 rfl) ?_
        refine lv_aload_n C.x C.b dX2_hanging_17 rfl (lv_at hl 0 rfl) ?_
        refine mg_57 C hX dX2_hanging_18 ?_
        refine lv_iload_n C.x C.b dX2_hanging_21 rfl (lv_at hl 3 rfl) ?_
        refine ml_57 C hX (by omega) (M 57) rfl dX2_hanging_22 (fun r22 => ?_)
        refine lv_iload_n C.x C.b dX2_hanging_23 rfl (lv_at hl 2 rfl) ?_
        refine r_iand (v := nd (M 57 v3) v2) C (zi_and (by omega) (by omega)) dX2_hanging_24 ?_
        have J35_2 : ∀ (t1 : Int) (ht1 : t1 = sel ((nd (M 57 v3) v2) = 0) 0 (1 * 2 ^ v3.toNat)) (H : Heap) (locs : List Loc) (ls : Array Slot) (hX : MH E A ad F M H) (hS : va_S A s.heap H locs) (hl : lv_has ls 4 [(0, .ref (ad 63)), (1, .int (zi k)), (2, .int (zi v2)), (3, .int (zi v3))]), W p l e rm_X2_hanging s m args below meth c H locs 0 0 QQ (F0 m 35 ls [.int (zi t1), .int (zi v2)]) := by
          intro t1 ht1 H locs ls hX hS hl
          subst ht1
          have hrt1 : (0 : Int) ≤ ((sel ((nd (M 57 v3) v2) = 0) 0 (1 * 2 ^ v3.toNat)) : Int) ∧ ((sel ((nd (M 57 v3) v2) = 0) 0 (1 * 2 ^ v3.toNat)) : Int) ≤ 524288 := by
            exact (sel_rg (fun qq => (by omega)) (fun qq => (by omega)))
          refine r_ior (v := oo v2 (sel ((nd (M 57 v3) v2) = 0) 0 (1 * 2 ^ v3.toNat))) C (zi_or (by omega) (by omega)) dX2_hanging_35 ?_
          refine lv_istore_n (lv' := [(2, .int (zi (oo v2 (sel ((nd (M 57 v3) v2) = 0) 0 (1 * 2 ^ v3.toNat))))), (0, .ref (ad 63)), (1, .int (zi k)), (3, .int (zi v3))]) C.x C.b dX2_hanging_36 rfl hl (by decide) rfl (fun ls hl => ?_)
          refine r_iinc (lv' := [(3, .int (zi (v3 + 1))), (2, .int (zi (oo v2 (sel ((nd (M 57 v3) v2) = 0) 0 (1 * 2 ^ v3.toNat))))), (0, .ref (ad 63)), (1, .int (zi k))]) C dX2_hanging_37 hl (k := 3) rfl (by decide) rfl (fun ls hl => ?_)
          refine lv_goto (tgt := 8) C.x C.b dX2_hanging_40 (by decide) ?_
          exact ih8 (oo v2 (sel ((nd (M 57 v3) v2) = 0) 0 (1 * 2 ^ v3.toNat))) (v3 + 1) (by omega) (oo_20 hv2 ⟨by omega, by omega⟩) (HS_stm hv2.1 hk.1 h3.1 hb (by omega) rfl) (by omega) H locs ls hX hS (lv_sub hl [2, 3, 1, 0] rfl)
        refine r_if_eq (tgt := 34) C (by omega) dX2_hanging_25 (by decide) (fun c_3 => ?_) (fun c_3 => ?_)
        · refine r_const C dX2_hanging_34 ?_
          exact J35_2 0 ((sel_t c_3).symm) H locs ls hX hS hl
        · refine r_const C dX2_hanging_28 ?_
          refine lv_iload_n C.x C.b dX2_hanging_29 rfl (lv_at hl 3 rfl) ?_
          refine r_ishl C (by omega) (by omega) rfl dX2_hanging_30 ?_
          refine lv_goto (tgt := 35) C.x C.b dX2_hanging_31 (by decide) ?_
          exact J35_2 (1 * 2 ^ v3.toNat) ((sel_f c_3).symm) H locs ls hX hS hl
  exact L8 _ (1 * 2 ^ k.toNat) (k + 1) (by omega) (by omega) (fun b z => by rw [show (k + 1 - k - 1).toNat = 0 by omega]; exact Bt_one hk.1 z) (Nat.lt_succ_self _) H locs ls hX hS (lv_sub hl [2, 3, 1, 0] rfl)

theorem hd_X2_deepOf : yX2_deepOf.cls = RX2 ∧ yX2_deepOf.cls ≠ "java/lang/invoke/MethodHandle" ∧ yX2_deepOf.cls ≠ "java/lang/invoke/VarHandle" ∧ (parseMethodDescriptor yX2_deepOf.desc).map (fun d => d.parameters.length) = some 1 := by decide +kernel
abbrev rm_X2_deepOf : Room := { frames := 0, cells := 0, slots := 0, locals := 0 }
set_option maxHeartbeats 8000000 in
theorem met_X2_deepOf (l : Launch) (E : us_E) (A : Nat → Prop) (ad : Nat → Nat) (F : Nat → Int) (M : Nat → Int → Int) (k : Int) (hk : 0 ≤ k ∧ k < 20) : cMet l yX2_deepOf cX2_deepOf 4 (some .int) rm_X2_deepOf A E [.ref (ad 63), .int (zi k)] (fun H => MH E A ad F M H) (qi A (fun r H => ∃ m59 : Int → Int, (0 ≤ dp (M 57) k ∧ dp (M 57) k ≤ 20) ∧ (r = dp (M 57) k) ∧ MH E A ad F (va_up M 59 m59) H)) := by
  refine cMet.of (by decide) (Nat.le_of_ble_eq_true rfl) (fun p e s m args below meth c C hnm hX hS ls hl => ?_)
  have C : Cx p s m args meth c A RX2 cX2_deepOf 4 (some .int) E := C
  have hX : MH E A ad F M s.heap := hX
  have hl : lv_has ls 4 [(0, .ref (ad 63)), (1, .int (zi k))] := hl
  generalize hH : s.heap = H at hX
  have hS : va_S A s.heap H [] := by rw [← hH]; exact hS
  generalize hlocs : ([] : List Loc) = locs at hS ⊢
  obtain ⟨QQ, hQQ⟩ : ∃ z, MQ below (qi A (fun r H => ∃ m59 : Int → Int, (0 ≤ dp (M 57) k ∧ dp (M 57) k ≤ 20) ∧ (r = dp (M 57) k) ∧ MH E A ad F (va_up M 59 m59) H)) args s (rm_X2_deepOf).cells (rm_X2_deepOf).slots A = z := ⟨_, rfl⟩
  rw [hQQ]
  refine r_const C dX2_deepOf_0 ?_
  refine lv_istore_n (lv' := [(2, .int (zi 0)), (0, .ref (ad 63)), (1, .int (zi k))]) C.x C.b dX2_deepOf_1 rfl hl (by decide) rfl (fun ls hl => ?_)
  have L2 : ∀ (fu : Nat) (v2 : Int) (m59 : Int → Int) (h2 : 0 ≤ v2 ∧ v2 ≤ k + 1) (hd : ∀ j : Int, 0 ≤ j → j < v2 → m59 j = dp (M 57) j) (hm : Int.toNat (k + 1 - v2) < fu) (H : Heap) (locs : List Loc) (ls : Array Slot) (hX : MH E A ad F (va_up M 59 m59) H) (hS : va_S A s.heap H locs) (hl : lv_has ls 4 [(0, .ref (ad 63)), (1, .int (zi k)), (2, .int (zi v2))]), W p l e rm_X2_deepOf s m args below meth c H locs 0 0 QQ (F0 m 2 ls []) := by
    intro fu
    induction fu with
    | zero => intro v2 m59 h2 hd hm; exact absurd hm (Nat.not_lt_zero _)
    | succ fu ih2 =>
      intro v2 m59 h2 hd hm H locs ls hX hS hl
      refine lv_iload_n C.x C.b dX2_deepOf_2 rfl (lv_at hl 2 rfl) ?_
      refine lv_iload_n C.x C.b dX2_deepOf_3 rfl (lv_at hl 1 rfl) ?_
      refine r_icmp_gt (tgt := 87) C (by omega) (by omega) dX2_deepOf_4 (by decide) (fun c_1 => ?_) (fun c_1 => ?_)
      · refine lv_aload_n C.x C.b dX2_deepOf_87 rfl (lv_at hl 0 rfl) ?_
        refine mg_59 C hX dX2_deepOf_88 ?_
        refine lv_iload_n C.x C.b dX2_deepOf_91 rfl (lv_at hl 1 rfl) ?_
        refine ml_59 C hX (by omega) m59 rfl dX2_deepOf_92 (fun r92 => ?_)
        rw [← hQQ]
        exact r_iret C hS (Nat.le_of_ble_eq_true rfl) (Nat.le_of_ble_eq_true rfl) dX2_deepOf_93 ⟨m59, (by have := dp_r (on := M 57) hk.1; omega), (hd k (by omega) (by omega)), hX⟩
      · refine lv_aload_n C.x C.b dX2_deepOf_7 rfl (lv_at hl 0 rfl) ?_
        refine mg_59 C hX dX2_deepOf_8 ?_
        refine lv_iload_n C.x C.b dX2_deepOf_11 rfl (lv_at hl 2 rfl) ?_
        refine r_const C dX2_deepOf_12 ?_
        refine ms_59 C hX hS (by omega) (by omega) m59 rfl (M' := (va_up M 59 (fup m59 v2 0))) (up_up _ _ _ _) dX2_deepOf_13 (fun H locs hX hS => ?_)
        refine r_const C dX2_deepOf_14 ?_
        refine lv_istore_n (lv' := [(3, .int (zi 0)), (0, .ref (ad 63)), (1, .int (zi k)), (2, .int (zi v2))]) C.x C.b dX2_deepOf_15 rfl hl (by decide) rfl (fun ls hl => ?_)
        have L16 : ∀ (fu : Nat) (v3 : Int) (m59_16 : Int → Int) (h3 : 0 ≤ v3 ∧ v3 ≤ v2) (hd2 : ∀ j : Int, 0 ≤ j → j < v2 → m59_16 j = dp (M 57) j) (hs : m59_16 v2 = dpS (M 57) (dp (M 57)) v2 v3) (hm : Int.toNat (v2 - v3) < fu) (H : Heap) (locs : List Loc) (ls : Array Slot) (hX : MH E A ad F (va_up M 59 m59_16) H) (hS : va_S A s.heap H locs) (hl : lv_has ls 4 [(0, .ref (ad 63)), (1, .int (zi k)), (2, .int (zi v2)), (3, .int (zi v3))]), W p l e rm_X2_deepOf s m args below meth c H locs 0 0 QQ (F0 m 16 ls []) := by
          intro fu
          induction fu with
          | zero => intro v3 m59_16 h3 hd2 hs hm; exact absurd hm (Nat.not_lt_zero _)
          | succ fu ih16 =>
            intro v3 m59_16 h3 hd2 hs hm H locs ls hX hS hl
            refine lv_iload_n C.x C.b dX2_deepOf_16 rfl (lv_at hl 3 rfl) ?_
            refine lv_iload_n C.x C.b dX2_deepOf_17 rfl (lv_at hl 2 rfl) ?_
            refine r_icmp_ge (tgt := 81) C (by omega) (by omega) dX2_deepOf_18 (by decide) (fun c_2 => ?_) (fun c_2 => ?_)
            · refine r_iinc (lv' := [(2, .int (zi (v2 + 1))), (0, .ref (ad 63)), (1, .int (zi k)), (3, .int (zi v3))]) C dX2_deepOf_81 hl (k := 2) rfl (by decide) rfl (fun ls hl => ?_)
              refine lv_goto (tgt := 2) C.x C.b dX2_deepOf_84 (by decide) ?_
              exact ih2 (v2 + 1) m59_16 (by omega) (fun j a b => by rcases Int.lt_or_le j v2 with z | z; exact hd2 j a z; rw [show j = v2 by omega, hs, show v3 = v2 by omega]; exact (dp_e h2.1).symm) (by omega) H locs ls hX hS (lv_sub hl [1, 2, 0] rfl)
            · have hq3 := hd2 v3 h3.1 (by omega)
              have hq4 := dp_r (on := M 57) h3.1
              have r59 : 0 ≤ m59_16 v2 ∧ m59_16 v2 ≤ 20 := hX.2.2 59 (0, 20) rfl v2
              have r57 : 0 ≤ M 57 v2 ∧ M 57 v2 ≤ 1048575 := hX.2.2 57 (0, 1048575) rfl v2
              refine lv_aload_n C.x C.b dX2_deepOf_21 rfl (lv_at hl 0 rfl) ?_
              refine mg_59 C hX dX2_deepOf_22 ?_
              refine lv_iload_n C.x C.b dX2_deepOf_25 rfl (lv_at hl 2 rfl) ?_
              refine lv_aload_n C.x C.b dX2_deepOf_26 rfl (lv_at hl 0 rfl) ?_
              refine mg_57 C hX dX2_deepOf_27 ?_
              refine lv_iload_n C.x C.b dX2_deepOf_30 rfl (lv_at hl 2 rfl) ?_
              refine ml_57 C hX (by omega) (M 57) rfl dX2_deepOf_31 (fun r31 => ?_)
              refine lv_iload_n C.x C.b dX2_deepOf_32 rfl (lv_at hl 3 rfl) ?_
              refine r_ishr C (by omega) (by omega) rfl dX2_deepOf_33 ?_
              refine r_const C dX2_deepOf_34 ?_
              refine r_iand C (zi_and1 _) dX2_deepOf_35 ?_
              refine r_const C dX2_deepOf_36 ?_
              have J74_3 : ∀ (t2 : Int) (ht2 : t2 = sel ((((M 57 v2) / 2 ^ v3.toNat) % 2) = 1) (sel ((m59_16 v2) < ((m59_16 v3) + 1)) ((m59_16 v3) + 1) (m59_16 v2)) (m59_16 v2)) (H : Heap) (locs : List Loc) (ls : Array Slot) (hX : MH E A ad F (va_up M 59 m59_16) H) (hS : va_S A s.heap H locs) (hl : lv_has ls 4 [(0, .ref (ad 63)), (1, .int (zi k)), (2, .int (zi v2)), (3, .int (zi v3))]), W p l e rm_X2_deepOf s m args below meth c H locs 0 0 QQ (F0 m 74 ls [.int (zi t2), .int (zi v2), .ref (ad 59)]) := by
                intro t2 ht2 H locs ls hX hS hl
                subst ht2
                have hrt2 : (0 : Int) ≤ ((sel ((((M 57 v2) / 2 ^ v3.toNat) % 2) = 1) (sel ((m59_16 v2) < ((m59_16 v3) + 1)) ((m59_16 v3) + 1) (m59_16 v2)) (m59_16 v2)) : Int) ∧ ((sel ((((M 57 v2) / 2 ^ v3.toNat) % 2) = 1) (sel ((m59_16 v2) < ((m59_16 v3) + 1)) ((m59_16 v3) + 1) (m59_16 v2)) (m59_16 v2)) : Int) ≤ 20 := by
                  exact (sel_rg (fun qq => (sel_rg (fun qq => (by omega)) (fun qq => (by omega)))) (fun qq => (by omega)))
                refine ms_59 C hX hS (by omega) (by omega) m59_16 rfl (M' := (va_up M 59 (fup m59_16 v2 (sel ((((M 57 v2) / 2 ^ v3.toNat) % 2) = 1) (sel ((m59_16 v2) < ((m59_16 v3) + 1)) ((m59_16 v3) + 1) (m59_16 v2)) (m59_16 v2))))) (up_up _ _ _ _) dX2_deepOf_74 (fun H locs hX hS => ?_)
                refine r_iinc (lv' := [(3, .int (zi (v3 + 1))), (0, .ref (ad 63)), (1, .int (zi k)), (2, .int (zi v2))]) C dX2_deepOf_75 hl (k := 3) rfl (by decide) rfl (fun ls hl => ?_)
                refine lv_goto (tgt := 16) C.x C.b dX2_deepOf_78 (by decide) ?_
                exact ih16 (v3 + 1) (fup m59_16 v2 (sel ((((M 57 v2) / 2 ^ v3.toNat) % 2) = 1) (sel ((m59_16 v2) < ((m59_16 v3) + 1)) ((m59_16 v3) + 1) (m59_16 v2)) (m59_16 v2))) (by omega) (fun j a b => by rw [fup_n _ _ (by omega)]; exact hd2 j a b) (by rw [fup_s, dpS_s h3.1, ← hs, ← hd2 v3 h3.1 (by omega)]; exact sel_and) (by omega) H locs ls hX hS (lv_sub hl [1, 2, 3, 0] rfl)
              refine r_icmp_ne (tgt := 68) C (by omega) (by decide) dX2_deepOf_37 (by decide) (fun c_4 => ?_) (fun c_4 => ?_)
              · refine lv_aload_n C.x C.b dX2_deepOf_68 rfl (lv_at hl 0 rfl) ?_
                refine mg_59 C hX dX2_deepOf_69 ?_
                refine lv_iload_n C.x C.b dX2_deepOf_72 rfl (lv_at hl 2 rfl) ?_
                refine ml_59 C hX (by omega) m59_16 rfl dX2_deepOf_73 (fun r73 => ?_)
                exact J74_3 (m59_16 v2) ((sel_f c_4).symm) H locs ls hX hS hl
              · refine lv_aload_n C.x C.b dX2_deepOf_40 rfl (lv_at hl 0 rfl) ?_
                refine mg_59 C hX dX2_deepOf_41 ?_
                refine lv_iload_n C.x C.b dX2_deepOf_44 rfl (lv_at hl 3 rfl) ?_
                refine ml_59 C hX (by omega) m59_16 rfl dX2_deepOf_45 (fun r45 => ?_)
                refine r_const C dX2_deepOf_46 ?_
                refine r_iadd C dX2_deepOf_47 ?_
                refine lv_aload_n C.x C.b dX2_deepOf_48 rfl (lv_at hl 0 rfl) ?_
                refine mg_59 C hX dX2_deepOf_49 ?_
                refine lv_iload_n C.x C.b dX2_deepOf_52 rfl (lv_at hl 2 rfl) ?_
                refine ml_59 C hX (by omega) m59_16 rfl dX2_deepOf_53 (fun r53 => ?_)
                refine r_icmp_le (tgt := 68) C (by omega) (by omega) dX2_deepOf_54 (by decide) (fun c_5 => ?_) (fun c_5 => ?_)
                · refine lv_aload_n C.x C.b dX2_deepOf_68 rfl (lv_at hl 0 rfl) ?_
                  refine mg_59 C hX dX2_deepOf_69 ?_
                  refine lv_iload_n C.x C.b dX2_deepOf_72 rfl (lv_at hl 2 rfl) ?_
                  refine ml_59 C hX (by omega) m59_16 rfl dX2_deepOf_73 (fun _ => ?_)
                  exact J74_3 (m59_16 v2) (((sel_t c_4).trans (sel_f c_5)).symm) H locs ls hX hS hl
                · refine lv_aload_n C.x C.b dX2_deepOf_57 rfl (lv_at hl 0 rfl) ?_
                  refine mg_59 C hX dX2_deepOf_58 ?_
                  refine lv_iload_n C.x C.b dX2_deepOf_61 rfl (lv_at hl 3 rfl) ?_
                  refine ml_59 C hX (by omega) m59_16 rfl dX2_deepOf_62 (fun _ => ?_)
                  refine r_const C dX2_deepOf_63 ?_
                  refine r_iadd C dX2_deepOf_64 ?_
                  refine lv_goto (tgt := 74) C.x C.b dX2_deepOf_65 (by decide) ?_
                  exact J74_3 ((m59_16 v3) + 1) (((sel_t c_4).trans (sel_t c_5)).symm) H locs ls hX hS hl
        exact L16 _ 0 (fup m59 v2 0) (by omega) (fun j a b => by rw [fup_n _ _ (by omega)]; exact hd j a b) (by rw [fup_s]; rfl) (Nat.lt_succ_self _) H locs ls hX hS (lv_sub hl [1, 2, 3, 0] rfl)
  exact L2 _ 0 (M 59) (by omega) (fun j a b => absurd a (by omega)) (Nat.lt_succ_self _) H locs ls (hX.to rfl ((up_id M (k := 59) (a := (M 59)) rfl).symm.trans rfl)) hS (lv_sub hl [1, 2, 0] rfl)

theorem hd_X2_claim : yX2_claim.cls = RX2 ∧ yX2_claim.cls ≠ "java/lang/invoke/MethodHandle" ∧ yX2_claim.cls ≠ "java/lang/invoke/VarHandle" ∧ (parseMethodDescriptor yX2_claim.desc).map (fun d => d.parameters.length) = some 2 := by decide +kernel
abbrev rm_X2_claim : Room := { frames := 2, cells := 0, slots := 0, locals := 46 }
set_option maxHeartbeats 8000000 in
theorem met_X2_claim (l : Launch) (E : us_E) (A : Nat → Prop) (ad : Nat → Nat) (F : Nat → Int) (M : Nat → Int → Int) (k : Int) (w : Int) (hk : -2147483648 ≤ k ∧ k < 2147483648) (hw : -2147483648 ≤ w ∧ w < 2147483648) : cMet l yX2_claim cX2_claim 6 (some .int) rm_X2_claim A E [.ref (ad 63), .int (zi k), .int (zi w)] (fun H => MH E A ad F M H) (qi A (fun r H => ∃ m59 : Int → Int, (r = sel ((0 ≤ k ∧ k < F 52) ∧ (0 ≤ w ∧ w ≤ 6)) (sel (w = 0) (M 53 k) (sel (w = 1) (M 54 k) (sel (w = 2) (M 55 k) (sel (w = 3) (M 56 k) (sel (w = 4) (bits (M 57 k)) (sel (w = 5) (c5m (M 57) (M 56) k (F 52)) (dp (M 57) k))))))) (-1)) ∧ MH E A ad F (va_up M 59 m59) H)) := by
  refine cMet.of (by decide) (Nat.le_of_ble_eq_true rfl) (fun p e s m args below meth c C hnm hX hS ls hl => ?_)
  have C : Cx p s m args meth c A RX2 cX2_claim 6 (some .int) E := C
  have hX : MH E A ad F M s.heap := hX
  have hl : lv_has ls 6 [(0, .ref (ad 63)), (1, .int (zi k)), (2, .int (zi w))] := hl
  generalize hH : s.heap = H at hX
  have hS : va_S A s.heap H [] := by rw [← hH]; exact hS
  generalize hlocs : ([] : List Loc) = locs at hS ⊢
  obtain ⟨QQ, hQQ⟩ : ∃ z, MQ below (qi A (fun r H => ∃ m59 : Int → Int, (r = sel ((0 ≤ k ∧ k < F 52) ∧ (0 ≤ w ∧ w ≤ 6)) (sel (w = 0) (M 53 k) (sel (w = 1) (M 54 k) (sel (w = 2) (M 55 k) (sel (w = 3) (M 56 k) (sel (w = 4) (bits (M 57 k)) (sel (w = 5) (c5m (M 57) (M 56) k (F 52)) (dp (M 57) k))))))) (-1)) ∧ MH E A ad F (va_up M 59 m59) H)) args s (rm_X2_claim).cells (rm_X2_claim).slots A = z := ⟨_, rfl⟩
  rw [hQQ]
  have rF52 : 0 ≤ F 52 ∧ F 52 ≤ 20 := hX.2.1 52 (0, 20) rfl
  refine lv_aload_n C.x C.b dX2_claim_0 rfl (lv_at hl 0 rfl) ?_
  refine lv_iload_n C.x C.b dX2_claim_1 rfl (lv_at hl 1 rfl) ?_
  refine r_callVi (As := [.int (zi k)]) (rest := []) (cells' := 0) (slots' := 0) C (met_X2_isClaim l E A ad F M k (show -2147483648 ≤ k ∧ k < 2147483648 from (by omega))) (lw_V q1510 q1512 qs82 q88 q1513) hd_X2_isClaim rfl (by decide) (m_recv C hX) hX hS hl.1 rfl (Nat.le_of_ble_eq_true rfl) dX2_claim_2 rfl rfl ⟨Nat.le_of_ble_eq_true rfl, Nat.le_of_ble_eq_true rfl⟩ (fun rr H locs hp hS => ?_)
  obtain ⟨hrr, hX⟩ := hp
  have hrr : rr = bI (0 ≤ k ∧ k < (F 52)) := hrr
  subst hrr
  refine r_if_eq_b (tgt := 20) C dX2_claim_5 (by decide) (fun c_1 => ?_) (fun c_1 => ?_)
  · refine r_const C dX2_claim_20 ?_
    rw [← hQQ]
    exact r_iret C hS (Nat.le_of_ble_eq_true rfl) (Nat.le_of_ble_eq_true rfl) dX2_claim_21 ⟨(M 59), (by first | exact Eq.symm (sel_f (fun q => absurd q.1 (by assumption))) | exact Eq.symm (sel_f (fun q => absurd q.2 (by assumption)))), (hX.to rfl ((up_id M (k := 59) (a := (M 59)) rfl).symm.trans rfl))⟩
  · refine lv_iload_n C.x C.b dX2_claim_8 rfl (lv_at hl 2 rfl) ?_
    refine r_i2l C (by omega) dX2_claim_9 ?_
    refine r_lconst C 0 rfl dX2_claim_10 ?_
    refine r_ldc2 C 6 (by decide) q1408 dX2_claim_11 ?_
    refine r_callSi (As := [.long (zl w), .long (zl 0), .long (zl 6)]) (rest := []) (cells' := 0) (slots' := 0) C (met_X2_in l E A ad H w 0 6 (show -9223372036854775808 ≤ w ∧ w < 9223372036854775808 from (by omega)) (show -9223372036854775808 ≤ (0 : Int) ∧ (0 : Int) < 9223372036854775808 from (by omega)) (show -9223372036854775808 ≤ (6 : Int) ∧ (6 : Int) < 9223372036854775808 from (by omega))) (lw_S q1209 q1210 q88 q1211) hd_X2_in rfl (by decide) rfl hS hl.1 rfl (Nat.le_of_ble_eq_true rfl) dX2_claim_14 rfl rfl ⟨Nat.le_of_ble_eq_true rfl, Nat.le_of_ble_eq_true rfl⟩ (fun rr H locs hp hS => ?_)
    obtain ⟨hrr, hH⟩ := hp
    have hrr : rr = bI ((0 : Int) ≤ w ∧ w ≤ (6 : Int)) := hrr
    subst hrr
    have hX : MH E A ad F M H := by rw [hH]; exact hX
    refine r_if_ne_b (tgt := 22) C dX2_claim_17 (by decide) (fun c_2 => ?_) (fun c_2 => ?_)
    · refine lv_iload_n C.x C.b dX2_claim_22 rfl (lv_at hl 2 rfl) ?_
      rcases (show w = 0 ∨ w = 1 ∨ w = 2 ∨ w = 3 ∨ w = 4 ∨ w = 5 ∨ (w < 0 ∨ 5 < w) by omega) with cs | cs | cs | cs | cs | cs | cs
      · refine r_tswIn (k := 0) (tgt := 60) (off := 37) C cs (by omega) dX2_claim_23 (by decide) rfl (by decide) ?_
        refine lv_aload_n C.x C.b dX2_claim_60 rfl (lv_at hl 0 rfl) ?_
        refine mg_53 C hX dX2_claim_61 ?_
        refine lv_iload_n C.x C.b dX2_claim_64 rfl (lv_at hl 1 rfl) ?_
        refine ml_53 C hX (by omega) (M 53) rfl dX2_claim_65 (fun r65 => ?_)
        rw [← hQQ]
        exact r_iret C hS (Nat.le_of_ble_eq_true rfl) (Nat.le_of_ble_eq_true rfl) dX2_claim_66 ⟨(M 59), (by rw [sel_t (c := (0 ≤ k ∧ k < F 52) ∧ (0 ≤ w ∧ w ≤ 6)) ⟨by assumption, by assumption⟩]; (repeat first | rw [sel_t (by omega)] | rw [sel_f (by omega)]) <;> first | rfl | assumption | omega), (hX.to rfl ((up_id M (k := 59) (a := (M 59)) rfl).symm.trans rfl))⟩
      · refine r_tswIn (k := 1) (tgt := 67) (off := 44) C cs (by omega) dX2_claim_23 (by decide) rfl (by decide) ?_
        refine lv_aload_n C.x C.b dX2_claim_67 rfl (lv_at hl 0 rfl) ?_
        refine mg_54 C hX dX2_claim_68 ?_
        refine lv_iload_n C.x C.b dX2_claim_71 rfl (lv_at hl 1 rfl) ?_
        refine ml_54 C hX (by omega) (M 54) rfl dX2_claim_72 (fun r72 => ?_)
        rw [← hQQ]
        exact r_iret C hS (Nat.le_of_ble_eq_true rfl) (Nat.le_of_ble_eq_true rfl) dX2_claim_73 ⟨(M 59), (by rw [sel_t (c := (0 ≤ k ∧ k < F 52) ∧ (0 ≤ w ∧ w ≤ 6)) ⟨by assumption, by assumption⟩]; (repeat first | rw [sel_t (by omega)] | rw [sel_f (by omega)]) <;> first | rfl | assumption | omega), (hX.to rfl ((up_id M (k := 59) (a := (M 59)) rfl).symm.trans rfl))⟩
      · refine r_tswIn (k := 2) (tgt := 74) (off := 51) C cs (by omega) dX2_claim_23 (by decide) rfl (by decide) ?_
        refine lv_aload_n C.x C.b dX2_claim_74 rfl (lv_at hl 0 rfl) ?_
        refine mg_55 C hX dX2_claim_75 ?_
        refine lv_iload_n C.x C.b dX2_claim_78 rfl (lv_at hl 1 rfl) ?_
        refine ml_55 C hX (by omega) (M 55) rfl dX2_claim_79 (fun r79 => ?_)
        rw [← hQQ]
        exact r_iret C hS (Nat.le_of_ble_eq_true rfl) (Nat.le_of_ble_eq_true rfl) dX2_claim_80 ⟨(M 59), (by rw [sel_t (c := (0 ≤ k ∧ k < F 52) ∧ (0 ≤ w ∧ w ≤ 6)) ⟨by assumption, by assumption⟩]; (repeat first | rw [sel_t (by omega)] | rw [sel_f (by omega)]) <;> first | rfl | assumption | omega), (hX.to rfl ((up_id M (k := 59) (a := (M 59)) rfl).symm.trans rfl))⟩
      · refine r_tswIn (k := 3) (tgt := 81) (off := 58) C cs (by omega) dX2_claim_23 (by decide) rfl (by decide) ?_
        refine lv_aload_n C.x C.b dX2_claim_81 rfl (lv_at hl 0 rfl) ?_
        refine mg_56 C hX dX2_claim_82 ?_
        refine lv_iload_n C.x C.b dX2_claim_85 rfl (lv_at hl 1 rfl) ?_
        refine ml_56 C hX (by omega) (M 56) rfl dX2_claim_86 (fun r86 => ?_)
        rw [← hQQ]
        exact r_iret C hS (Nat.le_of_ble_eq_true rfl) (Nat.le_of_ble_eq_true rfl) dX2_claim_87 ⟨(M 59), (by rw [sel_t (c := (0 ≤ k ∧ k < F 52) ∧ (0 ≤ w ∧ w ≤ 6)) ⟨by assumption, by assumption⟩]; (repeat first | rw [sel_t (by omega)] | rw [sel_f (by omega)]) <;> first | rfl | assumption | omega), (hX.to rfl ((up_id M (k := 59) (a := (M 59)) rfl).symm.trans rfl))⟩
      · refine r_tswIn (k := 4) (tgt := 88) (off := 65) C cs (by omega) dX2_claim_23 (by decide) rfl (by decide) ?_
        refine lv_aload_n C.x C.b dX2_claim_88 rfl (lv_at hl 0 rfl) ?_
        refine mg_57 C hX dX2_claim_89 ?_
        refine lv_iload_n C.x C.b dX2_claim_92 rfl (lv_at hl 1 rfl) ?_
        refine ml_57 C hX (by omega) (M 57) rfl dX2_claim_93 (fun r93 => ?_)
        refine r_callSi (As := [.int (zi (M 57 k))]) (rest := []) (cells' := 0) (slots' := 0) C (met_X2_bits l E A ad H (M 57 k) (show -2147483648 ≤ (M 57 k) ∧ (M 57 k) < 2147483648 from (by omega))) (lw_S q1225 q1226 q88 q1227) hd_X2_bits rfl (by decide) rfl hS hl.1 rfl (Nat.le_of_ble_eq_true rfl) dX2_claim_94 rfl rfl ⟨Nat.le_of_ble_eq_true rfl, Nat.le_of_ble_eq_true rfl⟩ (fun rr H locs hp hS => ?_)
        obtain ⟨hrr, hH⟩ := hp
        have hrr : rr = bits (M 57 k) := hrr
        subst hrr
        have hX : MH E A ad F M H := by rw [hH]; exact hX
        rw [← hQQ]
        exact r_iret C hS (Nat.le_of_ble_eq_true rfl) (Nat.le_of_ble_eq_true rfl) dX2_claim_97 ⟨(M 59), (by rw [sel_t (c := (0 ≤ k ∧ k < F 52) ∧ (0 ≤ w ∧ w ≤ 6)) ⟨by assumption, by assumption⟩]; (repeat first | rw [sel_t (by omega)] | rw [sel_f (by omega)]) <;> first | rfl | assumption | omega), (hX.to rfl ((up_id M (k := 59) (a := (M 59)) rfl).symm.trans rfl))⟩
      · refine r_tswIn (k := 5) (tgt := 98) (off := 75) C cs (by omega) dX2_claim_23 (by decide) rfl (by decide) ?_
        refine lv_aload_n C.x C.b dX2_claim_98 rfl (lv_at hl 0 rfl) ?_
        refine lv_iload_n C.x C.b dX2_claim_99 rfl (lv_at hl 1 rfl) ?_
        refine r_callVi (As := [.int (zi k)]) (rest := []) (cells' := 0) (slots' := 0) C (met_X2_hanging l E A ad F M k (show 0 ≤ k ∧ k < (F 52) from (by omega))) (lw_V q1514 q1516 qs83 q88 q1517) hd_X2_hanging rfl (by decide) (m_recv C hX) hX hS hl.1 rfl (Nat.le_of_ble_eq_true rfl) dX2_claim_100 rfl rfl ⟨Nat.le_of_ble_eq_true rfl, Nat.le_of_ble_eq_true rfl⟩ (fun rr H locs hp hS => ?_)
        obtain ⟨r_3, hrr⟩ : ∃ z, z = rr := ⟨_, rfl⟩
        rw [← hrr] at hp ⊢
        obtain ⟨hhb, hX⟩ := hp
        replace hhb : (0 ≤ r_3 ∧ r_3 < 1048576) ∧ ∀ b : Int, 0 ≤ b → (Bt r_3 b ↔ HSm ((M 57)) k ((F 52)) b) := hhb
        refine lv_istore_n (lv' := [(3, .int (zi r_3)), (0, .ref (ad 63)), (1, .int (zi k)), (2, .int (zi w))]) C.x C.b dX2_claim_103 rfl hl (by decide) rfl (fun ls hl => ?_)
        refine r_const C dX2_claim_104 ?_
        refine lv_istore (lv' := [(4, .int (zi 0)), (3, .int (zi r_3)), (0, .ref (ad 63)), (1, .int (zi k)), (2, .int (zi w))]) C.x C.b dX2_claim_105 hl (by decide) rfl (fun ls hl => ?_)
        refine lv_iload_n C.x C.b dX2_claim_107 rfl (lv_at hl 3 rfl) ?_
        refine r_const C dX2_claim_108 ?_
        refine r_iadd C dX2_claim_109 ?_
        refine lv_istore (lv' := [(5, .int (zi (k + 1))), (4, .int (zi 0)), (3, .int (zi r_3)), (0, .ref (ad 63)), (1, .int (zi k)), (2, .int (zi w))]) C.x C.b dX2_claim_110 hl (by decide) rfl (fun ls hl => ?_)
        have L112 : ∀ (fu : Nat) (v4 : Int) (v5 : Int) (h5 : k + 1 ≤ v5 ∧ v5 ≤ F 52) (ha : v4 = isum (fun j => bI (HSm (M 57) k (F 52) (k + 1 + j) ∧ M 56 (k + 1 + j) = -4)) (v5 - k - 1)) (hm : Int.toNat (F 52 - v5) < fu) (H : Heap) (locs : List Loc) (ls : Array Slot) (hX : MH E A ad F M H) (hS : va_S A s.heap H locs) (hl : lv_has ls 6 [(0, .ref (ad 63)), (1, .int (zi k)), (2, .int (zi w)), (3, .int (zi r_3)), (4, .int (zi v4)), (5, .int (zi v5))]), W p l e rm_X2_claim s m args below meth c H locs 0 0 QQ (F0 m 112 ls []) := by
          intro fu
          induction fu with
          | zero => intro v4 v5 h5 ha hm; exact absurd hm (Nat.not_lt_zero _)
          | succ fu ih112 =>
            intro v4 v5 h5 ha hm H locs ls hX hS hl
            refine lv_iload C.x C.b dX2_claim_112 (lv_at hl 5 rfl) ?_
            refine lv_aload_n C.x C.b dX2_claim_114 rfl (lv_at hl 0 rfl) ?_
            refine mg_52 C hX (F 52) rfl dX2_claim_115 (fun _ => ?_)
            refine r_icmp_ge (tgt := 159) C (by omega) (by omega) dX2_claim_118 (by decide) (fun c_4 => ?_) (fun c_4 => ?_)
            · have hn5 : v4 = c5m (M 57) (M 56) k (F 52) := by rw [ha, show v5 = F 52 by omega]; rfl
              refine lv_iload C.x C.b dX2_claim_159 (lv_at hl 4 rfl) ?_
              rw [← hQQ]
              exact r_iret C hS (Nat.le_of_ble_eq_true rfl) (Nat.le_of_ble_eq_true rfl) dX2_claim_161 ⟨(M 59), (by rw [sel_t (c := (0 ≤ k ∧ k < F 52) ∧ (0 ≤ w ∧ w ≤ 6)) ⟨by assumption, by assumption⟩]; (repeat first | rw [sel_t (by omega)] | rw [sel_f (by omega)]) <;> first | rfl | assumption | omega), (hX.to rfl ((up_id M (k := 59) (a := (M 59)) rfl).symm.trans rfl))⟩
            · refine lv_iload C.x C.b dX2_claim_121 (lv_at hl 4 rfl) ?_
              refine lv_iload_n C.x C.b dX2_claim_123 rfl (lv_at hl 3 rfl) ?_
              refine lv_iload C.x C.b dX2_claim_124 (lv_at hl 5 rfl) ?_
              refine r_ishr C (by omega) (by omega) rfl dX2_claim_126 ?_
              refine r_const C dX2_claim_127 ?_
              refine r_iand C (zi_and1 _) dX2_claim_128 ?_
              refine r_const C dX2_claim_129 ?_
              have J150_5 : ∀ (t1 : Int) (ht1 : t1 = bI ((((r_3 / 2 ^ v5.toNat) % 2) = 1) ∧ ((M 56 v5) = (-4)))) (H : Heap) (locs : List Loc) (ls : Array Slot) (hX : MH E A ad F M H) (hS : va_S A s.heap H locs) (hl : lv_has ls 6 [(0, .ref (ad 63)), (1, .int (zi k)), (2, .int (zi w)), (3, .int (zi r_3)), (4, .int (zi v4)), (5, .int (zi v5))]), W p l e rm_X2_claim s m args below meth c H locs 0 0 QQ (F0 m 150 ls [.int (zi t1), .int (zi v4)]) := by
                intro t1 ht1 H locs ls hX hS hl
                subst ht1
                refine r_iadd C dX2_claim_150 ?_
                refine lv_istore (lv' := [(4, .int (zi (v4 + (bI ((((r_3 / 2 ^ v5.toNat) % 2) = 1) ∧ ((M 56 v5) = (-4))))))), (0, .ref (ad 63)), (1, .int (zi k)), (2, .int (zi w)), (3, .int (zi r_3)), (5, .int (zi v5))]) C.x C.b dX2_claim_151 hl (by decide) rfl (fun ls hl => ?_)
                refine r_iinc (lv' := [(5, .int (zi (v5 + 1))), (4, .int (zi (v4 + (bI ((((r_3 / 2 ^ v5.toNat) % 2) = 1) ∧ ((M 56 v5) = (-4))))))), (0, .ref (ad 63)), (1, .int (zi k)), (2, .int (zi w)), (3, .int (zi r_3))]) C dX2_claim_153 hl (k := 5) rfl (by decide) rfl (fun ls hl => ?_)
                refine lv_goto (tgt := 112) C.x C.b dX2_claim_156 (by decide) ?_
                exact ih112 (v4 + (bI ((((r_3 / 2 ^ v5.toNat) % 2) = 1) ∧ ((M 56 v5) = (-4))))) (v5 + 1) (by omega) (by rw [show v5 + 1 - k - 1 = (v5 - k - 1) + 1 by omega]; exact isum_st (by omega) ha (bI_c (by rw [show k + 1 + (v5 - k - 1) = v5 by omega]; exact and_congr (hhb.2 v5 (by omega)) Iff.rfl))) (by omega) H locs ls hX hS (lv_sub hl [2, 3, 4, 5, 1, 0] rfl)
              refine r_icmp_ne (tgt := 149) C (by omega) (by decide) dX2_claim_130 (by decide) (fun c_6 => ?_) (fun c_6 => ?_)
              · refine r_const C dX2_claim_149 ?_
                exact J150_5 0 ((bI_f (fun q => c_6 q.1)).symm) H locs ls hX hS hl
              · refine lv_aload_n C.x C.b dX2_claim_133 rfl (lv_at hl 0 rfl) ?_
                refine mg_56 C hX dX2_claim_134 ?_
                refine lv_iload C.x C.b dX2_claim_137 (lv_at hl 5 rfl) ?_
                refine ml_56 C hX (by omega) (M 56) rfl dX2_claim_139 (fun r139 => ?_)
                refine r_bipush C (by decide) dX2_claim_140 ?_
                refine r_icmp_ne (tgt := 149) C (by omega) (by decide) dX2_claim_142 (by decide) (fun c_7 => ?_) (fun c_7 => ?_)
                · refine r_const C dX2_claim_149 ?_
                  exact J150_5 0 ((bI_f (fun q => c_7 q.2)).symm) H locs ls hX hS hl
                · refine r_const C dX2_claim_145 ?_
                  refine lv_goto (tgt := 150) C.x C.b dX2_claim_146 (by decide) ?_
                  exact J150_5 1 ((bI_t ⟨c_6, c_7⟩).symm) H locs ls hX hS hl
        exact L112 _ 0 (k + 1) (by omega) (by rw [show k + 1 - k - 1 = 0 by omega]; rfl) (Nat.lt_succ_self _) H locs ls hX hS (lv_sub hl [3, 4, 5, 2, 1, 0] rfl)
      · refine r_tswOut (tgt := 162) C (by omega) dX2_claim_23 cs (by decide) ?_
        refine lv_aload_n C.x C.b dX2_claim_162 rfl (lv_at hl 0 rfl) ?_
        refine lv_iload_n C.x C.b dX2_claim_163 rfl (lv_at hl 1 rfl) ?_
        refine r_callVi (As := [.int (zi k)]) (rest := []) (cells' := 0) (slots' := 0) C (met_X2_deepOf l E A ad F M k (show 0 ≤ k ∧ k < 20 from (by omega))) (lw_V q1518 q1520 qs84 q88 q1521) hd_X2_deepOf rfl (by decide) (m_recv C hX) hX hS hl.1 rfl (Nat.le_of_ble_eq_true rfl) dX2_claim_164 rfl rfl ⟨Nat.le_of_ble_eq_true rfl, Nat.le_of_ble_eq_true rfl⟩ (fun rr H locs hp hS => ?_)
        obtain ⟨m59_8, hdr, hrr, hX⟩ := hp
        have hrr : rr = dp ((M 57)) k := hrr
        subst hrr
        replace hdr : 0 ≤ dp ((M 57)) k ∧ dp ((M 57)) k ≤ 20 := hdr
        have hX : MH E A ad F (va_up M 59 m59_8) H := hX.to rfl rfl
        rw [← hQQ]
        exact r_iret C hS (Nat.le_of_ble_eq_true rfl) (Nat.le_of_ble_eq_true rfl) dX2_claim_167 ⟨m59_8, (by rw [sel_t (c := (0 ≤ k ∧ k < F 52) ∧ (0 ≤ w ∧ w ≤ 6)) ⟨by assumption, by assumption⟩]; (repeat first | rw [sel_t (by omega)] | rw [sel_f (by omega)]) <;> first | rfl | assumption | omega), hX⟩
    · refine r_const C dX2_claim_20 ?_
      rw [← hQQ]
      exact r_iret C hS (Nat.le_of_ble_eq_true rfl) (Nat.le_of_ble_eq_true rfl) dX2_claim_21 ⟨(M 59), (by first | exact Eq.symm (sel_f (fun q => absurd q.1 (by assumption))) | exact Eq.symm (sel_f (fun q => absurd q.2 (by assumption)))), (hX.to rfl ((up_id M (k := 59) (a := (M 59)) rfl).symm.trans rfl))⟩

theorem hd_X2_withdraw : yX2_withdraw.cls = RX2 ∧ yX2_withdraw.cls ≠ "java/lang/invoke/MethodHandle" ∧ yX2_withdraw.cls ≠ "java/lang/invoke/VarHandle" ∧ (parseMethodDescriptor yX2_withdraw.desc).map (fun d => d.parameters.length) = some 1 := by decide +kernel
abbrev rm_X2_withdraw : Room := { frames := 2, cells := 0, slots := 0, locals := 46 }
set_option maxHeartbeats 8000000 in
theorem met_X2_withdraw (l : Launch) (E : us_E) (A : Nat → Prop) (ad : Nat → Nat) (F : Nat → Int) (M : Nat → Int → Int) (k : Int) (hk : -2147483648 ≤ k ∧ k < 2147483648) : cMet l yX2_withdraw cX2_withdraw 5 (some .int) rm_X2_withdraw A E [.ref (ad 63), .int (zi k)] (fun H => MH E A ad F M H) (qi A (fun r H => ∃ m56 : Int → Int, (((0 ≤ k ∧ k < F 52) ∧ M 56 k = -4) → (r = wdr (M 57) (M 56) k (F 52) ∧ ∀ j : Int, 0 ≤ j → m56 j = sel (j < F 52 ∧ (HSm (M 57) k (F 52) j ∧ M 56 j = -4)) (F 58) (M 56 j))) ∧ (¬ (0 ≤ k ∧ k < F 52) → r = -1 ∧ m56 = M 56) ∧ ((0 ≤ k ∧ k < F 52) → ¬ M 56 k = -4 → r = -2 ∧ m56 = M 56) ∧ MH E A ad F (va_up M 56 m56) H)) := by
  refine cMet.of (by decide) (Nat.le_of_ble_eq_true rfl) (fun p e s m args below meth c C hnm hX hS ls hl => ?_)
  have C : Cx p s m args meth c A RX2 cX2_withdraw 5 (some .int) E := C
  have hX : MH E A ad F M s.heap := hX
  have hl : lv_has ls 5 [(0, .ref (ad 63)), (1, .int (zi k))] := hl
  generalize hH : s.heap = H at hX
  have hS : va_S A s.heap H [] := by rw [← hH]; exact hS
  generalize hlocs : ([] : List Loc) = locs at hS ⊢
  obtain ⟨QQ, hQQ⟩ : ∃ z, MQ below (qi A (fun r H => ∃ m56 : Int → Int, (((0 ≤ k ∧ k < F 52) ∧ M 56 k = -4) → (r = wdr (M 57) (M 56) k (F 52) ∧ ∀ j : Int, 0 ≤ j → m56 j = sel (j < F 52 ∧ (HSm (M 57) k (F 52) j ∧ M 56 j = -4)) (F 58) (M 56 j))) ∧ (¬ (0 ≤ k ∧ k < F 52) → r = -1 ∧ m56 = M 56) ∧ ((0 ≤ k ∧ k < F 52) → ¬ M 56 k = -4 → r = -2 ∧ m56 = M 56) ∧ MH E A ad F (va_up M 56 m56) H)) args s (rm_X2_withdraw).cells (rm_X2_withdraw).slots A = z := ⟨_, rfl⟩
  rw [hQQ]
  have rF52 : 0 ≤ F 52 ∧ F 52 ≤ 20 := hX.2.1 52 (0, 20) rfl
  have rF58 : 0 ≤ F 58 ∧ F 58 ≤ 99 := hX.2.1 58 (0, 99) rfl
  refine lv_aload_n C.x C.b dX2_withdraw_0 rfl (lv_at hl 0 rfl) ?_
  refine lv_iload_n C.x C.b dX2_withdraw_1 rfl (lv_at hl 1 rfl) ?_
  refine r_callVi (As := [.int (zi k)]) (rest := []) (cells' := 0) (slots' := 0) C (met_X2_isClaim l E A ad F M k (show -2147483648 ≤ k ∧ k < 2147483648 from (by omega))) (lw_V q1510 q1512 qs82 q88 q1513) hd_X2_isClaim rfl (by decide) (m_recv C hX) hX hS hl.1 rfl (Nat.le_of_ble_eq_true rfl) dX2_withdraw_2 rfl rfl ⟨Nat.le_of_ble_eq_true rfl, Nat.le_of_ble_eq_true rfl⟩ (fun rr H locs hp hS => ?_)
  obtain ⟨hrr, hX⟩ := hp
  have hrr : rr = bI (0 ≤ k ∧ k < (F 52)) := hrr
  subst hrr
  refine r_if_ne_b (tgt := 10) C dX2_withdraw_5 (by decide) (fun c_1 => ?_) (fun c_1 => ?_)
  · refine lv_aload_n C.x C.b dX2_withdraw_10 rfl (lv_at hl 0 rfl) ?_
    refine mg_56 C hX dX2_withdraw_11 ?_
    refine lv_iload_n C.x C.b dX2_withdraw_14 rfl (lv_at hl 1 rfl) ?_
    refine ml_56 C hX (by omega) (M 56) rfl dX2_withdraw_15 (fun r15 => ?_)
    refine r_bipush C (by decide) dX2_withdraw_16 ?_
    refine r_icmp_eq (tgt := 24) C (by omega) (by decide) dX2_withdraw_18 (by decide) (fun c_2 => ?_) (fun c_2 => ?_)
    · refine lv_aload_n C.x C.b dX2_withdraw_24 rfl (lv_at hl 0 rfl) ?_
      refine lv_iload_n C.x C.b dX2_withdraw_25 rfl (lv_at hl 1 rfl) ?_
      refine r_callVi (As := [.int (zi k)]) (rest := []) (cells' := 0) (slots' := 0) C (met_X2_hanging l E A ad F M k (show 0 ≤ k ∧ k < (F 52) from (by omega))) (lw_V q1514 q1516 qs83 q88 q1517) hd_X2_hanging rfl (by decide) (m_recv C hX) hX hS hl.1 rfl (Nat.le_of_ble_eq_true rfl) dX2_withdraw_26 rfl rfl ⟨Nat.le_of_ble_eq_true rfl, Nat.le_of_ble_eq_true rfl⟩ (fun rr H locs hp hS => ?_)
      obtain ⟨r_3, hrr⟩ : ∃ z, z = rr := ⟨_, rfl⟩
      rw [← hrr] at hp ⊢
      obtain ⟨hhb, hX⟩ := hp
      replace hhb : (0 ≤ r_3 ∧ r_3 < 1048576) ∧ ∀ b : Int, 0 ≤ b → (Bt r_3 b ↔ HSm ((M 57)) k ((F 52)) b) := hhb
      refine lv_istore_n (lv' := [(2, .int (zi r_3)), (0, .ref (ad 63)), (1, .int (zi k))]) C.x C.b dX2_withdraw_29 rfl hl (by decide) rfl (fun ls hl => ?_)
      refine r_const C dX2_withdraw_30 ?_
      refine lv_istore_n (lv' := [(3, .int (zi 0)), (2, .int (zi r_3)), (0, .ref (ad 63)), (1, .int (zi k))]) C.x C.b dX2_withdraw_31 rfl hl (by decide) rfl (fun ls hl => ?_)
      refine r_const C dX2_withdraw_32 ?_
      refine lv_istore (lv' := [(4, .int (zi 0)), (3, .int (zi 0)), (2, .int (zi r_3)), (0, .ref (ad 63)), (1, .int (zi k))]) C.x C.b dX2_withdraw_33 hl (by decide) rfl (fun ls hl => ?_)
      have L35 : ∀ (fu : Nat) (v3 : Int) (v4 : Int) (m56 : Int → Int) (h4 : 0 ≤ v4 ∧ v4 ≤ F 52) (hn : v3 = isum (fun i => bI (HSm (M 57) k (F 52) i ∧ M 56 i = -4)) v4) (hg : ∀ j : Int, 0 ≤ j → m56 j = sel (j < v4 ∧ (HSm (M 57) k (F 52) j ∧ M 56 j = -4)) (F 58) (M 56 j)) (hm : Int.toNat (F 52 - v4) < fu) (H : Heap) (locs : List Loc) (ls : Array Slot) (hX : MH E A ad F (va_up M 56 m56) H) (hS : va_S A s.heap H locs) (hl : lv_has ls 5 [(0, .ref (ad 63)), (1, .int (zi k)), (2, .int (zi r_3)), (3, .int (zi v3)), (4, .int (zi v4))]), W p l e rm_X2_withdraw s m args below meth c H locs 0 0 QQ (F0 m 35 ls []) := by
        intro fu
        induction fu with
        | zero => intro v3 v4 m56 h4 hn hg hm; exact absurd hm (Nat.not_lt_zero _)
        | succ fu ih35 =>
          intro v3 v4 m56 h4 hn hg hm H locs ls hX hS hl
          refine lv_iload C.x C.b dX2_withdraw_35 (lv_at hl 4 rfl) ?_
          refine lv_aload_n C.x C.b dX2_withdraw_37 rfl (lv_at hl 0 rfl) ?_
          refine mg_52 C hX (F 52) rfl dX2_withdraw_38 (fun _ => ?_)
          refine r_icmp_ge (tgt := 86) C (by omega) (by omega) dX2_withdraw_41 (by decide) (fun c_4 => ?_) (fun c_4 => ?_)
          · refine lv_iload_n C.x C.b dX2_withdraw_86 rfl (lv_at hl 3 rfl) ?_
            rw [← hQQ]
            exact r_iret C hS (Nat.le_of_ble_eq_true rfl) (Nat.le_of_ble_eq_true rfl) dX2_withdraw_87 ⟨m56, (fun _ => by rw [← show v4 = F 52 by omega]; exact ⟨by rw [show v4 = F 52 by omega] at hn ⊢; exact hn, by rw [show v4 = F 52 by omega] at hg ⊢; exact hg⟩), (fun q => absurd (by assumption) q), (fun _ q => absurd (by assumption) q), hX⟩
          · have hbv := hhb.2 v4 h4.1
            unfold Bt at hbv
            have hgv : m56 v4 = M 56 v4 := by rw [hg v4 h4.1, sel_f (fun q => absurd q.1 (by omega))]
            refine lv_iload_n C.x C.b dX2_withdraw_44 rfl (lv_at hl 2 rfl) ?_
            refine lv_iload C.x C.b dX2_withdraw_45 (lv_at hl 4 rfl) ?_
            refine r_ishr C (by omega) (by omega) rfl dX2_withdraw_47 ?_
            refine r_const C dX2_withdraw_48 ?_
            refine r_iand C (zi_and1 _) dX2_withdraw_49 ?_
            refine r_const C dX2_withdraw_50 ?_
            refine r_icmp_ne (tgt := 80) C (by omega) (by decide) dX2_withdraw_51 (by decide) (fun c_5 => ?_) (fun c_5 => ?_)
            · refine r_iinc (lv' := [(4, .int (zi (v4 + 1))), (0, .ref (ad 63)), (1, .int (zi k)), (2, .int (zi r_3)), (3, .int (zi v3))]) C dX2_withdraw_80 hl (k := 4) rfl (by decide) rfl (fun ls hl => ?_)
              refine lv_goto (tgt := 35) C.x C.b dX2_withdraw_83 (by decide) ?_
              exact ih35 v3 (v4 + 1) m56 (by omega) (by first | exact isum_st h4.1 hn (bI_t ⟨hbv.1 (by assumption), by omega⟩).symm | (rw [isum_s h4.1, ← hn, bI_f (fun q => by first | exact absurd (hbv.2 q.1) (by assumption) | exact absurd q.2 (by omega))]; omega)) (by first | exact gone_yes (P := fun i => HSm (M 57) k (F 52) i ∧ M 56 i = -4) hg ⟨hbv.1 (by assumption), by omega⟩ | exact gone_no (P := fun i => HSm (M 57) k (F 52) i ∧ M 56 i = -4) hg (fun q => by first | exact absurd (hbv.2 q.1) (by assumption) | exact absurd q.2 (by omega))) (by omega) H locs ls hX hS (lv_sub hl [1, 2, 3, 4, 0] rfl)
            · refine lv_aload_n C.x C.b dX2_withdraw_54 rfl (lv_at hl 0 rfl) ?_
              refine mg_56 C hX dX2_withdraw_55 ?_
              refine lv_iload C.x C.b dX2_withdraw_58 (lv_at hl 4 rfl) ?_
              refine ml_56 C hX (by omega) m56 rfl dX2_withdraw_60 (fun r60 => ?_)
              refine r_bipush C (by decide) dX2_withdraw_61 ?_
              refine r_icmp_ne (tgt := 80) C (by omega) (by decide) dX2_withdraw_63 (by decide) (fun c_6 => ?_) (fun c_6 => ?_)
              · refine r_iinc (lv' := [(4, .int (zi (v4 + 1))), (0, .ref (ad 63)), (1, .int (zi k)), (2, .int (zi r_3)), (3, .int (zi v3))]) C dX2_withdraw_80 hl (k := 4) rfl (by decide) rfl (fun ls hl => ?_)
                refine lv_goto (tgt := 35) C.x C.b dX2_withdraw_83 (by decide) ?_
                exact ih35 v3 (v4 + 1) m56 (by omega) (by first | exact isum_st h4.1 hn (bI_t ⟨hbv.1 (by assumption), by omega⟩).symm | (rw [isum_s h4.1, ← hn, bI_f (fun q => by first | exact absurd (hbv.2 q.1) (by assumption) | exact absurd q.2 (by omega))]; omega)) (by first | exact gone_yes (P := fun i => HSm (M 57) k (F 52) i ∧ M 56 i = -4) hg ⟨hbv.1 (by assumption), by omega⟩ | exact gone_no (P := fun i => HSm (M 57) k (F 52) i ∧ M 56 i = -4) hg (fun q => by first | exact absurd (hbv.2 q.1) (by assumption) | exact absurd q.2 (by omega))) (by omega) H locs ls hX hS (lv_sub hl [1, 2, 3, 4, 0] rfl)
              · refine lv_aload_n C.x C.b dX2_withdraw_66 rfl (lv_at hl 0 rfl) ?_
                refine mg_56 C hX dX2_withdraw_67 ?_
                refine lv_iload C.x C.b dX2_withdraw_70 (lv_at hl 4 rfl) ?_
                refine lv_aload_n C.x C.b dX2_withdraw_72 rfl (lv_at hl 0 rfl) ?_
                refine mg_58 C hX (F 58) rfl dX2_withdraw_73 (fun _ => ?_)
                refine ms_56 C hX hS (by omega) (by omega) m56 rfl (M' := (va_up M 56 (fup m56 v4 (F 58)))) (up_up _ _ _ _) dX2_withdraw_76 (fun H locs hX hS => ?_)
                refine r_iinc (lv' := [(3, .int (zi (v3 + 1))), (0, .ref (ad 63)), (1, .int (zi k)), (2, .int (zi r_3)), (4, .int (zi v4))]) C dX2_withdraw_77 hl (k := 3) rfl (by decide) rfl (fun ls hl => ?_)
                refine r_iinc (lv' := [(4, .int (zi (v4 + 1))), (3, .int (zi (v3 + 1))), (0, .ref (ad 63)), (1, .int (zi k)), (2, .int (zi r_3))]) C dX2_withdraw_80 hl (k := 4) rfl (by decide) rfl (fun ls hl => ?_)
                refine lv_goto (tgt := 35) C.x C.b dX2_withdraw_83 (by decide) ?_
                exact ih35 (v3 + 1) (v4 + 1) (fup m56 v4 (F 58)) (by omega) (by first | exact isum_st h4.1 hn (bI_t ⟨hbv.1 (by assumption), by omega⟩).symm | (rw [isum_s h4.1, ← hn, bI_f (fun q => by first | exact absurd (hbv.2 q.1) (by assumption) | exact absurd q.2 (by omega))]; omega)) (by first | exact gone_yes (P := fun i => HSm (M 57) k (F 52) i ∧ M 56 i = -4) hg ⟨hbv.1 (by assumption), by omega⟩ | exact gone_no (P := fun i => HSm (M 57) k (F 52) i ∧ M 56 i = -4) hg (fun q => by first | exact absurd (hbv.2 q.1) (by assumption) | exact absurd q.2 (by omega))) (by omega) H locs ls hX hS (lv_sub hl [2, 3, 4, 1, 0] rfl)
      exact L35 _ 0 0 (M 56) (by omega) rfl (fun j a => by rw [sel_f (fun q => absurd q.1 (by omega))]) (Nat.lt_succ_self _) H locs ls (hX.to rfl ((up_id M (k := 56) (a := (M 56)) rfl).symm.trans rfl)) hS (lv_sub hl [3, 4, 2, 1, 0] rfl)
    · refine r_bipush C (by decide) dX2_withdraw_21 ?_
      rw [← hQQ]
      exact r_iret C hS (Nat.le_of_ble_eq_true rfl) (Nat.le_of_ble_eq_true rfl) dX2_withdraw_23 ⟨(M 56), (fun q => absurd q.2 (by assumption)), (fun q => absurd (by assumption) q), (fun _ _ => ⟨rfl, rfl⟩), (hX.to rfl ((up_id M (k := 56) (a := (M 56)) rfl).symm.trans rfl))⟩
  · refine r_const C dX2_withdraw_8 ?_
    rw [← hQQ]
    exact r_iret C hS (Nat.le_of_ble_eq_true rfl) (Nat.le_of_ble_eq_true rfl) dX2_withdraw_9 ⟨(M 56), (fun q => absurd q.1 (by assumption)), (fun _ => ⟨rfl, rfl⟩), (fun q => absurd q (by assumption)), (hX.to rfl ((up_id M (k := 56) (a := (M 56)) rfl).symm.trans rfl))⟩

theorem hd_X2_day : yX2_day.cls = RX2 ∧ yX2_day.cls ≠ "java/lang/invoke/MethodHandle" ∧ yX2_day.cls ≠ "java/lang/invoke/VarHandle" ∧ (parseMethodDescriptor yX2_day.desc).map (fun d => d.parameters.length) = some 1 := by decide +kernel
abbrev rm_X2_day : Room := { frames := 1, cells := 0, slots := 0, locals := 25 }
set_option maxHeartbeats 8000000 in
theorem met_X2_day (l : Launch) (E : us_E) (A : Nat → Prop) (ad : Nat → Nat) (F : Nat → Int) (M : Nat → Int → Int) (d : Int) (hd : -2147483648 ≤ d ∧ d < 2147483648) : cMet l yX2_day cX2_day 3 (some .int) rm_X2_day A E [.ref (ad 63), .int (zi d)] (fun H => MH E A ad F M H) (qi A (fun r H => ∃ f58 : Int, (f58 = sel (F 58 ≤ d ∧ d ≤ 99) d (F 58)) ∧ (r = sel (F 58 ≤ d ∧ d ≤ 99) (F 58) (-1)) ∧ MH E A ad (va_up F 58 f58) M H)) := by
  refine cMet.of (by decide) (Nat.le_of_ble_eq_true rfl) (fun p e s m args below meth c C hnm hX hS ls hl => ?_)
  have C : Cx p s m args meth c A RX2 cX2_day 3 (some .int) E := C
  have hX : MH E A ad F M s.heap := hX
  have hl : lv_has ls 3 [(0, .ref (ad 63)), (1, .int (zi d))] := hl
  generalize hH : s.heap = H at hX
  have hS : va_S A s.heap H [] := by rw [← hH]; exact hS
  generalize hlocs : ([] : List Loc) = locs at hS ⊢
  obtain ⟨QQ, hQQ⟩ : ∃ z, MQ below (qi A (fun r H => ∃ f58 : Int, (f58 = sel (F 58 ≤ d ∧ d ≤ 99) d (F 58)) ∧ (r = sel (F 58 ≤ d ∧ d ≤ 99) (F 58) (-1)) ∧ MH E A ad (va_up F 58 f58) M H)) args s (rm_X2_day).cells (rm_X2_day).slots A = z := ⟨_, rfl⟩
  rw [hQQ]
  have rF58 : 0 ≤ F 58 ∧ F 58 ≤ 99 := hX.2.1 58 (0, 99) rfl
  refine lv_iload_n C.x C.b dX2_day_0 rfl (lv_at hl 1 rfl) ?_
  refine r_i2l C (by omega) dX2_day_1 ?_
  refine lv_aload_n C.x C.b dX2_day_2 rfl (lv_at hl 0 rfl) ?_
  refine mg_58 C hX (F 58) rfl dX2_day_3 (fun _ => ?_)
  refine r_i2l C (by omega) dX2_day_6 ?_
  refine r_ldc2 C 99 (by decide) q1530 dX2_day_7 ?_
  refine r_callSi (As := [.long (zl d), .long (zl (F 58)), .long (zl 99)]) (rest := []) (cells' := 0) (slots' := 0) C (met_X2_in l E A ad H d (F 58) 99 (show -9223372036854775808 ≤ d ∧ d < 9223372036854775808 from (by omega)) (show -9223372036854775808 ≤ (F 58) ∧ (F 58) < 9223372036854775808 from (by omega)) (show -9223372036854775808 ≤ (99 : Int) ∧ (99 : Int) < 9223372036854775808 from (by omega))) (lw_S q1209 q1210 q88 q1211) hd_X2_in rfl (by decide) rfl hS hl.1 rfl (Nat.le_of_ble_eq_true rfl) dX2_day_10 rfl rfl ⟨Nat.le_of_ble_eq_true rfl, Nat.le_of_ble_eq_true rfl⟩ (fun rr H locs hp hS => ?_)
  obtain ⟨hrr, hH⟩ := hp
  have hrr : rr = bI ((F 58) ≤ d ∧ d ≤ (99 : Int)) := hrr
  subst hrr
  have hX : MH E A ad F M H := by rw [hH]; exact hX
  refine r_if_ne_b (tgt := 18) C dX2_day_13 (by decide) (fun c_1 => ?_) (fun c_1 => ?_)
  · refine lv_aload_n C.x C.b dX2_day_18 rfl (lv_at hl 0 rfl) ?_
    refine mg_58 C hX (F 58) rfl dX2_day_19 (fun _ => ?_)
    refine lv_istore_n (lv' := [(2, .int (zi (F 58))), (0, .ref (ad 63)), (1, .int (zi d))]) C.x C.b dX2_day_22 rfl hl (by decide) rfl (fun ls hl => ?_)
    refine lv_aload_n C.x C.b dX2_day_23 rfl (lv_at hl 1 rfl) ?_
    refine lv_iload_n C.x C.b dX2_day_24 rfl (lv_at hl 2 rfl) ?_
    refine mp_58 C hX hS (by omega) (F' := (va_up F 58 d)) rfl dX2_day_25 (fun H locs hX hS => ?_)
    refine lv_iload_n C.x C.b dX2_day_28 rfl (lv_at hl 0 rfl) ?_
    rw [← hQQ]
    exact r_iret C hS (Nat.le_of_ble_eq_true rfl) (Nat.le_of_ble_eq_true rfl) dX2_day_29 ⟨d, (by first | rfl | assumption | exact (sel_t (by omega)).symm | exact (sel_f (by omega)).symm | omega), (by first | rfl | exact (sel_t (by omega)).symm | exact (sel_f (by omega)).symm | omega), hX⟩
  · refine r_const C dX2_day_16 ?_
    rw [← hQQ]
    exact r_iret C hS (Nat.le_of_ble_eq_true rfl) (Nat.le_of_ble_eq_true rfl) dX2_day_17 ⟨(F 58), (by first | rfl | assumption | exact (sel_t (by omega)).symm | exact (sel_f (by omega)).symm | omega), (by first | rfl | exact (sel_t (by omega)).symm | exact (sel_f (by omega)).symm | omega), (hX.to ((up_id F (k := 58) (a := (F 58)) rfl).symm.trans rfl) rfl)⟩

theorem hd_X2_known : yX2_known.cls = RX2 ∧ yX2_known.cls ≠ "java/lang/invoke/MethodHandle" ∧ yX2_known.cls ≠ "java/lang/invoke/VarHandle" ∧ (parseMethodDescriptor yX2_known.desc).map (fun d => d.parameters.length) = some 2 := by decide +kernel
abbrev rm_X2_known : Room := { frames := 1, cells := 0, slots := 0, locals := 25 }
set_option maxHeartbeats 8000000 in
theorem met_X2_known (l : Launch) (E : us_E) (A : Nat → Prop) (ad : Nat → Nat) (F : Nat → Int) (M : Nat → Int → Int) (d : Int) (w : Int) (hd : -2147483648 ≤ d ∧ d < 2147483648) (hw : -2147483648 ≤ w ∧ w < 2147483648) : cMet l yX2_known cX2_known 7 (some .int) rm_X2_known A E [.ref (ad 63), .int (zi d), .int (zi w)] (fun H => MH E A ad F M H) (qi A (fun r H => (r = sel ((0 ≤ d ∧ d ≤ 99) ∧ (0 ≤ w ∧ w ≤ 2)) (sel (w = 0) (isum (fun k => bI ((kwn (M 55) (M 56) d) k)) (F 52)) (sel (w = 1) (kFi (kwn (M 55) (M 56) d) (F 52)) (kLa (kwn (M 55) (M 56) d) (F 52)))) (-1)) ∧ MH E A ad F M H)) := by
  refine cMet.of (by decide) (Nat.le_of_ble_eq_true rfl) (fun p e s m args below meth c C hnm hX hS ls hl => ?_)
  have C : Cx p s m args meth c A RX2 cX2_known 7 (some .int) E := C
  have hX : MH E A ad F M s.heap := hX
  have hl : lv_has ls 7 [(0, .ref (ad 63)), (1, .int (zi d)), (2, .int (zi w))] := hl
  generalize hH : s.heap = H at hX
  have hS : va_S A s.heap H [] := by rw [← hH]; exact hS
  generalize hlocs : ([] : List Loc) = locs at hS ⊢
  obtain ⟨QQ, hQQ⟩ : ∃ z, MQ below (qi A (fun r H => (r = sel ((0 ≤ d ∧ d ≤ 99) ∧ (0 ≤ w ∧ w ≤ 2)) (sel (w = 0) (isum (fun k => bI ((kwn (M 55) (M 56) d) k)) (F 52)) (sel (w = 1) (kFi (kwn (M 55) (M 56) d) (F 52)) (kLa (kwn (M 55) (M 56) d) (F 52)))) (-1)) ∧ MH E A ad F M H)) args s (rm_X2_known).cells (rm_X2_known).slots A = z := ⟨_, rfl⟩
  rw [hQQ]
  have rF52 : 0 ≤ F 52 ∧ F 52 ≤ 20 := hX.2.1 52 (0, 20) rfl
  refine lv_iload_n C.x C.b dX2_known_0 rfl (lv_at hl 1 rfl) ?_
  refine r_i2l C (by omega) dX2_known_1 ?_
  refine r_lconst C 0 rfl dX2_known_2 ?_
  refine r_ldc2 C 99 (by decide) q1530 dX2_known_3 ?_
  refine r_callSi (As := [.long (zl d), .long (zl 0), .long (zl 99)]) (rest := []) (cells' := 0) (slots' := 0) C (met_X2_in l E A ad H d 0 99 (show -9223372036854775808 ≤ d ∧ d < 9223372036854775808 from (by omega)) (show -9223372036854775808 ≤ (0 : Int) ∧ (0 : Int) < 9223372036854775808 from (by omega)) (show -9223372036854775808 ≤ (99 : Int) ∧ (99 : Int) < 9223372036854775808 from (by omega))) (lw_S q1209 q1210 q88 q1211) hd_X2_in rfl (by decide) rfl hS hl.1 rfl (Nat.le_of_ble_eq_true rfl) dX2_known_6 rfl rfl ⟨Nat.le_of_ble_eq_true rfl, Nat.le_of_ble_eq_true rfl⟩ (fun rr H locs hp hS => ?_)
  obtain ⟨hrr, hH⟩ := hp
  have hrr : rr = bI ((0 : Int) ≤ d ∧ d ≤ (99 : Int)) := hrr
  subst hrr
  have hX : MH E A ad F M H := by rw [hH]; exact hX
  refine r_if_eq_b (tgt := 24) C dX2_known_9 (by decide) (fun c_1 => ?_) (fun c_1 => ?_)
  · refine r_const C dX2_known_24 ?_
    rw [← hQQ]
    exact r_iret C hS (Nat.le_of_ble_eq_true rfl) (Nat.le_of_ble_eq_true rfl) dX2_known_25 ⟨(by first | exact Eq.symm (sel_f (fun q => absurd q.1 (by assumption))) | exact Eq.symm (sel_f (fun q => absurd q.2 (by assumption)))), hX⟩
  · refine lv_iload_n C.x C.b dX2_known_12 rfl (lv_at hl 2 rfl) ?_
    refine r_i2l C (by omega) dX2_known_13 ?_
    refine r_lconst C 0 rfl dX2_known_14 ?_
    refine r_ldc2 C 2 (by decide) q1292 dX2_known_15 ?_
    refine r_callSi (As := [.long (zl w), .long (zl 0), .long (zl 2)]) (rest := []) (cells' := 0) (slots' := 0) C (met_X2_in l E A ad H w 0 2 (show -9223372036854775808 ≤ w ∧ w < 9223372036854775808 from (by omega)) (show -9223372036854775808 ≤ (0 : Int) ∧ (0 : Int) < 9223372036854775808 from (by omega)) (show -9223372036854775808 ≤ (2 : Int) ∧ (2 : Int) < 9223372036854775808 from (by omega))) (lw_S q1209 q1210 q88 q1211) hd_X2_in rfl (by decide) rfl hS hl.1 rfl (Nat.le_of_ble_eq_true rfl) dX2_known_18 rfl rfl ⟨Nat.le_of_ble_eq_true rfl, Nat.le_of_ble_eq_true rfl⟩ (fun rr H locs hp hS => ?_)
    obtain ⟨hrr, hH⟩ := hp
    have hrr : rr = bI ((0 : Int) ≤ w ∧ w ≤ (2 : Int)) := hrr
    subst hrr
    have hX : MH E A ad F M H := by rw [hH]; exact hX
    refine r_if_ne_b (tgt := 26) C dX2_known_21 (by decide) (fun c_2 => ?_) (fun c_2 => ?_)
    · refine r_const C dX2_known_26 ?_
      refine lv_istore_n (lv' := [(3, .int (zi 0)), (0, .ref (ad 63)), (1, .int (zi d)), (2, .int (zi w))]) C.x C.b dX2_known_27 rfl hl (by decide) rfl (fun ls hl => ?_)
      refine r_bipush C (by decide) dX2_known_28 ?_
      refine lv_istore (lv' := [(4, .int (zi (-4))), (3, .int (zi 0)), (0, .ref (ad 63)), (1, .int (zi d)), (2, .int (zi w))]) C.x C.b dX2_known_30 hl (by decide) rfl (fun ls hl => ?_)
      refine r_bipush C (by decide) dX2_known_32 ?_
      refine lv_istore (lv' := [(5, .int (zi (-4))), (4, .int (zi (-4))), (3, .int (zi 0)), (0, .ref (ad 63)), (1, .int (zi d)), (2, .int (zi w))]) C.x C.b dX2_known_34 hl (by decide) rfl (fun ls hl => ?_)
      refine r_const C dX2_known_36 ?_
      refine lv_istore (lv' := [(6, .int (zi 0)), (5, .int (zi (-4))), (4, .int (zi (-4))), (3, .int (zi 0)), (0, .ref (ad 63)), (1, .int (zi d)), (2, .int (zi w))]) C.x C.b dX2_known_37 hl (by decide) rfl (fun ls hl => ?_)
      have L39 : ∀ (fu : Nat) (v3 : Int) (v4 : Int) (v5 : Int) (v6 : Int) (h6 : 0 ≤ v6 ∧ v6 ≤ F 52) (ha : v3 = isum (fun k => bI ((kwn (M 55) (M 56) d) k)) v6) (hF : v4 = kFi (kwn (M 55) (M 56) d) v6) (hL : v5 = kLa (kwn (M 55) (M 56) d) v6) (hr4 : -4 ≤ v4 ∧ v4 < 20) (hm : Int.toNat (F 52 - v6) < fu) (H : Heap) (locs : List Loc) (ls : Array Slot) (hX : MH E A ad F M H) (hS : va_S A s.heap H locs) (hl : lv_has ls 7 [(0, .ref (ad 63)), (1, .int (zi d)), (2, .int (zi w)), (3, .int (zi v3)), (4, .int (zi v4)), (5, .int (zi v5)), (6, .int (zi v6))]), W p l e rm_X2_known s m args below meth c H locs 0 0 QQ (F0 m 39 ls []) := by
        intro fu
        induction fu with
        | zero => intro v3 v4 v5 v6 h6 ha hF hL hr4 hm; exact absurd hm (Nat.not_lt_zero _)
        | succ fu ih39 =>
          intro v3 v4 v5 v6 h6 ha hF hL hr4 hm H locs ls hX hS hl
          refine lv_iload C.x C.b dX2_known_39 (lv_at hl 6 rfl) ?_
          refine lv_aload_n C.x C.b dX2_known_41 rfl (lv_at hl 0 rfl) ?_
          refine mg_52 C hX (F 52) rfl dX2_known_42 (fun _ => ?_)
          refine r_icmp_ge (tgt := 111) C (by omega) (by omega) dX2_known_45 (by decide) (fun c_3 => ?_) (fun c_3 => ?_)
          · have e6 : v6 = F 52 := by omega
            rw [e6] at ha hF hL
            refine lv_iload_n C.x C.b dX2_known_111 rfl (lv_at hl 2 rfl) ?_
            refine r_if_ne (tgt := 119) C (by omega) dX2_known_112 (by decide) (fun c_4 => ?_) (fun c_4 => ?_)
            · refine lv_iload_n C.x C.b dX2_known_119 rfl (lv_at hl 2 rfl) ?_
              refine r_const C dX2_known_120 ?_
              refine r_icmp_ne (tgt := 129) C (by omega) (by decide) dX2_known_121 (by decide) (fun c_5 => ?_) (fun c_5 => ?_)
              · refine lv_iload C.x C.b dX2_known_129 (lv_at hl 5 rfl) ?_
                rw [← hQQ]
                exact r_iret C hS (Nat.le_of_ble_eq_true rfl) (Nat.le_of_ble_eq_true rfl) dX2_known_131 ⟨(by rw [sel_t (c := (0 ≤ d ∧ d ≤ 99) ∧ (0 ≤ w ∧ w ≤ 2)) ⟨by assumption, by assumption⟩]; first | (rw [sel_t (by assumption)]; exact ha) | (rw [sel_f (by assumption), sel_t (by assumption)]; exact hF) | (rw [sel_f (by assumption), sel_f (by assumption)]; exact hL)), hX⟩
              · refine lv_iload C.x C.b dX2_known_124 (lv_at hl 4 rfl) ?_
                refine lv_goto (tgt := 131) C.x C.b dX2_known_126 (by decide) ?_
                rw [← hQQ]
                exact r_iret C hS (Nat.le_of_ble_eq_true rfl) (Nat.le_of_ble_eq_true rfl) dX2_known_131 ⟨(by rw [sel_t (c := (0 ≤ d ∧ d ≤ 99) ∧ (0 ≤ w ∧ w ≤ 2)) ⟨by assumption, by assumption⟩]; first | (rw [sel_t (by assumption)]; exact ha) | (rw [sel_f (by assumption), sel_t (by assumption)]; exact hF) | (rw [sel_f (by assumption), sel_f (by assumption)]; exact hL)), hX⟩
            · refine lv_iload_n C.x C.b dX2_known_115 rfl (lv_at hl 3 rfl) ?_
              refine lv_goto (tgt := 131) C.x C.b dX2_known_116 (by decide) ?_
              rw [← hQQ]
              exact r_iret C hS (Nat.le_of_ble_eq_true rfl) (Nat.le_of_ble_eq_true rfl) dX2_known_131 ⟨(by rw [sel_t (c := (0 ≤ d ∧ d ≤ 99) ∧ (0 ≤ w ∧ w ≤ 2)) ⟨by assumption, by assumption⟩]; first | (rw [sel_t (by assumption)]; exact ha) | (rw [sel_f (by assumption), sel_t (by assumption)]; exact hF) | (rw [sel_f (by assumption), sel_f (by assumption)]; exact hL)), hX⟩
          · refine lv_aload_n C.x C.b dX2_known_48 rfl (lv_at hl 0 rfl) ?_
            refine mg_55 C hX dX2_known_49 ?_
            refine lv_iload C.x C.b dX2_known_52 (lv_at hl 6 rfl) ?_
            refine ml_55 C hX (by omega) (M 55) rfl dX2_known_54 (fun r54 => ?_)
            refine lv_iload_n C.x C.b dX2_known_55 rfl (lv_at hl 1 rfl) ?_
            refine r_icmp_gt (tgt := 105) C (by omega) (by omega) dX2_known_56 (by decide) (fun c_6 => ?_) (fun c_6 => ?_)
            · refine r_iinc (lv' := [(6, .int (zi (v6 + 1))), (0, .ref (ad 63)), (1, .int (zi d)), (2, .int (zi w)), (3, .int (zi v3)), (4, .int (zi v4)), (5, .int (zi v5))]) C dX2_known_105 hl (k := 6) rfl (by decide) rfl (fun ls hl => ?_)
              refine lv_goto (tgt := 39) C.x C.b dX2_known_108 (by decide) ?_
              exact ih39 v3 v4 v5 (v6 + 1) (by omega) (by first | exact isum_st h6.1 ha (bI_t (by unfold kwn; omega)).symm | (rw [isum_s h6.1, ← ha, bI_f (by unfold kwn; omega)]; omega)) (by rw [kFi_s h6.1, ← hF]; first | (rw [sel_t (c := (kwn (M 55) (M 56) d) v6) (by unfold kwn; omega)]; done) | (rw [sel_f (c := (kwn (M 55) (M 56) d) v6) (by unfold kwn; omega)]; done)) (by rw [kLa_s h6.1, ← hL]; first | (rw [sel_t (c := (kwn (M 55) (M 56) d) v6) (by unfold kwn; omega)]; done) | (rw [sel_f (c := (kwn (M 55) (M 56) d) v6) (by unfold kwn; omega)]; done)) (by first | exact hr4 | (have z := sel_rg (c := v4 = -4) (a := v6) (b := v4) (lo := -4) (hi := 19) (fun _ => by omega) (fun _ => by omega); omega)) (by omega) H locs ls hX hS (lv_sub hl [1, 2, 3, 4, 5, 6, 0] rfl)
            · refine lv_aload_n C.x C.b dX2_known_59 rfl (lv_at hl 0 rfl) ?_
              refine mg_56 C hX dX2_known_60 ?_
              refine lv_iload C.x C.b dX2_known_63 (lv_at hl 6 rfl) ?_
              refine ml_56 C hX (by omega) (M 56) rfl dX2_known_65 (fun r65 => ?_)
              refine r_bipush C (by decide) dX2_known_66 ?_
              refine r_icmp_eq (tgt := 82) C (by omega) (by decide) dX2_known_68 (by decide) (fun c_7 => ?_) (fun c_7 => ?_)
              · refine r_iinc (lv' := [(3, .int (zi (v3 + 1))), (0, .ref (ad 63)), (1, .int (zi d)), (2, .int (zi w)), (4, .int (zi v4)), (5, .int (zi v5)), (6, .int (zi v6))]) C dX2_known_82 hl (k := 3) rfl (by decide) rfl (fun ls hl => ?_)
                refine lv_iload C.x C.b dX2_known_85 (lv_at hl 4 rfl) ?_
                refine r_bipush C (by decide) dX2_known_87 ?_
                have J99_8 : ∀ (t0 : Int) (ht0 : t0 = sel (v4 = (-4)) v6 v4) (H : Heap) (locs : List Loc) (ls : Array Slot) (hX : MH E A ad F M H) (hS : va_S A s.heap H locs) (hl : lv_has ls 7 [(3, .int (zi (v3 + 1))), (0, .ref (ad 63)), (1, .int (zi d)), (2, .int (zi w)), (4, .int (zi v4)), (5, .int (zi v5)), (6, .int (zi v6))]), W p l e rm_X2_known s m args below meth c H locs 0 0 QQ (F0 m 99 ls [.int (zi t0)]) := by
                  intro t0 ht0 H locs ls hX hS hl
                  subst ht0
                  refine lv_istore (lv' := [(4, .int (zi (sel (v4 = (-4)) v6 v4))), (3, .int (zi (v3 + 1))), (0, .ref (ad 63)), (1, .int (zi d)), (2, .int (zi w)), (5, .int (zi v5)), (6, .int (zi v6))]) C.x C.b dX2_known_99 hl (by decide) rfl (fun ls hl => ?_)
                  refine lv_iload C.x C.b dX2_known_101 (lv_at hl 6 rfl) ?_
                  refine lv_istore (lv' := [(5, .int (zi v6)), (4, .int (zi (sel (v4 = (-4)) v6 v4))), (3, .int (zi (v3 + 1))), (0, .ref (ad 63)), (1, .int (zi d)), (2, .int (zi w)), (6, .int (zi v6))]) C.x C.b dX2_known_103 hl (by decide) rfl (fun ls hl => ?_)
                  refine r_iinc (lv' := [(6, .int (zi (v6 + 1))), (5, .int (zi v6)), (4, .int (zi (sel (v4 = (-4)) v6 v4))), (3, .int (zi (v3 + 1))), (0, .ref (ad 63)), (1, .int (zi d)), (2, .int (zi w))]) C dX2_known_105 hl (k := 6) rfl (by decide) rfl (fun ls hl => ?_)
                  refine lv_goto (tgt := 39) C.x C.b dX2_known_108 (by decide) ?_
                  exact ih39 (v3 + 1) (sel (v4 = (-4)) v6 v4) v6 (v6 + 1) (by omega) (by first | exact isum_st h6.1 ha (bI_t (by unfold kwn; omega)).symm | (rw [isum_s h6.1, ← ha, bI_f (by unfold kwn; omega)]; omega)) (by rw [kFi_s h6.1, ← hF]; first | (rw [sel_t (c := (kwn (M 55) (M 56) d) v6) (by unfold kwn; omega)]; done) | (rw [sel_f (c := (kwn (M 55) (M 56) d) v6) (by unfold kwn; omega)]; done)) (by rw [kLa_s h6.1, ← hL]; first | (rw [sel_t (c := (kwn (M 55) (M 56) d) v6) (by unfold kwn; omega)]; done) | (rw [sel_f (c := (kwn (M 55) (M 56) d) v6) (by unfold kwn; omega)]; done)) (by first | exact hr4 | (have z := sel_rg (c := v4 = -4) (a := v6) (b := v4) (lo := -4) (hi := 19) (fun _ => by omega) (fun _ => by omega); omega)) (by omega) H locs ls hX hS (lv_sub hl [4, 5, 6, 3, 2, 1, 0] rfl)
                refine r_icmp_ne (tgt := 97) C (by omega) (by decide) dX2_known_89 (by decide) (fun c_9 => ?_) (fun c_9 => ?_)
                · refine lv_iload C.x C.b dX2_known_97 (lv_at hl 4 rfl) ?_
                  exact J99_8 v4 ((sel_f c_9).symm) H locs ls hX hS hl
                · refine lv_iload C.x C.b dX2_known_92 (lv_at hl 6 rfl) ?_
                  refine lv_goto (tgt := 99) C.x C.b dX2_known_94 (by decide) ?_
                  exact J99_8 v6 ((sel_t c_9).symm) H locs ls hX hS hl
              · refine lv_aload_n C.x C.b dX2_known_71 rfl (lv_at hl 0 rfl) ?_
                refine mg_56 C hX dX2_known_72 ?_
                refine lv_iload C.x C.b dX2_known_75 (lv_at hl 6 rfl) ?_
                refine ml_56 C hX (by omega) (M 56) rfl dX2_known_77 (fun _ => ?_)
                refine lv_iload_n C.x C.b dX2_known_78 rfl (lv_at hl 1 rfl) ?_
                refine r_icmp_le (tgt := 105) C (by omega) (by omega) dX2_known_79 (by decide) (fun c_10 => ?_) (fun c_10 => ?_)
                · refine r_iinc (lv' := [(6, .int (zi (v6 + 1))), (0, .ref (ad 63)), (1, .int (zi d)), (2, .int (zi w)), (3, .int (zi v3)), (4, .int (zi v4)), (5, .int (zi v5))]) C dX2_known_105 hl (k := 6) rfl (by decide) rfl (fun ls hl => ?_)
                  refine lv_goto (tgt := 39) C.x C.b dX2_known_108 (by decide) ?_
                  exact ih39 v3 v4 v5 (v6 + 1) (by omega) (by first | exact isum_st h6.1 ha (bI_t (by unfold kwn; omega)).symm | (rw [isum_s h6.1, ← ha, bI_f (by unfold kwn; omega)]; omega)) (by rw [kFi_s h6.1, ← hF]; first | (rw [sel_t (c := (kwn (M 55) (M 56) d) v6) (by unfold kwn; omega)]; done) | (rw [sel_f (c := (kwn (M 55) (M 56) d) v6) (by unfold kwn; omega)]; done)) (by rw [kLa_s h6.1, ← hL]; first | (rw [sel_t (c := (kwn (M 55) (M 56) d) v6) (by unfold kwn; omega)]; done) | (rw [sel_f (c := (kwn (M 55) (M 56) d) v6) (by unfold kwn; omega)]; done)) (by first | exact hr4 | (have z := sel_rg (c := v4 = -4) (a := v6) (b := v4) (lo := -4) (hi := 19) (fun _ => by omega) (fun _ => by omega); omega)) (by omega) H locs ls hX hS (lv_sub hl [1, 2, 3, 4, 5, 6, 0] rfl)
                · refine r_iinc (lv' := [(3, .int (zi (v3 + 1))), (0, .ref (ad 63)), (1, .int (zi d)), (2, .int (zi w)), (4, .int (zi v4)), (5, .int (zi v5)), (6, .int (zi v6))]) C dX2_known_82 hl (k := 3) rfl (by decide) rfl (fun ls hl => ?_)
                  refine lv_iload C.x C.b dX2_known_85 (lv_at hl 4 rfl) ?_
                  refine r_bipush C (by decide) dX2_known_87 ?_
                  have J99_11 : ∀ (t0 : Int) (ht0 : t0 = sel (v4 = (-4)) v6 v4) (H : Heap) (locs : List Loc) (ls : Array Slot) (hX : MH E A ad F M H) (hS : va_S A s.heap H locs) (hl : lv_has ls 7 [(3, .int (zi (v3 + 1))), (0, .ref (ad 63)), (1, .int (zi d)), (2, .int (zi w)), (4, .int (zi v4)), (5, .int (zi v5)), (6, .int (zi v6))]), W p l e rm_X2_known s m args below meth c H locs 0 0 QQ (F0 m 99 ls [.int (zi t0)]) := by
                    intro t0 ht0 H locs ls hX hS hl
                    subst ht0
                    refine lv_istore (lv' := [(4, .int (zi (sel (v4 = (-4)) v6 v4))), (3, .int (zi (v3 + 1))), (0, .ref (ad 63)), (1, .int (zi d)), (2, .int (zi w)), (5, .int (zi v5)), (6, .int (zi v6))]) C.x C.b dX2_known_99 hl (by decide) rfl (fun ls hl => ?_)
                    refine lv_iload C.x C.b dX2_known_101 (lv_at hl 6 rfl) ?_
                    refine lv_istore (lv' := [(5, .int (zi v6)), (4, .int (zi (sel (v4 = (-4)) v6 v4))), (3, .int (zi (v3 + 1))), (0, .ref (ad 63)), (1, .int (zi d)), (2, .int (zi w)), (6, .int (zi v6))]) C.x C.b dX2_known_103 hl (by decide) rfl (fun ls hl => ?_)
                    refine r_iinc (lv' := [(6, .int (zi (v6 + 1))), (5, .int (zi v6)), (4, .int (zi (sel (v4 = (-4)) v6 v4))), (3, .int (zi (v3 + 1))), (0, .ref (ad 63)), (1, .int (zi d)), (2, .int (zi w))]) C dX2_known_105 hl (k := 6) rfl (by decide) rfl (fun ls hl => ?_)
                    refine lv_goto (tgt := 39) C.x C.b dX2_known_108 (by decide) ?_
                    exact ih39 (v3 + 1) (sel (v4 = (-4)) v6 v4) v6 (v6 + 1) (by omega) (by first | exact isum_st h6.1 ha (bI_t (by unfold kwn; omega)).symm | (rw [isum_s h6.1, ← ha, bI_f (by unfold kwn; omega)]; omega)) (by rw [kFi_s h6.1, ← hF]; first | (rw [sel_t (c := (kwn (M 55) (M 56) d) v6) (by unfold kwn; omega)]; done) | (rw [sel_f (c := (kwn (M 55) (M 56) d) v6) (by unfold kwn; omega)]; done)) (by rw [kLa_s h6.1, ← hL]; first | (rw [sel_t (c := (kwn (M 55) (M 56) d) v6) (by unfold kwn; omega)]; done) | (rw [sel_f (c := (kwn (M 55) (M 56) d) v6) (by unfold kwn; omega)]; done)) (by first | exact hr4 | (have z := sel_rg (c := v4 = -4) (a := v6) (b := v4) (lo := -4) (hi := 19) (fun _ => by omega) (fun _ => by omega); omega)) (by omega) H locs ls hX hS (lv_sub hl [4, 5, 6, 3, 2, 1, 0] rfl)
                  refine r_icmp_ne (tgt := 97) C (by omega) (by decide) dX2_known_89 (by decide) (fun c_12 => ?_) (fun c_12 => ?_)
                  · refine lv_iload C.x C.b dX2_known_97 (lv_at hl 4 rfl) ?_
                    exact J99_11 v4 ((sel_f c_12).symm) H locs ls hX hS hl
                  · refine lv_iload C.x C.b dX2_known_92 (lv_at hl 6 rfl) ?_
                    refine lv_goto (tgt := 99) C.x C.b dX2_known_94 (by decide) ?_
                    exact J99_11 v6 ((sel_t c_12).symm) H locs ls hX hS hl
      exact L39 _ 0 (-4) (-4) 0 (by omega) rfl rfl rfl (by omega) (Nat.lt_succ_self _) H locs ls hX hS (lv_sub hl [4, 5, 6, 3, 2, 1, 0] rfl)
    · refine r_const C dX2_known_24 ?_
      rw [← hQQ]
      exact r_iret C hS (Nat.le_of_ble_eq_true rfl) (Nat.le_of_ble_eq_true rfl) dX2_known_25 ⟨(by first | exact Eq.symm (sel_f (fun q => absurd q.1 (by assumption))) | exact Eq.symm (sel_f (fun q => absurd q.2 (by assumption)))), hX⟩

theorem hd_X2_isSheet : yX2_isSheet.cls ≠ "java/lang/invoke/MethodHandle" ∧ yX2_isSheet.cls ≠ "java/lang/invoke/VarHandle" ∧ (parseMethodDescriptor yX2_isSheet.desc).map (fun d => d.parameters.length) = some 2 := by decide +kernel
abbrev rm_X2_isSheet : Room := { frames := 1, cells := 0, slots := 0, locals := 25 }
set_option maxHeartbeats 8000000 in
theorem met_X2_isSheet (l : Launch) (E : us_E) (A : Nat → Prop) (ad : Nat → Nat) (H0 : Heap) (k : Int) (x : Int) (hk : -2147483648 ≤ k ∧ k < 2147483648) (hl0 : -2147483648 ≤ x ∧ x < 2147483648) : cMet l yX2_isSheet cX2_isSheet 2 (some .boolean) rm_X2_isSheet A E [.int (zi k), .int (zi x)] (fun H => H = H0) (qi A (fun r H => (r = bI ((0 ≤ k ∧ k ≤ 3) ∧ (0 ≤ x ∧ x ≤ 2))) ∧ (H = H0))) := by
  refine cMet.of (by decide) (Nat.le_of_ble_eq_true rfl) (fun p e s m args below meth c C hnm hX hS ls hl => ?_)
  have C : Cx p s m args meth c A RX2 cX2_isSheet 2 (some .boolean) E := C
  have hX : s.heap = H0 := hX
  have hl : lv_has ls 2 [(0, .int (zi k)), (1, .int (zi x))] := hl
  generalize hH : s.heap = H at hX
  have hS : va_S A s.heap H [] := by rw [← hH]; exact hS
  generalize hlocs : ([] : List Loc) = locs at hS ⊢
  obtain ⟨QQ, hQQ⟩ : ∃ z, MQ below (qi A (fun r H => (r = bI ((0 ≤ k ∧ k ≤ 3) ∧ (0 ≤ x ∧ x ≤ 2))) ∧ (H = H0))) args s (rm_X2_isSheet).cells (rm_X2_isSheet).slots A = z := ⟨_, rfl⟩
  rw [hQQ]
  refine lv_iload_n C.x C.b dX2_isSheet_0 rfl (lv_at hl 0 rfl) ?_
  refine r_i2l C (by omega) dX2_isSheet_1 ?_
  refine r_lconst C 0 rfl dX2_isSheet_2 ?_
  refine r_ldc2 C 3 (by decide) q1236 dX2_isSheet_3 ?_
  refine r_callSi (As := [.long (zl k), .long (zl 0), .long (zl 3)]) (rest := []) (cells' := 0) (slots' := 0) C (met_X2_in l E A ad H k 0 3 (show -9223372036854775808 ≤ k ∧ k < 9223372036854775808 from (by omega)) (show -9223372036854775808 ≤ (0 : Int) ∧ (0 : Int) < 9223372036854775808 from (by omega)) (show -9223372036854775808 ≤ (3 : Int) ∧ (3 : Int) < 9223372036854775808 from (by omega))) (lw_S q1209 q1210 q88 q1211) hd_X2_in rfl (by decide) rfl hS hl.1 rfl (Nat.le_of_ble_eq_true rfl) dX2_isSheet_6 rfl rfl ⟨Nat.le_of_ble_eq_true rfl, Nat.le_of_ble_eq_true rfl⟩ (fun rr H locs hp hS => ?_)
  obtain ⟨hrr, hH⟩ := hp
  have hrr : rr = bI ((0 : Int) ≤ k ∧ k ≤ (3 : Int)) := hrr
  subst hrr
  have hX : H = H0 := by rw [hH]; exact hX
  have J29_1 : ∀ (t0 : Int) (ht0 : t0 = bI (((0 : Int) ≤ k ∧ k ≤ (3 : Int)) ∧ ((0 : Int) ≤ x ∧ x ≤ (2 : Int)))) (H : Heap) (locs : List Loc) (ls : Array Slot) (hX : H = H0) (hS : va_S A s.heap H locs) (hl : lv_has ls 2 [(0, .int (zi k)), (1, .int (zi x))]), W p l e rm_X2_isSheet s m args below meth c H locs 0 0 QQ (F0 m 29 ls [.int (zi t0)]) := by
    intro t0 ht0 H locs ls hX hS hl
    subst ht0
    rw [← hQQ]
    exact r_zret C (bI_e _) hS (Nat.le_of_ble_eq_true rfl) (Nat.le_of_ble_eq_true rfl) dX2_isSheet_29 ⟨(bI_c (by first | exact Iff.rfl | (constructor <;> intro _ <;> omega))), hX⟩
  refine r_if_eq_b (tgt := 28) C dX2_isSheet_9 (by decide) (fun c_2 => ?_) (fun c_2 => ?_)
  · refine r_const C dX2_isSheet_28 ?_
    exact J29_1 0 ((bI_f (fun q => c_2 q.1)).symm) H locs ls hX hS hl
  · refine lv_iload_n C.x C.b dX2_isSheet_12 rfl (lv_at hl 1 rfl) ?_
    refine r_i2l C (by omega) dX2_isSheet_13 ?_
    refine r_lconst C 0 rfl dX2_isSheet_14 ?_
    refine r_ldc2 C 2 (by decide) q1292 dX2_isSheet_15 ?_
    refine r_callSi (As := [.long (zl x), .long (zl 0), .long (zl 2)]) (rest := []) (cells' := 0) (slots' := 0) C (met_X2_in l E A ad H x 0 2 (show -9223372036854775808 ≤ x ∧ x < 9223372036854775808 from (by omega)) (show -9223372036854775808 ≤ (0 : Int) ∧ (0 : Int) < 9223372036854775808 from (by omega)) (show -9223372036854775808 ≤ (2 : Int) ∧ (2 : Int) < 9223372036854775808 from (by omega))) (lw_S q1209 q1210 q88 q1211) hd_X2_in rfl (by decide) rfl hS hl.1 rfl (Nat.le_of_ble_eq_true rfl) dX2_isSheet_18 rfl rfl ⟨Nat.le_of_ble_eq_true rfl, Nat.le_of_ble_eq_true rfl⟩ (fun rr H locs hp hS => ?_)
    obtain ⟨hrr, hH⟩ := hp
    have hrr : rr = bI ((0 : Int) ≤ x ∧ x ≤ (2 : Int)) := hrr
    subst hrr
    have hX : H = H0 := by rw [hH]; exact hX
    refine r_if_eq_b (tgt := 28) C dX2_isSheet_21 (by decide) (fun c_3 => ?_) (fun c_3 => ?_)
    · refine r_const C dX2_isSheet_28 ?_
      exact J29_1 0 ((bI_f (fun q => c_3 q.2)).symm) H locs ls hX hS hl
    · refine r_const C dX2_isSheet_24 ?_
      refine lv_goto (tgt := 29) C.x C.b dX2_isSheet_25 (by decide) ?_
      exact J29_1 1 ((bI_t ⟨c_2, c_3⟩).symm) H locs ls hX hS hl

theorem hd_X2_sheet : yX2_sheet.cls = RX2 ∧ yX2_sheet.cls ≠ "java/lang/invoke/MethodHandle" ∧ yX2_sheet.cls ≠ "java/lang/invoke/VarHandle" ∧ (parseMethodDescriptor yX2_sheet.desc).map (fun d => d.parameters.length) = some 3 := by decide +kernel
abbrev rm_X2_sheet : Room := { frames := 2, cells := 0, slots := 0, locals := 46 }
set_option maxHeartbeats 8000000 in
theorem met_X2_sheet (l : Launch) (E : us_E) (A : Nat → Prop) (ad : Nat → Nat) (F : Nat → Int) (M : Nat → Int → Int) (k : Int) (x : Int) (n : Int) (hk : -2147483648 ≤ k ∧ k < 2147483648) (hx : -2147483648 ≤ x ∧ x < 2147483648) (hn : -2147483648 ≤ n ∧ n < 2147483648) : cMet l yX2_sheet cX2_sheet 5 (some .int) rm_X2_sheet A E [.ref (ad 63), .int (zi k), .int (zi x), .int (zi n)] (fun H => MH E A ad F M H) (qi A (fun r H => ∃ m60 : Int → Int, ∃ m61 : Int → Int, ∃ m62 : Int → Int, (((((0 ≤ k ∧ k ≤ 3) ∧ (0 ≤ x ∧ x ≤ 2)) ∧ ¬ 60 < n) ∧ ¬ n < 0) → m60 = fup (M 60) k x ∧ m61 = fup (M 61) k n ∧ ∀ j : Int, m62 j = sel (60 * k ≤ j ∧ j < 60 * k + 60) 0 (M 62 j)) ∧ (¬ ((((0 ≤ k ∧ k ≤ 3) ∧ (0 ≤ x ∧ x ≤ 2)) ∧ ¬ 60 < n) ∧ ¬ n < 0) → m60 = M 60 ∧ m61 = M 61 ∧ m62 = M 62) ∧ (r = sel (((0 ≤ k ∧ k ≤ 3) ∧ (0 ≤ x ∧ x ≤ 2)) ∧ ¬ 60 < n) (sel (n < 0) (-14) 1) (-1)) ∧ MH E A ad F (va_up (va_up (va_up M 60 m60) 61 m61) 62 m62) H)) := by
  refine cMet.of (by decide) (Nat.le_of_ble_eq_true rfl) (fun p e s m args below meth c C hnm hX hS ls hl => ?_)
  have C : Cx p s m args meth c A RX2 cX2_sheet 5 (some .int) E := C
  have hX : MH E A ad F M s.heap := hX
  have hl : lv_has ls 5 [(0, .ref (ad 63)), (1, .int (zi k)), (2, .int (zi x)), (3, .int (zi n))] := hl
  generalize hH : s.heap = H at hX
  have hS : va_S A s.heap H [] := by rw [← hH]; exact hS
  generalize hlocs : ([] : List Loc) = locs at hS ⊢
  obtain ⟨QQ, hQQ⟩ : ∃ z, MQ below (qi A (fun r H => ∃ m60 : Int → Int, ∃ m61 : Int → Int, ∃ m62 : Int → Int, (((((0 ≤ k ∧ k ≤ 3) ∧ (0 ≤ x ∧ x ≤ 2)) ∧ ¬ 60 < n) ∧ ¬ n < 0) → m60 = fup (M 60) k x ∧ m61 = fup (M 61) k n ∧ ∀ j : Int, m62 j = sel (60 * k ≤ j ∧ j < 60 * k + 60) 0 (M 62 j)) ∧ (¬ ((((0 ≤ k ∧ k ≤ 3) ∧ (0 ≤ x ∧ x ≤ 2)) ∧ ¬ 60 < n) ∧ ¬ n < 0) → m60 = M 60 ∧ m61 = M 61 ∧ m62 = M 62) ∧ (r = sel (((0 ≤ k ∧ k ≤ 3) ∧ (0 ≤ x ∧ x ≤ 2)) ∧ ¬ 60 < n) (sel (n < 0) (-14) 1) (-1)) ∧ MH E A ad F (va_up (va_up (va_up M 60 m60) 61 m61) 62 m62) H)) args s (rm_X2_sheet).cells (rm_X2_sheet).slots A = z := ⟨_, rfl⟩
  rw [hQQ]
  refine lv_iload_n C.x C.b dX2_sheet_0 rfl (lv_at hl 1 rfl) ?_
  refine lv_iload_n C.x C.b dX2_sheet_1 rfl (lv_at hl 2 rfl) ?_
  refine r_callSi (As := [.int (zi k), .int (zi x)]) (rest := []) (cells' := 0) (slots' := 0) C (met_X2_isSheet l E A ad H k x (show -2147483648 ≤ k ∧ k < 2147483648 from (by omega)) (show -2147483648 ≤ x ∧ x < 2147483648 from (by omega))) (lw_S q1539 q1540 q88 q1541) hd_X2_isSheet rfl (by decide) rfl hS hl.1 rfl (Nat.le_of_ble_eq_true rfl) dX2_sheet_2 rfl rfl ⟨Nat.le_of_ble_eq_true rfl, Nat.le_of_ble_eq_true rfl⟩ (fun rr H locs hp hS => ?_)
  obtain ⟨hrr, hH⟩ := hp
  have hrr : rr = bI ((0 ≤ k ∧ k ≤ 3) ∧ (0 ≤ x ∧ x ≤ 2)) := hrr
  subst hrr
  have hX : MH E A ad F M H := by rw [hH]; exact hX
  refine r_if_eq_b (tgt := 14) C dX2_sheet_5 (by decide) (fun c_1 => ?_) (fun c_1 => ?_)
  · refine r_const C dX2_sheet_14 ?_
    rw [← hQQ]
    exact r_iret C hS (Nat.le_of_ble_eq_true rfl) (Nat.le_of_ble_eq_true rfl) dX2_sheet_15 ⟨(M 60), (M 61), (M 62), (fun q => by first | exact absurd q.1.1 (by assumption) | exact absurd q.1.2 (by omega)), (fun _ => ⟨rfl, rfl, rfl⟩), (by first | exact Eq.symm (sel_f (fun q => absurd q.1 (by assumption))) | exact Eq.symm (sel_f (fun q => absurd q.2 (by omega)))), (hX.to rfl ((((up_id M (k := 60) (a := (M 60)) rfl).symm.trans rfl).trans ((up_id (va_up M 60 (M 60)) (k := 61) (a := (M 61)) rfl).symm.trans rfl)).trans ((up_id (va_up (va_up M 60 (M 60)) 61 (M 61)) (k := 62) (a := (M 62)) rfl).symm.trans rfl)))⟩
  · refine lv_iload_n C.x C.b dX2_sheet_8 rfl (lv_at hl 3 rfl) ?_
    refine r_bipush C (by decide) dX2_sheet_9 ?_
    refine r_icmp_le (tgt := 16) C (by omega) (by decide) dX2_sheet_11 (by decide) (fun c_2 => ?_) (fun c_2 => ?_)
    · have hks : (0 ≤ k ∧ k ≤ 3) ∧ (0 ≤ x ∧ x ≤ 2) := by assumption
      refine lv_iload_n C.x C.b dX2_sheet_16 rfl (lv_at hl 3 rfl) ?_
      refine r_if_ge (tgt := 23) C (by omega) dX2_sheet_17 (by decide) (fun c_3 => ?_) (fun c_3 => ?_)
      · refine lv_aload_n C.x C.b dX2_sheet_23 rfl (lv_at hl 0 rfl) ?_
        refine mg_60 C hX dX2_sheet_24 ?_
        refine lv_iload_n C.x C.b dX2_sheet_27 rfl (lv_at hl 1 rfl) ?_
        refine lv_iload_n C.x C.b dX2_sheet_28 rfl (lv_at hl 2 rfl) ?_
        refine ms_60 C hX hS (by omega) (by omega) (M 60) rfl (M' := (va_up M 60 (fup (M 60) k x))) rfl dX2_sheet_29 (fun H locs hX hS => ?_)
        refine lv_aload_n C.x C.b dX2_sheet_30 rfl (lv_at hl 0 rfl) ?_
        refine mg_61 C hX dX2_sheet_31 ?_
        refine lv_iload_n C.x C.b dX2_sheet_34 rfl (lv_at hl 1 rfl) ?_
        refine lv_iload_n C.x C.b dX2_sheet_35 rfl (lv_at hl 3 rfl) ?_
        refine ms_61 C hX hS (by omega) (by omega) (M 61) rfl (M' := (va_up (va_up M 60 (fup (M 60) k x)) 61 (fup (M 61) k n))) rfl dX2_sheet_36 (fun H locs hX hS => ?_)
        refine r_const C dX2_sheet_37 ?_
        refine lv_istore (lv' := [(4, .int (zi 0)), (0, .ref (ad 63)), (1, .int (zi k)), (2, .int (zi x)), (3, .int (zi n))]) C.x C.b dX2_sheet_38 hl (by decide) rfl (fun ls hl => ?_)
        have L40 : ∀ (fu : Nat) (v4 : Int) (m62 : Int → Int) (h4 : 0 ≤ v4 ∧ v4 ≤ 60) (hz : ∀ j : Int, m62 j = sel (60 * k ≤ j ∧ j < 60 * k + v4) 0 (M 62 j)) (hm : Int.toNat (60 - v4) < fu) (H : Heap) (locs : List Loc) (ls : Array Slot) (hX : MH E A ad F (va_up (va_up (va_up M 60 (fup (M 60) k x)) 61 (fup (M 61) k n)) 62 m62) H) (hS : va_S A s.heap H locs) (hl : lv_has ls 5 [(0, .ref (ad 63)), (1, .int (zi k)), (2, .int (zi x)), (3, .int (zi n)), (4, .int (zi v4))]), W p l e rm_X2_sheet s m args below meth c H locs 0 0 QQ (F0 m 40 ls []) := by
          intro fu
          induction fu with
          | zero => intro v4 m62 h4 hz hm; exact absurd hm (Nat.not_lt_zero _)
          | succ fu ih40 =>
            intro v4 m62 h4 hz hm H locs ls hX hS hl
            refine lv_iload C.x C.b dX2_sheet_40 (lv_at hl 4 rfl) ?_
            refine r_bipush C (by decide) dX2_sheet_42 ?_
            refine r_icmp_ge (tgt := 66) C (by omega) (by decide) dX2_sheet_44 (by decide) (fun c_4 => ?_) (fun c_4 => ?_)
            · refine r_const C dX2_sheet_66 ?_
              rw [← hQQ]
              exact r_iret C hS (Nat.le_of_ble_eq_true rfl) (Nat.le_of_ble_eq_true rfl) dX2_sheet_67 ⟨(fup (M 60) k x), (fup (M 61) k n), m62, (fun _ => ⟨rfl, rfl, by rw [show v4 = 60 by omega] at hz; exact hz⟩), (fun q => absurd ⟨⟨hks, by omega⟩, by omega⟩ q), (by rw [sel_t ⟨hks, by omega⟩, sel_f (by omega)]), hX⟩
            · refine lv_aload_n C.x C.b dX2_sheet_47 rfl (lv_at hl 0 rfl) ?_
              refine mg_62 C hX dX2_sheet_48 ?_
              refine r_bipush C (by decide) dX2_sheet_51 ?_
              refine lv_iload_n C.x C.b dX2_sheet_53 rfl (lv_at hl 1 rfl) ?_
              refine r_imul C dX2_sheet_54 ?_
              refine lv_iload C.x C.b dX2_sheet_55 (lv_at hl 4 rfl) ?_
              refine r_iadd C dX2_sheet_57 ?_
              refine r_const C dX2_sheet_58 ?_
              refine ms_62 C hX hS (by omega) (by omega) m62 rfl (M' := (va_up (va_up (va_up M 60 (fup (M 60) k x)) 61 (fup (M 61) k n)) 62 (fup m62 ((60 * k) + v4) 0))) (up_up _ _ _ _) dX2_sheet_59 (fun H locs hX hS => ?_)
              refine r_iinc (lv' := [(4, .int (zi (v4 + 1))), (0, .ref (ad 63)), (1, .int (zi k)), (2, .int (zi x)), (3, .int (zi n))]) C dX2_sheet_60 hl (k := 4) rfl (by decide) rfl (fun ls hl => ?_)
              refine lv_goto (tgt := 40) C.x C.b dX2_sheet_63 (by decide) ?_
              exact ih40 (v4 + 1) (fup m62 ((60 * k) + v4) 0) (by omega) (fun j => by by_cases e : j = 60 * k + v4; exact (by rw [e, fup_s, sel_t ⟨by omega, by omega⟩]); rw [fup_n _ _ e, hz j]; exact sel_c ⟨fun q => ⟨q.1, by omega⟩, fun q => ⟨q.1, by omega⟩⟩) (by omega) H locs ls hX hS (lv_sub hl [1, 2, 3, 4, 0] rfl)
        exact L40 _ 0 (M 62) (by omega) (fun j => (sel_f (fun q => by omega)).symm) (Nat.lt_succ_self _) H locs ls (hX.to rfl ((up_id (va_up (va_up M 60 (fup (M 60) k x)) 61 (fup (M 61) k n)) (k := 62) (a := (M 62)) rfl).symm.trans rfl)) hS (lv_sub hl [1, 2, 3, 4, 0] rfl)
      · refine r_bipush C (by decide) dX2_sheet_20 ?_
        rw [← hQQ]
        exact r_iret C hS (Nat.le_of_ble_eq_true rfl) (Nat.le_of_ble_eq_true rfl) dX2_sheet_22 ⟨(M 60), (M 61), (M 62), (fun q => absurd q.2 (by omega)), (fun _ => ⟨rfl, rfl, rfl⟩), (by rw [sel_t ⟨hks, by omega⟩, sel_t (by omega)]), (hX.to rfl ((((up_id M (k := 60) (a := (M 60)) rfl).symm.trans rfl).trans ((up_id (va_up M 60 (M 60)) (k := 61) (a := (M 61)) rfl).symm.trans rfl)).trans ((up_id (va_up (va_up M 60 (M 60)) 61 (M 61)) (k := 62) (a := (M 62)) rfl).symm.trans rfl)))⟩
    · refine r_const C dX2_sheet_14 ?_
      rw [← hQQ]
      exact r_iret C hS (Nat.le_of_ble_eq_true rfl) (Nat.le_of_ble_eq_true rfl) dX2_sheet_15 ⟨(M 60), (M 61), (M 62), (fun q => by first | exact absurd q.1.1 (by assumption) | exact absurd q.1.2 (by omega)), (fun _ => ⟨rfl, rfl, rfl⟩), (by first | exact Eq.symm (sel_f (fun q => absurd q.1 (by assumption))) | exact Eq.symm (sel_f (fun q => absurd q.2 (by omega)))), (hX.to rfl ((((up_id M (k := 60) (a := (M 60)) rfl).symm.trans rfl).trans ((up_id (va_up M 60 (M 60)) (k := 61) (a := (M 61)) rfl).symm.trans rfl)).trans ((up_id (va_up (va_up M 60 (M 60)) 61 (M 61)) (k := 62) (a := (M 62)) rfl).symm.trans rfl)))⟩

theorem hd_X2_lay : yX2_lay.cls = RX2 ∧ yX2_lay.cls ≠ "java/lang/invoke/MethodHandle" ∧ yX2_lay.cls ≠ "java/lang/invoke/VarHandle" ∧ (parseMethodDescriptor yX2_lay.desc).map (fun d => d.parameters.length) = some 3 := by decide +kernel
abbrev rm_X2_lay : Room := { frames := 2, cells := 0, slots := 0, locals := 46 }
set_option maxHeartbeats 8000000 in
theorem met_X2_lay (l : Launch) (E : us_E) (A : Nat → Prop) (ad : Nat → Nat) (F : Nat → Int) (M : Nat → Int → Int) (k : Int) (i : Int) (v : Int) (hk : -2147483648 ≤ k ∧ k < 2147483648) (hi : -2147483648 ≤ i ∧ i < 2147483648) (hv : -2147483648 ≤ v ∧ v < 2147483648) : cMet l yX2_lay cX2_lay 4 (some .int) rm_X2_lay A E [.ref (ad 63), .int (zi k), .int (zi i), .int (zi v)] (fun H => MH E A ad F M H) (qi A (fun r H => ∃ m62 : Int → Int, (m62 = sel (((0 ≤ k ∧ k ≤ 3) ∧ ¬ M 60 k = -4) ∧ (0 ≤ i ∧ i ≤ M 61 k - 1)) (fup (M 62) (60 * k + i) (nrw (M 60 k) v)) (M 62)) ∧ (r = sel (0 ≤ k ∧ k ≤ 3) (sel (M 60 k = -4) (-11) (sel (0 ≤ i ∧ i ≤ M 61 k - 1) 1 (-12))) (-1)) ∧ MH E A ad F (va_up M 62 m62) H)) := by
  refine cMet.of (by decide) (Nat.le_of_ble_eq_true rfl) (fun p e s m args below meth c C hnm hX hS ls hl => ?_)
  have C : Cx p s m args meth c A RX2 cX2_lay 4 (some .int) E := C
  have hX : MH E A ad F M s.heap := hX
  have hl : lv_has ls 4 [(0, .ref (ad 63)), (1, .int (zi k)), (2, .int (zi i)), (3, .int (zi v))] := hl
  generalize hH : s.heap = H at hX
  have hS : va_S A s.heap H [] := by rw [← hH]; exact hS
  generalize hlocs : ([] : List Loc) = locs at hS ⊢
  obtain ⟨QQ, hQQ⟩ : ∃ z, MQ below (qi A (fun r H => ∃ m62 : Int → Int, (m62 = sel (((0 ≤ k ∧ k ≤ 3) ∧ ¬ M 60 k = -4) ∧ (0 ≤ i ∧ i ≤ M 61 k - 1)) (fup (M 62) (60 * k + i) (nrw (M 60 k) v)) (M 62)) ∧ (r = sel (0 ≤ k ∧ k ≤ 3) (sel (M 60 k = -4) (-11) (sel (0 ≤ i ∧ i ≤ M 61 k - 1) 1 (-12))) (-1)) ∧ MH E A ad F (va_up M 62 m62) H)) args s (rm_X2_lay).cells (rm_X2_lay).slots A = z := ⟨_, rfl⟩
  rw [hQQ]
  have hsb := sb_r v
  have hss := ss_r v
  have r60 : -4 ≤ M 60 k ∧ M 60 k ≤ 2 := hX.2.2 60 (-4, 2) rfl k
  have r61 : 0 ≤ M 61 k ∧ M 61 k ≤ 60 := hX.2.2 61 (0, 60) rfl k
  refine lv_iload_n C.x C.b dX2_lay_0 rfl (lv_at hl 1 rfl) ?_
  refine r_const C dX2_lay_1 ?_
  refine r_callSi (As := [.int (zi k), .int (zi 0)]) (rest := []) (cells' := 0) (slots' := 0) C (met_X2_isSheet l E A ad H k 0 (show -2147483648 ≤ k ∧ k < 2147483648 from (by omega)) (show -2147483648 ≤ (0 : Int) ∧ (0 : Int) < 2147483648 from (by omega))) (lw_S q1539 q1540 q88 q1541) hd_X2_isSheet rfl (by decide) rfl hS hl.1 rfl (Nat.le_of_ble_eq_true rfl) dX2_lay_2 rfl rfl ⟨Nat.le_of_ble_eq_true rfl, Nat.le_of_ble_eq_true rfl⟩ (fun rr H locs hp hS => ?_)
  obtain ⟨hrr, hH⟩ := hp
  have hrr : rr = bI ((0 ≤ k ∧ k ≤ 3) ∧ (0 ≤ (0 : Int) ∧ (0 : Int) ≤ 2)) := hrr
  subst hrr
  have hX : MH E A ad F M H := by rw [hH]; exact hX
  refine r_if_ne_b (tgt := 10) C dX2_lay_5 (by decide) (fun c_1 => ?_) (fun c_1 => ?_)
  · have hk3 : 0 ≤ k ∧ k ≤ 3 := by first | assumption | exact (show _ ∧ _ by assumption).1
    refine lv_aload_n C.x C.b dX2_lay_10 rfl (lv_at hl 0 rfl) ?_
    refine mg_60 C hX dX2_lay_11 ?_
    refine lv_iload_n C.x C.b dX2_lay_14 rfl (lv_at hl 1 rfl) ?_
    refine ml_60 C hX (by omega) (M 60) rfl dX2_lay_15 (fun r15 => ?_)
    refine r_bipush C (by decide) dX2_lay_16 ?_
    refine r_icmp_ne (tgt := 24) C (by omega) (by decide) dX2_lay_18 (by decide) (fun c_2 => ?_) (fun c_2 => ?_)
    · refine lv_iload_n C.x C.b dX2_lay_24 rfl (lv_at hl 2 rfl) ?_
      refine r_i2l C (by omega) dX2_lay_25 ?_
      refine r_lconst C 0 rfl dX2_lay_26 ?_
      refine lv_aload_n C.x C.b dX2_lay_27 rfl (lv_at hl 0 rfl) ?_
      refine mg_61 C hX dX2_lay_28 ?_
      refine lv_iload_n C.x C.b dX2_lay_31 rfl (lv_at hl 1 rfl) ?_
      refine ml_61 C hX (by omega) (M 61) rfl dX2_lay_32 (fun r32 => ?_)
      refine r_const C dX2_lay_33 ?_
      refine r_isub C dX2_lay_34 ?_
      refine r_i2l C (by omega) dX2_lay_35 ?_
      refine r_callSi (As := [.long (zl i), .long (zl 0), .long (zl ((M 61 k) - 1))]) (rest := []) (cells' := 0) (slots' := 0) C (met_X2_in l E A ad H i 0 ((M 61 k) - 1) (show -9223372036854775808 ≤ i ∧ i < 9223372036854775808 from (by omega)) (show -9223372036854775808 ≤ (0 : Int) ∧ (0 : Int) < 9223372036854775808 from (by omega)) (show -9223372036854775808 ≤ ((M 61 k) - 1) ∧ ((M 61 k) - 1) < 9223372036854775808 from (by omega))) (lw_S q1209 q1210 q88 q1211) hd_X2_in rfl (by decide) rfl hS hl.1 rfl (Nat.le_of_ble_eq_true rfl) dX2_lay_36 rfl rfl ⟨Nat.le_of_ble_eq_true rfl, Nat.le_of_ble_eq_true rfl⟩ (fun rr H locs hp hS => ?_)
      obtain ⟨hrr, hH⟩ := hp
      have hrr : rr = bI ((0 : Int) ≤ i ∧ i ≤ ((M 61 k) - 1)) := hrr
      subst hrr
      have hX : MH E A ad F M H := by rw [hH]; exact hX
      refine r_if_ne_b (tgt := 45) C dX2_lay_39 (by decide) (fun c_3 => ?_) (fun c_3 => ?_)
      · refine lv_aload_n C.x C.b dX2_lay_45 rfl (lv_at hl 0 rfl) ?_
        refine mg_62 C hX dX2_lay_46 ?_
        refine r_bipush C (by decide) dX2_lay_49 ?_
        refine lv_iload_n C.x C.b dX2_lay_51 rfl (lv_at hl 1 rfl) ?_
        refine r_imul C dX2_lay_52 ?_
        refine lv_iload_n C.x C.b dX2_lay_53 rfl (lv_at hl 2 rfl) ?_
        refine r_iadd C dX2_lay_54 ?_
        refine lv_aload_n C.x C.b dX2_lay_55 rfl (lv_at hl 0 rfl) ?_
        refine mg_60 C hX dX2_lay_56 ?_
        refine lv_iload_n C.x C.b dX2_lay_59 rfl (lv_at hl 1 rfl) ?_
        refine ml_60 C hX (by omega) (M 60) rfl dX2_lay_60 (fun _ => ?_)
        have J85_4 : ∀ (t2 : Int) (ht2 : t2 = sel ((M 60 k) = 0) (sb v) (sel ((M 60 k) = 1) (ss v) v)) (H : Heap) (locs : List Loc) (ls : Array Slot) (hX : MH E A ad F M H) (hS : va_S A s.heap H locs) (hl : lv_has ls 4 [(0, .ref (ad 63)), (1, .int (zi k)), (2, .int (zi i)), (3, .int (zi v))]), W p l e rm_X2_lay s m args below meth c H locs 0 0 QQ (F0 m 85 ls [.int (zi t2), .int (zi ((60 * k) + i)), .ref (ad 62)]) := by
          intro t2 ht2 H locs ls hX hS hl
          subst ht2
          have hrt2 : (-2147483648 : Int) ≤ ((sel ((M 60 k) = 0) (sb v) (sel ((M 60 k) = 1) (ss v) v)) : Int) ∧ ((sel ((M 60 k) = 0) (sb v) (sel ((M 60 k) = 1) (ss v) v)) : Int) ≤ 2147483647 := by
            exact (sel_rg (fun qq => (by omega)) (fun qq => (sel_rg (fun qq => (by omega)) (fun qq => (by omega)))))
          refine ms_62 C hX hS (by omega) (by omega) (M 62) rfl (M' := (va_up M 62 (fup (M 62) ((60 * k) + i) (sel ((M 60 k) = 0) (sb v) (sel ((M 60 k) = 1) (ss v) v))))) rfl dX2_lay_85 (fun H locs hX hS => ?_)
          refine r_const C dX2_lay_86 ?_
          rw [← hQQ]
          exact r_iret C hS (Nat.le_of_ble_eq_true rfl) (Nat.le_of_ble_eq_true rfl) dX2_lay_87 ⟨(fup (M 62) ((60 * k) + i) (sel ((M 60 k) = 0) (sb v) (sel ((M 60 k) = 1) (ss v) v))), (by rw [sel_t (c := ((0 ≤ k ∧ k ≤ 3) ∧ ¬ M 60 k = -4) ∧ (0 ≤ i ∧ i ≤ M 61 k - 1)) ⟨⟨hk3, by assumption⟩, by assumption⟩]; rfl), (by rw [sel_t hk3, sel_f (by assumption), sel_t (by assumption)]), hX⟩
        refine r_if_ne (tgt := 69) C (by omega) dX2_lay_61 (by decide) (fun c_5 => ?_) (fun c_5 => ?_)
        · refine lv_aload_n C.x C.b dX2_lay_69 rfl (lv_at hl 0 rfl) ?_
          refine mg_60 C hX dX2_lay_70 ?_
          refine lv_iload_n C.x C.b dX2_lay_73 rfl (lv_at hl 1 rfl) ?_
          refine ml_60 C hX (by omega) (M 60) rfl dX2_lay_74 (fun _ => ?_)
          refine r_const C dX2_lay_75 ?_
          refine r_icmp_ne (tgt := 84) C (by omega) (by decide) dX2_lay_76 (by decide) (fun c_6 => ?_) (fun c_6 => ?_)
          · refine lv_iload_n C.x C.b dX2_lay_84 rfl (lv_at hl 3 rfl) ?_
            exact J85_4 v (((sel_f c_5).trans (sel_f c_6)).symm) H locs ls hX hS hl
          · refine lv_iload_n C.x C.b dX2_lay_79 rfl (lv_at hl 3 rfl) ?_
            refine r_i2s C dX2_lay_80 ?_
            refine lv_goto (tgt := 85) C.x C.b dX2_lay_81 (by decide) ?_
            exact J85_4 (ss v) (((sel_f c_5).trans (sel_t c_6)).symm) H locs ls hX hS hl
        · refine lv_iload_n C.x C.b dX2_lay_64 rfl (lv_at hl 3 rfl) ?_
          refine r_i2b C dX2_lay_65 ?_
          refine lv_goto (tgt := 85) C.x C.b dX2_lay_66 (by decide) ?_
          exact J85_4 (sb v) ((sel_t c_5).symm) H locs ls hX hS hl
      · refine r_bipush C (by decide) dX2_lay_42 ?_
        rw [← hQQ]
        exact r_iret C hS (Nat.le_of_ble_eq_true rfl) (Nat.le_of_ble_eq_true rfl) dX2_lay_44 ⟨(M 62), (Eq.symm (sel_f (fun q => absurd q.2 (by assumption)))), (by rw [sel_t hk3, sel_f (by assumption), sel_f (by assumption)]), (hX.to rfl ((up_id M (k := 62) (a := (M 62)) rfl).symm.trans rfl))⟩
    · refine r_bipush C (by decide) dX2_lay_21 ?_
      rw [← hQQ]
      exact r_iret C hS (Nat.le_of_ble_eq_true rfl) (Nat.le_of_ble_eq_true rfl) dX2_lay_23 ⟨(M 62), (Eq.symm (sel_f (fun q => absurd (by assumption) q.1.2))), (by rw [sel_t hk3, sel_t (by assumption)]), (hX.to rfl ((up_id M (k := 62) (a := (M 62)) rfl).symm.trans rfl))⟩
  · refine r_const C dX2_lay_8 ?_
    rw [← hQQ]
    exact r_iret C hS (Nat.le_of_ble_eq_true rfl) (Nat.le_of_ble_eq_true rfl) dX2_lay_9 ⟨(M 62), (Eq.symm (sel_f (fun q => absurd q.1.1 (by omega)))), (by rw [sel_f (by omega)]), (hX.to rfl ((up_id M (k := 62) (a := (M 62)) rfl).symm.trans rfl))⟩

theorem hd_X2_text : yX2_text.cls = RX2 ∧ yX2_text.cls ≠ "java/lang/invoke/MethodHandle" ∧ yX2_text.cls ≠ "java/lang/invoke/VarHandle" ∧ (parseMethodDescriptor yX2_text.desc).map (fun d => d.parameters.length) = some 4 := by decide +kernel
abbrev rm_X2_text : Room := { frames := 2, cells := 0, slots := 0, locals := 46 }
set_option maxHeartbeats 8000000 in
theorem met_X2_text (l : Launch) (E : us_E) (A : Nat → Prop) (ad : Nat → Nat) (F : Nat → Int) (M : Nat → Int → Int) (k : Int) (x : Int) (f : Int) (n : Int) (hk : -2147483648 ≤ k ∧ k < 2147483648) (hx : -2147483648 ≤ x ∧ x < 2147483648) (hf : -2147483648 ≤ f ∧ f < 2147483648) (hn : -2147483648 ≤ n ∧ n < 2147483648) : cMet l yX2_text cX2_text 8 (some .int) rm_X2_text A E [.ref (ad 63), .int (zi k), .int (zi x), .int (zi f), .int (zi n)] (fun H => MH E A ad F M H) (qi A (fun r H => ∃ f4 : Int, ∃ m5 : Int → Int, ∃ m6 : Int → Int, ((((((0 ≤ k ∧ k ≤ 3) ∧ (0 ≤ x ∧ x ≤ 2)) ∧ (1 ≤ n ∧ n ≤ 24)) ∧ M 60 k = x) ∧ (tsc (M 61 k) (F 0) f (fun j => M 62 (60 * k + j)) n) = 0 ∧ ¬ F 4 = 8) → f4 = F 4 + 1 ∧ m5 = fup (M 5) (F 4) n ∧ (∀ i : Int, 0 ≤ i → i < n → m6 (24 * F 4 + i) = M 62 (60 * k + (f + i))) ∧ ∀ j : Int, (j < 24 * F 4 ∨ 24 * F 4 + n ≤ j) → m6 j = M 6 j) ∧ (¬ (((((0 ≤ k ∧ k ≤ 3) ∧ (0 ≤ x ∧ x ≤ 2)) ∧ (1 ≤ n ∧ n ≤ 24)) ∧ M 60 k = x) ∧ (tsc (M 61 k) (F 0) f (fun j => M 62 (60 * k + j)) n) = 0 ∧ ¬ F 4 = 8) → f4 = F 4 ∧ m5 = M 5 ∧ m6 = M 6) ∧ (r = sel (((0 ≤ k ∧ k ≤ 3) ∧ (0 ≤ x ∧ x ≤ 2)) ∧ (1 ≤ n ∧ n ≤ 24)) (sel (M 60 k = x) (sel ((tsc (M 61 k) (F 0) f (fun j => M 62 (60 * k + j)) n) = 0) (sel (F 4 = 8) (-3) (F 4)) (tsc (M 61 k) (F 0) f (fun j => M 62 (60 * k + j)) n)) (sel (M 60 k = -4) (-11) (-13))) (-1)) ∧ MH E A ad (va_up F 4 f4) (va_up (va_up M 5 m5) 6 m6) H)) := by
  refine cMet.of (by decide) (Nat.le_of_ble_eq_true rfl) (fun p e s m args below meth c C hnm hX hS ls hl => ?_)
  have C : Cx p s m args meth c A RX2 cX2_text 8 (some .int) E := C
  have hX : MH E A ad F M s.heap := hX
  have hl : lv_has ls 8 [(0, .ref (ad 63)), (1, .int (zi k)), (2, .int (zi x)), (3, .int (zi f)), (4, .int (zi n))] := hl
  generalize hH : s.heap = H at hX
  have hS : va_S A s.heap H [] := by rw [← hH]; exact hS
  generalize hlocs : ([] : List Loc) = locs at hS ⊢
  obtain ⟨QQ, hQQ⟩ : ∃ z, MQ below (qi A (fun r H => ∃ f4 : Int, ∃ m5 : Int → Int, ∃ m6 : Int → Int, ((((((0 ≤ k ∧ k ≤ 3) ∧ (0 ≤ x ∧ x ≤ 2)) ∧ (1 ≤ n ∧ n ≤ 24)) ∧ M 60 k = x) ∧ (tsc (M 61 k) (F 0) f (fun j => M 62 (60 * k + j)) n) = 0 ∧ ¬ F 4 = 8) → f4 = F 4 + 1 ∧ m5 = fup (M 5) (F 4) n ∧ (∀ i : Int, 0 ≤ i → i < n → m6 (24 * F 4 + i) = M 62 (60 * k + (f + i))) ∧ ∀ j : Int, (j < 24 * F 4 ∨ 24 * F 4 + n ≤ j) → m6 j = M 6 j) ∧ (¬ (((((0 ≤ k ∧ k ≤ 3) ∧ (0 ≤ x ∧ x ≤ 2)) ∧ (1 ≤ n ∧ n ≤ 24)) ∧ M 60 k = x) ∧ (tsc (M 61 k) (F 0) f (fun j => M 62 (60 * k + j)) n) = 0 ∧ ¬ F 4 = 8) → f4 = F 4 ∧ m5 = M 5 ∧ m6 = M 6) ∧ (r = sel (((0 ≤ k ∧ k ≤ 3) ∧ (0 ≤ x ∧ x ≤ 2)) ∧ (1 ≤ n ∧ n ≤ 24)) (sel (M 60 k = x) (sel ((tsc (M 61 k) (F 0) f (fun j => M 62 (60 * k + j)) n) = 0) (sel (F 4 = 8) (-3) (F 4)) (tsc (M 61 k) (F 0) f (fun j => M 62 (60 * k + j)) n)) (sel (M 60 k = -4) (-11) (-13))) (-1)) ∧ MH E A ad (va_up F 4 f4) (va_up (va_up M 5 m5) 6 m6) H)) args s (rm_X2_text).cells (rm_X2_text).slots A = z := ⟨_, rfl⟩
  rw [hQQ]
  have rF0 : 0 ≤ F 0 ∧ F 0 ≤ 24 := hX.2.1 0 (0, 24) rfl
  have rF4 : 0 ≤ F 4 ∧ F 4 ≤ 8 := hX.2.1 4 (0, 8) rfl
  refine lv_iload_n C.x C.b dX2_text_0 rfl (lv_at hl 1 rfl) ?_
  refine lv_iload_n C.x C.b dX2_text_1 rfl (lv_at hl 2 rfl) ?_
  refine r_callSi (As := [.int (zi k), .int (zi x)]) (rest := []) (cells' := 0) (slots' := 0) C (met_X2_isSheet l E A ad H k x (show -2147483648 ≤ k ∧ k < 2147483648 from (by omega)) (show -2147483648 ≤ x ∧ x < 2147483648 from (by omega))) (lw_S q1539 q1540 q88 q1541) hd_X2_isSheet rfl (by decide) rfl hS hl.1 rfl (Nat.le_of_ble_eq_true rfl) dX2_text_2 rfl rfl ⟨Nat.le_of_ble_eq_true rfl, Nat.le_of_ble_eq_true rfl⟩ (fun rr H locs hp hS => ?_)
  obtain ⟨hrr, hH⟩ := hp
  have hrr : rr = bI ((0 ≤ k ∧ k ≤ 3) ∧ (0 ≤ x ∧ x ≤ 2)) := hrr
  subst hrr
  have hX : MH E A ad F M H := by rw [hH]; exact hX
  refine r_if_eq_b (tgt := 21) C dX2_text_5 (by decide) (fun c_1 => ?_) (fun c_1 => ?_)
  · refine r_const C dX2_text_21 ?_
    rw [← hQQ]
    exact r_iret C hS (Nat.le_of_ble_eq_true rfl) (Nat.le_of_ble_eq_true rfl) dX2_text_22 ⟨(F 4), (M 5), (M 6), (fun q => by first | exact absurd q.1.1.1 (by assumption) | exact absurd q.1.1.2 (by assumption)), (fun _ => ⟨rfl, rfl, rfl⟩), (by first | exact Eq.symm (sel_f (fun q => absurd q.1 (by assumption))) | exact Eq.symm (sel_f (fun q => absurd q.2 (by assumption)))), (hX.to ((up_id F (k := 4) (a := (F 4)) rfl).symm.trans rfl) (((up_id M (k := 5) (a := (M 5)) rfl).symm.trans rfl).trans ((up_id (va_up M 5 (M 5)) (k := 6) (a := (M 6)) rfl).symm.trans rfl)))⟩
  · refine lv_iload C.x C.b dX2_text_8 (lv_at hl 4 rfl) ?_
    refine r_i2l C (by omega) dX2_text_10 ?_
    refine r_lconst C 1 rfl dX2_text_11 ?_
    refine r_ldc2 C 24 (by decide) q1550 dX2_text_12 ?_
    refine r_callSi (As := [.long (zl n), .long (zl 1), .long (zl 24)]) (rest := []) (cells' := 0) (slots' := 0) C (met_X2_in l E A ad H n 1 24 (show -9223372036854775808 ≤ n ∧ n < 9223372036854775808 from (by omega)) (show -9223372036854775808 ≤ (1 : Int) ∧ (1 : Int) < 9223372036854775808 from (by omega)) (show -9223372036854775808 ≤ (24 : Int) ∧ (24 : Int) < 9223372036854775808 from (by omega))) (lw_S q1209 q1210 q88 q1211) hd_X2_in rfl (by decide) rfl hS hl.1 rfl (Nat.le_of_ble_eq_true rfl) dX2_text_15 rfl rfl ⟨Nat.le_of_ble_eq_true rfl, Nat.le_of_ble_eq_true rfl⟩ (fun rr H locs hp hS => ?_)
    obtain ⟨hrr, hH⟩ := hp
    have hrr : rr = bI ((1 : Int) ≤ n ∧ n ≤ (24 : Int)) := hrr
    subst hrr
    have hX : MH E A ad F M H := by rw [hH]; exact hX
    refine r_if_ne_b (tgt := 23) C dX2_text_18 (by decide) (fun c_2 => ?_) (fun c_2 => ?_)
    · have hok : ((0 ≤ k ∧ k ≤ 3) ∧ (0 ≤ x ∧ x ≤ 2)) ∧ (1 ≤ n ∧ n ≤ 24) := ⟨by assumption, by assumption⟩
      have r61 : 0 ≤ M 61 k ∧ M 61 k ≤ 60 := hX.2.2 61 (0, 60) rfl k
      refine lv_aload_n C.x C.b dX2_text_23 rfl (lv_at hl 0 rfl) ?_
      refine mg_60 C hX dX2_text_24 ?_
      refine lv_iload_n C.x C.b dX2_text_27 rfl (lv_at hl 1 rfl) ?_
      refine ml_60 C hX (by omega) (M 60) rfl dX2_text_28 (fun r28 => ?_)
      refine lv_iload_n C.x C.b dX2_text_29 rfl (lv_at hl 2 rfl) ?_
      refine r_icmp_eq (tgt := 52) C (by omega) (by omega) dX2_text_30 (by decide) (fun c_3 => ?_) (fun c_3 => ?_)
      · have hkx : M 60 k = x := by assumption
        refine r_const C dX2_text_52 ?_
        refine lv_istore (lv' := [(5, .int (zi 0)), (0, .ref (ad 63)), (1, .int (zi k)), (2, .int (zi x)), (3, .int (zi f)), (4, .int (zi n))]) C.x C.b dX2_text_53 hl (by decide) rfl (fun ls hl => ?_)
        have L55 : ∀ (fu : Nat) (v5 : Int) (h5 : 0 ≤ v5 ∧ v5 ≤ n) (hts : tsc (M 61 k) (F 0) f (fun j => M 62 (60 * k + j)) v5 = 0) (hm : Int.toNat (n - v5) < fu) (H : Heap) (locs : List Loc) (ls : Array Slot) (hX : MH E A ad F M H) (hS : va_S A s.heap H locs) (hl : lv_has ls 8 [(0, .ref (ad 63)), (1, .int (zi k)), (2, .int (zi x)), (3, .int (zi f)), (4, .int (zi n)), (5, .int (zi v5))]), W p l e rm_X2_text s m args below meth c H locs 0 0 QQ (F0 m 55 ls []) := by
          intro fu
          induction fu with
          | zero => intro v5 h5 hts hm; exact absurd hm (Nat.not_lt_zero _)
          | succ fu ih55 =>
            intro v5 h5 hts hm H locs ls hX hS hl
            refine lv_iload C.x C.b dX2_text_55 (lv_at hl 5 rfl) ?_
            refine lv_iload C.x C.b dX2_text_57 (lv_at hl 4 rfl) ?_
            refine r_icmp_ge (tgt := 135) C (by omega) (by omega) dX2_text_59 (by decide) (fun c_4 => ?_) (fun c_4 => ?_)
            · have hts0 : (tsc (M 61 k) (F 0) f (fun j => M 62 (60 * k + j)) n) = 0 := by rw [← show v5 = n by omega]; exact hts
              refine lv_aload_n C.x C.b dX2_text_135 rfl (lv_at hl 0 rfl) ?_
              refine mg_4 C hX (F 4) rfl dX2_text_136 (fun _ => ?_)
              refine r_bipush C (by decide) dX2_text_139 ?_
              refine r_icmp_ne (tgt := 147) C (by omega) (by decide) dX2_text_141 (by decide) (fun c_5 => ?_) (fun c_5 => ?_)
              · refine r_const C dX2_text_147 ?_
                refine lv_istore (lv' := [(5, .int (zi 0)), (0, .ref (ad 63)), (1, .int (zi k)), (2, .int (zi x)), (3, .int (zi f)), (4, .int (zi n))]) C.x C.b dX2_text_148 hl (by decide) rfl (fun ls hl => ?_)
                have L150 : ∀ (fu : Nat) (v5_150 : Int) (m6 : Int → Int) (h5b : 0 ≤ v5_150 ∧ v5_150 ≤ n) (hc1 : ∀ i : Int, 0 ≤ i → i < v5_150 → m6 (24 * F 4 + i) = M 62 (60 * k + (f + i))) (hc2 : ∀ j : Int, (j < 24 * F 4 ∨ 24 * F 4 + n ≤ j) → m6 j = M 6 j) (hm : Int.toNat (n - v5_150) < fu) (H : Heap) (locs : List Loc) (ls : Array Slot) (hX : MH E A ad F (va_up M 6 m6) H) (hS : va_S A s.heap H locs) (hl : lv_has ls 8 [(0, .ref (ad 63)), (1, .int (zi k)), (2, .int (zi x)), (3, .int (zi f)), (4, .int (zi n)), (5, .int (zi v5_150))]), W p l e rm_X2_text s m args below meth c H locs 0 0 QQ (F0 m 150 ls []) := by
                  intro fu
                  induction fu with
                  | zero => intro v5_150 m6 h5b hc1 hc2 hm; exact absurd hm (Nat.not_lt_zero _)
                  | succ fu ih150 =>
                    intro v5_150 m6 h5b hc1 hc2 hm H locs ls hX hS hl
                    refine lv_iload C.x C.b dX2_text_150 (lv_at hl 5 rfl) ?_
                    refine lv_iload C.x C.b dX2_text_152 (lv_at hl 4 rfl) ?_
                    refine r_icmp_ge (tgt := 192) C (by omega) (by omega) dX2_text_154 (by decide) (fun c_6 => ?_) (fun c_6 => ?_)
                    · refine lv_aload_n C.x C.b dX2_text_192 rfl (lv_at hl 0 rfl) ?_
                      refine mg_5 C hX dX2_text_193 ?_
                      refine lv_aload_n C.x C.b dX2_text_196 rfl (lv_at hl 0 rfl) ?_
                      refine mg_4 C hX (F 4) rfl dX2_text_197 (fun _ => ?_)
                      refine lv_iload C.x C.b dX2_text_200 (lv_at hl 4 rfl) ?_
                      refine ms_5 C hX hS (by omega) (by omega) (M 5) rfl (M' := (va_up (va_up M 5 (fup (M 5) (F 4) n)) 6 m6)) (up_in (by decide) rfl) dX2_text_202 (fun H locs hX hS => ?_)
                      refine lv_aload_n C.x C.b dX2_text_203 rfl (lv_at hl 0 rfl) ?_
                      refine lv_dup C.x C.b dX2_text_204 rfl ?_
                      refine mg_4 C hX (F 4) rfl dX2_text_205 (fun _ => ?_)
                      refine r_const C dX2_text_208 ?_
                      refine r_iadd C dX2_text_209 ?_
                      refine mp_4 C hX hS (by omega) (F' := (va_up F 4 ((F 4) + 1))) rfl dX2_text_210 (fun H locs hX hS => ?_)
                      refine lv_aload_n C.x C.b dX2_text_213 rfl (lv_at hl 0 rfl) ?_
                      refine mg_4 C hX ((F 4) + 1) rfl dX2_text_214 (fun r214 => ?_)
                      refine r_const C dX2_text_217 ?_
                      refine r_isub C dX2_text_218 ?_
                      rw [← hQQ]
                      exact r_iret C hS (Nat.le_of_ble_eq_true rfl) (Nat.le_of_ble_eq_true rfl) dX2_text_219 ⟨((F 4) + 1), (fup (M 5) (F 4) n), m6, (fun _ => ⟨rfl, rfl, by rw [show v5_150 = n by omega] at hc1; exact hc1, hc2⟩), (fun q => absurd ⟨⟨hok, hkx⟩, hts0, by assumption⟩ q), (by rw [sel_t hok, sel_t hkx, sel_t hts0, sel_f (by assumption)]; omega), hX⟩
                    · have hcx := tsc_ok h5b.1 (by omega) hts0
                      have hcx2 : -2 ≤ M 62 (60 * k + f + v5_150) ∧ M 62 (60 * k + f + v5_150) ≤ 23 := by
                        have z := hcx.2
                        rw [show 60 * k + f + v5_150 = 60 * k + (f + v5_150) by omega]
                        constructor
                        · exact z.1
                        · have := z.2; omega
                      have hcx3 := hcx.1
                      refine lv_aload_n C.x C.b dX2_text_157 rfl (lv_at hl 0 rfl) ?_
                      refine mg_6 C hX dX2_text_158 ?_
                      refine r_bipush C (by decide) dX2_text_161 ?_
                      refine lv_aload_n C.x C.b dX2_text_163 rfl (lv_at hl 0 rfl) ?_
                      refine mg_4 C hX (F 4) rfl dX2_text_164 (fun _ => ?_)
                      refine r_imul C dX2_text_167 ?_
                      refine lv_iload C.x C.b dX2_text_168 (lv_at hl 5 rfl) ?_
                      refine r_iadd C dX2_text_170 ?_
                      refine lv_aload_n C.x C.b dX2_text_171 rfl (lv_at hl 0 rfl) ?_
                      refine mg_62 C hX dX2_text_172 ?_
                      refine r_bipush C (by decide) dX2_text_175 ?_
                      refine lv_iload_n C.x C.b dX2_text_177 rfl (lv_at hl 1 rfl) ?_
                      refine r_imul C dX2_text_178 ?_
                      refine lv_iload_n C.x C.b dX2_text_179 rfl (lv_at hl 3 rfl) ?_
                      refine r_iadd C dX2_text_180 ?_
                      refine lv_iload C.x C.b dX2_text_181 (lv_at hl 5 rfl) ?_
                      refine r_iadd C dX2_text_183 ?_
                      refine ml_62 C hX (by omega) (M 62) rfl dX2_text_184 (fun r184 => ?_)
                      refine ms_6 C hX hS (by omega) (by omega) m6 rfl (M' := (va_up M 6 (fup m6 ((24 * (F 4)) + v5_150) (M 62 (((60 * k) + f) + v5_150))))) (up_up _ _ _ _) dX2_text_185 (fun H locs hX hS => ?_)
                      refine r_iinc (lv' := [(5, .int (zi (v5_150 + 1))), (0, .ref (ad 63)), (1, .int (zi k)), (2, .int (zi x)), (3, .int (zi f)), (4, .int (zi n))]) C dX2_text_186 hl (k := 5) rfl (by decide) rfl (fun ls hl => ?_)
                      refine lv_goto (tgt := 150) C.x C.b dX2_text_189 (by decide) ?_
                      exact ih150 (v5_150 + 1) (fup m6 ((24 * (F 4)) + v5_150) (M 62 (((60 * k) + f) + v5_150))) (by omega) (fun i a b => by by_cases e : i = v5_150; exact (by rw [e, fup_s]; congr 1; omega); rw [fup_n _ _ (by omega)]; exact hc1 i a (by omega)) (fun j a => by rw [fup_n _ _ (by omega)]; exact hc2 j a) (by omega) H locs ls hX hS (lv_sub hl [1, 2, 3, 4, 5, 0] rfl)
                exact L150 _ 0 (M 6) (by omega) (fun i a b => absurd a (by omega)) (fun j _ => rfl) (Nat.lt_succ_self _) H locs ls (hX.to rfl ((up_id M (k := 6) (a := (M 6)) rfl).symm.trans rfl)) hS (lv_sub hl [1, 2, 3, 4, 5, 0] rfl)
              · refine r_bipush C (by decide) dX2_text_144 ?_
                rw [← hQQ]
                exact r_iret C hS (Nat.le_of_ble_eq_true rfl) (Nat.le_of_ble_eq_true rfl) dX2_text_146 ⟨(F 4), (M 5), (M 6), (fun q => absurd (by assumption) q.2.2), (fun _ => ⟨rfl, rfl, rfl⟩), (by rw [sel_t hok, sel_t hkx, sel_t hts0, sel_t (by assumption)]), (hX.to ((up_id F (k := 4) (a := (F 4)) rfl).symm.trans rfl) (((up_id M (k := 5) (a := (M 5)) rfl).symm.trans rfl).trans ((up_id (va_up M 5 (M 5)) (k := 6) (a := (M 6)) rfl).symm.trans rfl)))⟩
            · refine lv_iload_n C.x C.b dX2_text_62 rfl (lv_at hl 3 rfl) ?_
              refine r_i2l C (by omega) dX2_text_63 ?_
              refine lv_iload C.x C.b dX2_text_64 (lv_at hl 5 rfl) ?_
              refine r_i2l C (by omega) dX2_text_66 ?_
              refine r_ladd C dX2_text_67 ?_
              refine lv_lstore (lv' := [(6, .long (zl (f + v5))), (0, .ref (ad 63)), (1, .int (zi k)), (2, .int (zi x)), (3, .int (zi f)), (4, .int (zi n)), (5, .int (zi v5))]) C.x C.b dX2_text_68 hl (by decide) rfl (fun ls hl => ?_)
              refine lv_lload C.x C.b dX2_text_70 (lv_at hl 0 rfl) ?_
              refine r_lconst C 0 rfl dX2_text_72 ?_
              refine r_lcmp C (by omega) (by omega) dX2_text_73 ?_
              refine r_if_lt_c (tgt := 90) C dX2_text_74 (by decide) (fun c_7 => ?_) (fun c_7 => ?_)
              · refine r_bipush C (by decide) dX2_text_90 ?_
                have hix := tsc_ix h5.1 (show v5 < n by omega) hts (show f + v5 < 0 ∨ M 61 k ≤ f + v5 by omega)
                rw [← hQQ]
                exact r_iret C hS (Nat.le_of_ble_eq_true rfl) (Nat.le_of_ble_eq_true rfl) dX2_text_92 ⟨(F 4), (M 5), (M 6), (fun q => absurd q.2.1 (by rw [hix]; omega)), (fun _ => ⟨rfl, rfl, rfl⟩), (by rw [sel_t hok, sel_t hkx, hix, sel_f (by omega)]), (hX.to ((up_id F (k := 4) (a := (F 4)) rfl).symm.trans rfl) (((up_id M (k := 5) (a := (M 5)) rfl).symm.trans rfl).trans ((up_id (va_up M 5 (M 5)) (k := 6) (a := (M 6)) rfl).symm.trans rfl)))⟩
              · refine lv_lload C.x C.b dX2_text_77 (lv_at hl 0 rfl) ?_
                refine lv_aload_n C.x C.b dX2_text_79 rfl (lv_at hl 1 rfl) ?_
                refine mg_61 C hX dX2_text_80 ?_
                refine lv_iload_n C.x C.b dX2_text_83 rfl (lv_at hl 2 rfl) ?_
                refine ml_61 C hX (by omega) (M 61) rfl dX2_text_84 (fun r84 => ?_)
                refine r_i2l C (by omega) dX2_text_85 ?_
                refine r_lcmp C (by omega) (by omega) dX2_text_86 ?_
                refine r_if_lt_c (tgt := 93) C dX2_text_87 (by decide) (fun c_8 => ?_) (fun c_8 => ?_)
                · refine lv_aload_n C.x C.b dX2_text_93 rfl (lv_at hl 1 rfl) ?_
                  refine mg_62 C hX dX2_text_94 ?_
                  refine r_bipush C (by decide) dX2_text_97 ?_
                  refine lv_iload_n C.x C.b dX2_text_99 rfl (lv_at hl 2 rfl) ?_
                  refine r_imul C dX2_text_100 ?_
                  refine lv_lload C.x C.b dX2_text_101 (lv_at hl 0 rfl) ?_
                  refine r_l2i C dX2_text_103 ?_
                  refine r_iadd C dX2_text_104 ?_
                  refine ml_62 C hX (by omega) (M 62) rfl dX2_text_105 (fun r105 => ?_)
                  refine r_i2l C (by omega) dX2_text_106 ?_
                  refine r_ldc2 C (-2) (by decide) q1551 dX2_text_107 ?_
                  refine lv_aload_n C.x C.b dX2_text_110 rfl (lv_at hl 1 rfl) ?_
                  refine mg_0 C hX (F 0) rfl dX2_text_111 (fun _ => ?_)
                  refine r_const C dX2_text_114 ?_
                  refine r_isub C dX2_text_115 ?_
                  refine r_i2l C (by omega) dX2_text_116 ?_
                  refine r_callSi (As := [.long (zl (M 62 ((60 * k) + (f + v5)))), .long (zl (-2)), .long (zl ((F 0) - 1))]) (rest := []) (cells' := 0) (slots' := 0) C (met_X2_in l E A ad H (M 62 ((60 * k) + (f + v5))) (-2) ((F 0) - 1) (show -9223372036854775808 ≤ (M 62 ((60 * k) + (f + v5))) ∧ (M 62 ((60 * k) + (f + v5))) < 9223372036854775808 from (by omega)) (show -9223372036854775808 ≤ (-2) ∧ (-2) < 9223372036854775808 from (by omega)) (show -9223372036854775808 ≤ ((F 0) - 1) ∧ ((F 0) - 1) < 9223372036854775808 from (by omega))) (lw_S q1209 q1210 q88 q1211) hd_X2_in rfl (by decide) rfl hS hl.1 rfl (Nat.le_of_ble_eq_true rfl) dX2_text_117 rfl rfl ⟨Nat.le_of_ble_eq_true rfl, Nat.le_of_ble_eq_true rfl⟩ (fun rr H locs hp hS => ?_)
                  obtain ⟨hrr, hH⟩ := hp
                  have hrr : rr = bI ((-2) ≤ (M 62 ((60 * k) + (f + v5))) ∧ (M 62 ((60 * k) + (f + v5))) ≤ ((F 0) - 1)) := hrr
                  subst hrr
                  have hX : MH E A ad F M H := by rw [hH]; exact hX
                  refine r_if_ne_b (tgt := 129) C dX2_text_120 (by decide) (fun c_9 => ?_) (fun c_9 => ?_)
                  · refine r_iinc (lv' := [(5, .int (zi (v5 + 1))), (6, .long (zl (f + v5))), (0, .ref (ad 63)), (1, .int (zi k)), (2, .int (zi x)), (3, .int (zi f)), (4, .int (zi n))]) C dX2_text_129 hl (k := 6) rfl (by decide) rfl (fun ls hl => ?_)
                    refine lv_goto (tgt := 55) C.x C.b dX2_text_132 (by decide) ?_
                    exact ih55 (v5 + 1) (by omega) (tsc_go h5.1 hts (by omega) (by assumption)) (by omega) H locs ls hX hS (lv_sub hl [2, 3, 4, 5, 6, 0] rfl)
                  · refine r_bipush C (by decide) dX2_text_123 ?_
                    refine lv_iload C.x C.b dX2_text_125 (lv_at hl 6 rfl) ?_
                    refine r_isub C dX2_text_127 ?_
                    have hix := tsc_no h5.1 (show v5 < n by omega) hts (show ¬ (f + v5 < 0 ∨ M 61 k ≤ f + v5) by omega) (by assumption)
                    rw [← hQQ]
                    exact r_iret C hS (Nat.le_of_ble_eq_true rfl) (Nat.le_of_ble_eq_true rfl) dX2_text_128 ⟨(F 4), (M 5), (M 6), (fun q => absurd q.2.1 (by rw [hix]; omega)), (fun _ => ⟨rfl, rfl, rfl⟩), (by rw [sel_t hok, sel_t hkx, hix, sel_f (by omega)]), (hX.to ((up_id F (k := 4) (a := (F 4)) rfl).symm.trans rfl) (((up_id M (k := 5) (a := (M 5)) rfl).symm.trans rfl).trans ((up_id (va_up M 5 (M 5)) (k := 6) (a := (M 6)) rfl).symm.trans rfl)))⟩
                · refine r_bipush C (by decide) dX2_text_90 ?_
                  have hix := tsc_ix h5.1 (show v5 < n by omega) hts (show f + v5 < 0 ∨ M 61 k ≤ f + v5 by omega)
                  rw [← hQQ]
                  exact r_iret C hS (Nat.le_of_ble_eq_true rfl) (Nat.le_of_ble_eq_true rfl) dX2_text_92 ⟨(F 4), (M 5), (M 6), (fun q => absurd q.2.1 (by rw [hix]; omega)), (fun _ => ⟨rfl, rfl, rfl⟩), (by rw [sel_t hok, sel_t hkx, hix, sel_f (by omega)]), (hX.to ((up_id F (k := 4) (a := (F 4)) rfl).symm.trans rfl) (((up_id M (k := 5) (a := (M 5)) rfl).symm.trans rfl).trans ((up_id (va_up M 5 (M 5)) (k := 6) (a := (M 6)) rfl).symm.trans rfl)))⟩
        exact L55 _ 0 (by omega) rfl (Nat.lt_succ_self _) H locs ls hX hS (lv_sub hl [1, 2, 3, 4, 5, 0] rfl)
      · refine lv_aload_n C.x C.b dX2_text_33 rfl (lv_at hl 0 rfl) ?_
        refine mg_60 C hX dX2_text_34 ?_
        refine lv_iload_n C.x C.b dX2_text_37 rfl (lv_at hl 1 rfl) ?_
        refine ml_60 C hX (by omega) (M 60) rfl dX2_text_38 (fun _ => ?_)
        refine r_bipush C (by decide) dX2_text_39 ?_
        have J51_10 : ∀ (t0 : Int) (ht0 : t0 = sel ((M 60 k) = (-4)) (-11) (-13)) (H : Heap) (locs : List Loc) (ls : Array Slot) (hX : MH E A ad F M H) (hS : va_S A s.heap H locs) (hl : lv_has ls 8 [(0, .ref (ad 63)), (1, .int (zi k)), (2, .int (zi x)), (3, .int (zi f)), (4, .int (zi n))]), W p l e rm_X2_text s m args below meth c H locs 0 0 QQ (F0 m 51 ls [.int (zi t0)]) := by
          intro t0 ht0 H locs ls hX hS hl
          subst ht0
          rw [← hQQ]
          exact r_iret C hS (Nat.le_of_ble_eq_true rfl) (Nat.le_of_ble_eq_true rfl) dX2_text_51 ⟨(F 4), (M 5), (M 6), (fun q => absurd q.1.2 (by assumption)), (fun _ => ⟨rfl, rfl, rfl⟩), (by rw [sel_t hok, sel_f (c := M 60 k = x) (by assumption)]), (hX.to ((up_id F (k := 4) (a := (F 4)) rfl).symm.trans rfl) (((up_id M (k := 5) (a := (M 5)) rfl).symm.trans rfl).trans ((up_id (va_up M 5 (M 5)) (k := 6) (a := (M 6)) rfl).symm.trans rfl)))⟩
        refine r_icmp_ne (tgt := 49) C (by omega) (by decide) dX2_text_41 (by decide) (fun c_11 => ?_) (fun c_11 => ?_)
        · refine r_bipush C (by decide) dX2_text_49 ?_
          exact J51_10 (-13) ((sel_f c_11).symm) H locs ls hX hS hl
        · refine r_bipush C (by decide) dX2_text_44 ?_
          refine lv_goto (tgt := 51) C.x C.b dX2_text_46 (by decide) ?_
          exact J51_10 (-11) ((sel_t c_11).symm) H locs ls hX hS hl
    · refine r_const C dX2_text_21 ?_
      rw [← hQQ]
      exact r_iret C hS (Nat.le_of_ble_eq_true rfl) (Nat.le_of_ble_eq_true rfl) dX2_text_22 ⟨(F 4), (M 5), (M 6), (fun q => by first | exact absurd q.1.1.1 (by assumption) | exact absurd q.1.1.2 (by assumption)), (fun _ => ⟨rfl, rfl, rfl⟩), (by first | exact Eq.symm (sel_f (fun q => absurd q.1 (by assumption))) | exact Eq.symm (sel_f (fun q => absurd q.2 (by assumption)))), (hX.to ((up_id F (k := 4) (a := (F 4)) rfl).symm.trans rfl) (((up_id M (k := 5) (a := (M 5)) rfl).symm.trans rfl).trans ((up_id (va_up M 5 (M 5)) (k := 6) (a := (M 6)) rfl).symm.trans rfl)))⟩

theorem hd_X2_count : yX2_count.cls = RX2 ∧ yX2_count.cls ≠ "java/lang/invoke/MethodHandle" ∧ yX2_count.cls ≠ "java/lang/invoke/VarHandle" ∧ (parseMethodDescriptor yX2_count.desc).map (fun d => d.parameters.length) = some 1 := by decide +kernel
abbrev rm_X2_count : Room := { frames := 2, cells := 0, slots := 0, locals := 48 }
set_option maxHeartbeats 8000000 in
theorem met_X2_count (l : Launch) (E : us_E) (A : Nat → Prop) (ad : Nat → Nat) (F : Nat → Int) (M : Nat → Int → Int) (w : Int) (hw : -2147483648 ≤ w ∧ w < 2147483648) : cMet l yX2_count cX2_count 4 (some .int) rm_X2_count A E [.ref (ad 63), .int (zi w)] (fun H => MH E A ad F M H) (qi A (fun r H => ∃ m3 : Int → Int, (w = 2 → SgOK (F 0) (M 1) (F 2) m3) ∧ (r = sel (w = 0) (F 0) (sel (w = 1) (F 4) (sel (w = 2) (alls m3 (mtc (M 6)) (M 5) (F 4)) (sel (w = 3) (F 20) (sel (w = 4) (F 27) (sel (w = 5) (F 30) (sel (w = 6) (F 52) (sel (w = 7) (isum (fun k => bI (¬ M 56 k = -4)) (F 52)) (sel (w = 8) (F 58) (sel (w = 9) (F 45) (sel (w = 10) (sel (M 60 0 = -4) (-4) (M 61 0)) (-1)))))))))))) ∧ MH E A ad F (va_up M 3 m3) H)) := by
  refine cMet.of (by decide) (Nat.le_of_ble_eq_true rfl) (fun p e s m args below meth c C hnm hX hS ls hl => ?_)
  have C : Cx p s m args meth c A RX2 cX2_count 4 (some .int) E := C
  have hX : MH E A ad F M s.heap := hX
  have hl : lv_has ls 4 [(0, .ref (ad 63)), (1, .int (zi w))] := hl
  generalize hH : s.heap = H at hX
  have hS : va_S A s.heap H [] := by rw [← hH]; exact hS
  generalize hlocs : ([] : List Loc) = locs at hS ⊢
  obtain ⟨QQ, hQQ⟩ : ∃ z, MQ below (qi A (fun r H => ∃ m3 : Int → Int, (w = 2 → SgOK (F 0) (M 1) (F 2) m3) ∧ (r = sel (w = 0) (F 0) (sel (w = 1) (F 4) (sel (w = 2) (alls m3 (mtc (M 6)) (M 5) (F 4)) (sel (w = 3) (F 20) (sel (w = 4) (F 27) (sel (w = 5) (F 30) (sel (w = 6) (F 52) (sel (w = 7) (isum (fun k => bI (¬ M 56 k = -4)) (F 52)) (sel (w = 8) (F 58) (sel (w = 9) (F 45) (sel (w = 10) (sel (M 60 0 = -4) (-4) (M 61 0)) (-1)))))))))))) ∧ MH E A ad F (va_up M 3 m3) H)) args s (rm_X2_count).cells (rm_X2_count).slots A = z := ⟨_, rfl⟩
  rw [hQQ]
  have rF0 : 0 ≤ F 0 ∧ F 0 ≤ 24 := hX.2.1 0 (0, 24) rfl
  have rF2 : 0 ≤ F 2 ∧ F 2 ≤ 12 := hX.2.1 2 (0, 12) rfl
  have rF4 : 0 ≤ F 4 ∧ F 4 ≤ 8 := hX.2.1 4 (0, 8) rfl
  have rF20 : 0 ≤ F 20 ∧ F 20 ≤ 8 := hX.2.1 20 (0, 8) rfl
  have rF27 : 0 ≤ F 27 ∧ F 27 ≤ 4 := hX.2.1 27 (0, 4) rfl
  have rF30 : 0 ≤ F 30 ∧ F 30 ≤ 12 := hX.2.1 30 (0, 12) rfl
  have rF45 : 0 ≤ F 45 ∧ F 45 ≤ 160 := hX.2.1 45 (0, 160) rfl
  have rF52 : 0 ≤ F 52 ∧ F 52 ≤ 20 := hX.2.1 52 (0, 20) rfl
  have rF58 : 0 ≤ F 58 ∧ F 58 ≤ 99 := hX.2.1 58 (0, 99) rfl
  refine r_const C dX2_count_0 ?_
  refine lv_istore_n (lv' := [(2, .int (zi 0)), (0, .ref (ad 63)), (1, .int (zi w))]) C.x C.b dX2_count_1 rfl hl (by decide) rfl (fun ls hl => ?_)
  refine r_const C dX2_count_2 ?_
  refine lv_istore_n (lv' := [(3, .int (zi 0)), (2, .int (zi 0)), (0, .ref (ad 63)), (1, .int (zi w))]) C.x C.b dX2_count_3 rfl hl (by decide) rfl (fun ls hl => ?_)
  have L4 : ∀ (fu : Nat) (v2 : Int) (v3 : Int) (h3 : 0 ≤ v3 ∧ v3 ≤ F 52) (ha : v2 = isum (fun k => bI (¬ M 56 k = -4)) v3) (hm : Int.toNat (F 52 - v3) < fu) (H : Heap) (locs : List Loc) (ls : Array Slot) (hX : MH E A ad F M H) (hS : va_S A s.heap H locs) (hl : lv_has ls 4 [(0, .ref (ad 63)), (1, .int (zi w)), (2, .int (zi v2)), (3, .int (zi v3))]), W p l e rm_X2_count s m args below meth c H locs 0 0 QQ (F0 m 4 ls []) := by
    intro fu
    induction fu with
    | zero => intro v2 v3 h3 ha hm; exact absurd hm (Nat.not_lt_zero _)
    | succ fu ih4 =>
      intro v2 v3 h3 ha hm H locs ls hX hS hl
      refine lv_iload_n C.x C.b dX2_count_4 rfl (lv_at hl 3 rfl) ?_
      refine lv_aload_n C.x C.b dX2_count_5 rfl (lv_at hl 0 rfl) ?_
      refine mg_52 C hX (F 52) rfl dX2_count_6 (fun _ => ?_)
      refine r_icmp_ge (tgt := 37) C (by omega) (by omega) dX2_count_9 (by decide) (fun c_1 => ?_) (fun c_1 => ?_)
      · have ha2 : v2 = isum (fun k => bI (¬ M 56 k = -4)) (F 52) := by rw [ha, show v3 = F 52 by omega]
        refine lv_iload_n C.x C.b dX2_count_37 rfl (lv_at hl 1 rfl) ?_
        rcases (show w = 0 ∨ w = 1 ∨ w = 2 ∨ w = 3 ∨ w = 4 ∨ w = 5 ∨ w = 6 ∨ w = 7 ∨ w = 8 ∨ w = 9 ∨ w = 10 ∨ (w < 0 ∨ 10 < w) by omega) with cs | cs | cs | cs | cs | cs | cs | cs | cs | cs | cs | cs
        · refine r_tswIn (k := 0) (tgt := 96) (off := 58) C cs (by omega) dX2_count_38 (by decide) rfl (by decide) ?_
          refine lv_aload_n C.x C.b dX2_count_96 rfl (lv_at hl 0 rfl) ?_
          refine mg_0 C hX (F 0) rfl dX2_count_97 (fun _ => ?_)
          rw [← hQQ]
          exact r_iret C hS (Nat.le_of_ble_eq_true rfl) (Nat.le_of_ble_eq_true rfl) dX2_count_100 ⟨(M 3), (fun q => by first | exact hsg | exact absurd q (by omega)), (by (repeat first | rw [sel_t (c := w = _) (by omega)] | rw [sel_f (c := w = _) (by omega)]) <;> first | rfl | assumption | omega), (hX.to rfl ((up_id M (k := 3) (a := (M 3)) rfl).symm.trans rfl))⟩
        · refine r_tswIn (k := 1) (tgt := 101) (off := 63) C cs (by omega) dX2_count_38 (by decide) rfl (by decide) ?_
          refine lv_aload_n C.x C.b dX2_count_101 rfl (lv_at hl 0 rfl) ?_
          refine mg_4 C hX (F 4) rfl dX2_count_102 (fun _ => ?_)
          rw [← hQQ]
          exact r_iret C hS (Nat.le_of_ble_eq_true rfl) (Nat.le_of_ble_eq_true rfl) dX2_count_105 ⟨(M 3), (fun q => by first | exact hsg | exact absurd q (by omega)), (by (repeat first | rw [sel_t (c := w = _) (by omega)] | rw [sel_f (c := w = _) (by omega)]) <;> first | rfl | assumption | omega), (hX.to rfl ((up_id M (k := 3) (a := (M 3)) rfl).symm.trans rfl))⟩
        · refine r_tswIn (k := 2) (tgt := 106) (off := 68) C cs (by omega) dX2_count_38 (by decide) rfl (by decide) ?_
          refine lv_aload_n C.x C.b dX2_count_106 rfl (lv_at hl 0 rfl) ?_
          refine lv_aload_n C.x C.b dX2_count_107 rfl (lv_at hl 0 rfl) ?_
          refine mg_2 C hX (F 2) rfl dX2_count_108 (fun _ => ?_)
          refine r_callVv (As := [.int (zi (F 2))]) (rest := []) (cells' := 0) (slots' := 0) C (met_X2_findSigns l E A ad F M (F 2) (show 0 ≤ (F 2) ∧ (F 2) ≤ 24 from (by omega))) (lw_V q1221 q1223 qs42 q88 q1224) hd_X2_findSigns rfl (by decide) (m_recv C hX) hX hS hl.1 rfl (Nat.le_of_ble_eq_true rfl) dX2_count_111 rfl rfl ⟨Nat.le_of_ble_eq_true rfl, Nat.le_of_ble_eq_true rfl⟩ (fun H locs hp hS => ?_)
          obtain ⟨m3_2, hsg, hX⟩ := hp
          replace hsg : SgOK ((F 0)) ((M 1)) (F 2) m3_2 := hsg
          have hX : MH E A ad F (va_up M 3 m3_2) H := hX.to rfl rfl
          refine lv_aload_n C.x C.b dX2_count_114 rfl (lv_at hl 0 rfl) ?_
          refine r_callVi (As := []) (rest := []) (cells' := 0) (slots' := 0) C (met_X2_allSigns l E A ad F (va_up M 3 m3_2)) (lw_V q1288 q1290 qs51 q88 q1291) hd_X2_allSigns rfl (by decide) (m_recv C hX) hX hS hl.1 rfl (Nat.le_of_ble_eq_true rfl) dX2_count_115 rfl rfl ⟨Nat.le_of_ble_eq_true rfl, Nat.le_of_ble_eq_true rfl⟩ (fun rr H locs hp hS => ?_)
          obtain ⟨hal, hrr, hX⟩ := hp
          have hrr : rr = alls (m3_2) (mtc ((M 6))) ((M 5)) ((F 4)) := hrr
          subst hrr
          replace hal : 0 ≤ alls (m3_2) (mtc ((M 6))) ((M 5)) ((F 4)) ∧ alls (m3_2) (mtc ((M 6))) ((M 5)) ((F 4)) ≤ 192 := hal
          rw [← hQQ]
          exact r_iret C hS (Nat.le_of_ble_eq_true rfl) (Nat.le_of_ble_eq_true rfl) dX2_count_118 ⟨m3_2, (fun q => by first | exact hsg | exact absurd q (by omega)), (by (repeat first | rw [sel_t (c := w = _) (by omega)] | rw [sel_f (c := w = _) (by omega)]) <;> first | rfl | assumption | omega), hX⟩
        · refine r_tswIn (k := 3) (tgt := 119) (off := 81) C cs (by omega) dX2_count_38 (by decide) rfl (by decide) ?_
          refine lv_aload_n C.x C.b dX2_count_119 rfl (lv_at hl 0 rfl) ?_
          refine mg_20 C hX (F 20) rfl dX2_count_120 (fun _ => ?_)
          rw [← hQQ]
          exact r_iret C hS (Nat.le_of_ble_eq_true rfl) (Nat.le_of_ble_eq_true rfl) dX2_count_123 ⟨(M 3), (fun q => by first | exact hsg | exact absurd q (by omega)), (by (repeat first | rw [sel_t (c := w = _) (by omega)] | rw [sel_f (c := w = _) (by omega)]) <;> first | rfl | assumption | omega), (hX.to rfl ((up_id M (k := 3) (a := (M 3)) rfl).symm.trans rfl))⟩
        · refine r_tswIn (k := 4) (tgt := 124) (off := 86) C cs (by omega) dX2_count_38 (by decide) rfl (by decide) ?_
          refine lv_aload_n C.x C.b dX2_count_124 rfl (lv_at hl 0 rfl) ?_
          refine mg_27 C hX (F 27) rfl dX2_count_125 (fun _ => ?_)
          rw [← hQQ]
          exact r_iret C hS (Nat.le_of_ble_eq_true rfl) (Nat.le_of_ble_eq_true rfl) dX2_count_128 ⟨(M 3), (fun q => by first | exact hsg | exact absurd q (by omega)), (by (repeat first | rw [sel_t (c := w = _) (by omega)] | rw [sel_f (c := w = _) (by omega)]) <;> first | rfl | assumption | omega), (hX.to rfl ((up_id M (k := 3) (a := (M 3)) rfl).symm.trans rfl))⟩
        · refine r_tswIn (k := 5) (tgt := 129) (off := 91) C cs (by omega) dX2_count_38 (by decide) rfl (by decide) ?_
          refine lv_aload_n C.x C.b dX2_count_129 rfl (lv_at hl 0 rfl) ?_
          refine mg_30 C hX (F 30) rfl dX2_count_130 (fun _ => ?_)
          rw [← hQQ]
          exact r_iret C hS (Nat.le_of_ble_eq_true rfl) (Nat.le_of_ble_eq_true rfl) dX2_count_133 ⟨(M 3), (fun q => by first | exact hsg | exact absurd q (by omega)), (by (repeat first | rw [sel_t (c := w = _) (by omega)] | rw [sel_f (c := w = _) (by omega)]) <;> first | rfl | assumption | omega), (hX.to rfl ((up_id M (k := 3) (a := (M 3)) rfl).symm.trans rfl))⟩
        · refine r_tswIn (k := 6) (tgt := 134) (off := 96) C cs (by omega) dX2_count_38 (by decide) rfl (by decide) ?_
          refine lv_aload_n C.x C.b dX2_count_134 rfl (lv_at hl 0 rfl) ?_
          refine mg_52 C hX (F 52) rfl dX2_count_135 (fun _ => ?_)
          rw [← hQQ]
          exact r_iret C hS (Nat.le_of_ble_eq_true rfl) (Nat.le_of_ble_eq_true rfl) dX2_count_138 ⟨(M 3), (fun q => by first | exact hsg | exact absurd q (by omega)), (by (repeat first | rw [sel_t (c := w = _) (by omega)] | rw [sel_f (c := w = _) (by omega)]) <;> first | rfl | assumption | omega), (hX.to rfl ((up_id M (k := 3) (a := (M 3)) rfl).symm.trans rfl))⟩
        · refine r_tswIn (k := 7) (tgt := 139) (off := 101) C cs (by omega) dX2_count_38 (by decide) rfl (by decide) ?_
          refine lv_iload_n C.x C.b dX2_count_139 rfl (lv_at hl 2 rfl) ?_
          rw [← hQQ]
          exact r_iret C hS (Nat.le_of_ble_eq_true rfl) (Nat.le_of_ble_eq_true rfl) dX2_count_140 ⟨(M 3), (fun q => by first | exact hsg | exact absurd q (by omega)), (by (repeat first | rw [sel_t (c := w = _) (by omega)] | rw [sel_f (c := w = _) (by omega)]) <;> first | rfl | assumption | omega), (hX.to rfl ((up_id M (k := 3) (a := (M 3)) rfl).symm.trans rfl))⟩
        · refine r_tswIn (k := 8) (tgt := 141) (off := 103) C cs (by omega) dX2_count_38 (by decide) rfl (by decide) ?_
          refine lv_aload_n C.x C.b dX2_count_141 rfl (lv_at hl 0 rfl) ?_
          refine mg_58 C hX (F 58) rfl dX2_count_142 (fun _ => ?_)
          rw [← hQQ]
          exact r_iret C hS (Nat.le_of_ble_eq_true rfl) (Nat.le_of_ble_eq_true rfl) dX2_count_145 ⟨(M 3), (fun q => by first | exact hsg | exact absurd q (by omega)), (by (repeat first | rw [sel_t (c := w = _) (by omega)] | rw [sel_f (c := w = _) (by omega)]) <;> first | rfl | assumption | omega), (hX.to rfl ((up_id M (k := 3) (a := (M 3)) rfl).symm.trans rfl))⟩
        · refine r_tswIn (k := 9) (tgt := 146) (off := 108) C cs (by omega) dX2_count_38 (by decide) rfl (by decide) ?_
          refine lv_aload_n C.x C.b dX2_count_146 rfl (lv_at hl 0 rfl) ?_
          refine mg_45 C hX (F 45) rfl dX2_count_147 (fun _ => ?_)
          rw [← hQQ]
          exact r_iret C hS (Nat.le_of_ble_eq_true rfl) (Nat.le_of_ble_eq_true rfl) dX2_count_150 ⟨(M 3), (fun q => by first | exact hsg | exact absurd q (by omega)), (by (repeat first | rw [sel_t (c := w = _) (by omega)] | rw [sel_f (c := w = _) (by omega)]) <;> first | rfl | assumption | omega), (hX.to rfl ((up_id M (k := 3) (a := (M 3)) rfl).symm.trans rfl))⟩
        · refine r_tswIn (k := 10) (tgt := 151) (off := 113) C cs (by omega) dX2_count_38 (by decide) rfl (by decide) ?_
          refine lv_aload_n C.x C.b dX2_count_151 rfl (lv_at hl 0 rfl) ?_
          refine mg_60 C hX dX2_count_152 ?_
          refine r_const C dX2_count_155 ?_
          refine ml_60 C hX (by omega) (M 60) rfl dX2_count_156 (fun r156 => ?_)
          refine r_bipush C (by decide) dX2_count_157 ?_
          have J173_3 : ∀ (t0 : Int) (ht0 : t0 = sel ((M 60 0) = (-4)) (-4) (M 61 0)) (H : Heap) (locs : List Loc) (ls : Array Slot) (hX : MH E A ad F M H) (hS : va_S A s.heap H locs) (hl : lv_has ls 4 [(0, .ref (ad 63)), (1, .int (zi w)), (2, .int (zi v2)), (3, .int (zi v3))]), W p l e rm_X2_count s m args below meth c H locs 0 0 QQ (F0 m 173 ls [.int (zi t0)]) := by
            intro t0 ht0 H locs ls hX hS hl
            subst ht0
            rw [← hQQ]
            exact r_iret C hS (Nat.le_of_ble_eq_true rfl) (Nat.le_of_ble_eq_true rfl) dX2_count_173 ⟨(M 3), (fun q => by first | exact hsg | exact absurd q (by omega)), (by (repeat first | rw [sel_t (c := w = _) (by omega)] | rw [sel_f (c := w = _) (by omega)]) <;> first | rfl | assumption | omega), (hX.to rfl ((up_id M (k := 3) (a := (M 3)) rfl).symm.trans rfl))⟩
          refine r_icmp_ne (tgt := 167) C (by omega) (by decide) dX2_count_159 (by decide) (fun c_4 => ?_) (fun c_4 => ?_)
          · refine lv_aload_n C.x C.b dX2_count_167 rfl (lv_at hl 0 rfl) ?_
            refine mg_61 C hX dX2_count_168 ?_
            refine r_const C dX2_count_171 ?_
            refine ml_61 C hX (by omega) (M 61) rfl dX2_count_172 (fun r172 => ?_)
            exact J173_3 (M 61 0) ((sel_f c_4).symm) H locs ls hX hS hl
          · refine r_bipush C (by decide) dX2_count_162 ?_
            refine lv_goto (tgt := 173) C.x C.b dX2_count_164 (by decide) ?_
            exact J173_3 (-4) ((sel_t c_4).symm) H locs ls hX hS hl
        · refine r_tswOut (tgt := 174) C (by omega) dX2_count_38 cs (by decide) ?_
          refine r_const C dX2_count_174 ?_
          rw [← hQQ]
          exact r_iret C hS (Nat.le_of_ble_eq_true rfl) (Nat.le_of_ble_eq_true rfl) dX2_count_175 ⟨(M 3), (fun q => by first | exact hsg | exact absurd q (by omega)), (by (repeat first | rw [sel_t (c := w = _) (by omega)] | rw [sel_f (c := w = _) (by omega)]) <;> first | rfl | assumption | omega), (hX.to rfl ((up_id M (k := 3) (a := (M 3)) rfl).symm.trans rfl))⟩
      · refine lv_iload_n C.x C.b dX2_count_12 rfl (lv_at hl 2 rfl) ?_
        refine lv_aload_n C.x C.b dX2_count_13 rfl (lv_at hl 0 rfl) ?_
        refine mg_56 C hX dX2_count_14 ?_
        refine lv_iload_n C.x C.b dX2_count_17 rfl (lv_at hl 3 rfl) ?_
        refine ml_56 C hX (by omega) (M 56) rfl dX2_count_18 (fun r18 => ?_)
        refine r_bipush C (by decide) dX2_count_19 ?_
        have J29_5 : ∀ (t1 : Int) (ht1 : t1 = bI (¬ ((M 56 v3) = (-4)))) (H : Heap) (locs : List Loc) (ls : Array Slot) (hX : MH E A ad F M H) (hS : va_S A s.heap H locs) (hl : lv_has ls 4 [(0, .ref (ad 63)), (1, .int (zi w)), (2, .int (zi v2)), (3, .int (zi v3))]), W p l e rm_X2_count s m args below meth c H locs 0 0 QQ (F0 m 29 ls [.int (zi t1), .int (zi v2)]) := by
          intro t1 ht1 H locs ls hX hS hl
          subst ht1
          refine r_iadd C dX2_count_29 ?_
          refine lv_istore_n (lv' := [(2, .int (zi (v2 + (bI (¬ ((M 56 v3) = (-4))))))), (0, .ref (ad 63)), (1, .int (zi w)), (3, .int (zi v3))]) C.x C.b dX2_count_30 rfl hl (by decide) rfl (fun ls hl => ?_)
          refine r_iinc (lv' := [(3, .int (zi (v3 + 1))), (2, .int (zi (v2 + (bI (¬ ((M 56 v3) = (-4))))))), (0, .ref (ad 63)), (1, .int (zi w))]) C dX2_count_31 hl (k := 3) rfl (by decide) rfl (fun ls hl => ?_)
          refine lv_goto (tgt := 4) C.x C.b dX2_count_34 (by decide) ?_
          exact ih4 (v2 + (bI (¬ ((M 56 v3) = (-4))))) (v3 + 1) (by omega) (isum_st h3.1 ha rfl) (by omega) H locs ls hX hS (lv_sub hl [2, 3, 1, 0] rfl)
        refine r_icmp_ne (tgt := 28) C (by omega) (by decide) dX2_count_21 (by decide) (fun c_6 => ?_) (fun c_6 => ?_)
        · refine r_const C dX2_count_28 ?_
          exact J29_5 1 ((bI_t c_6).symm) H locs ls hX hS hl
        · refine r_const C dX2_count_24 ?_
          refine lv_goto (tgt := 29) C.x C.b dX2_count_25 (by decide) ?_
          exact J29_5 0 ((bI_f (fun q => q c_6)).symm) H locs ls hX hS hl
  exact L4 _ 0 0 (by omega) rfl (Nat.lt_succ_self _) H locs ls hX hS (lv_sub hl [2, 3, 1, 0] rfl)

theorem hd_X2_end : yX2_end.cls = RX2 ∧ yX2_end.cls ≠ "java/lang/invoke/MethodHandle" ∧ yX2_end.cls ≠ "java/lang/invoke/VarHandle" ∧ (parseMethodDescriptor yX2_end.desc).map (fun d => d.parameters.length) = some 1 := by decide +kernel
abbrev rm_X2_end : Room := { frames := 1, cells := 0, slots := 0, locals := 25 }
set_option maxHeartbeats 8000000 in
theorem met_X2_end (l : Launch) (E : us_E) (A : Nat → Prop) (ad : Nat → Nat) (F : Nat → Int) (M : Nat → Int → Int) (n : Int) (hn : -2147483648 ≤ n ∧ n < 2147483648) : cMet l yX2_end cX2_end 3 (some .int) rm_X2_end A E [.ref (ad 63), .int (zi n)] (fun H => MH E A ad F M H) (qi A (fun r H => ∃ f45 : Int, (f45 = sel (0 ≤ n ∧ n ≤ F 45) n (F 45)) ∧ (r = sel (0 ≤ n ∧ n ≤ F 45) (F 45) (-1)) ∧ MH E A ad (va_up F 45 f45) M H)) := by
  refine cMet.of (by decide) (Nat.le_of_ble_eq_true rfl) (fun p e s m args below meth c C hnm hX hS ls hl => ?_)
  have C : Cx p s m args meth c A RX2 cX2_end 3 (some .int) E := C
  have hX : MH E A ad F M s.heap := hX
  have hl : lv_has ls 3 [(0, .ref (ad 63)), (1, .int (zi n))] := hl
  generalize hH : s.heap = H at hX
  have hS : va_S A s.heap H [] := by rw [← hH]; exact hS
  generalize hlocs : ([] : List Loc) = locs at hS ⊢
  obtain ⟨QQ, hQQ⟩ : ∃ z, MQ below (qi A (fun r H => ∃ f45 : Int, (f45 = sel (0 ≤ n ∧ n ≤ F 45) n (F 45)) ∧ (r = sel (0 ≤ n ∧ n ≤ F 45) (F 45) (-1)) ∧ MH E A ad (va_up F 45 f45) M H)) args s (rm_X2_end).cells (rm_X2_end).slots A = z := ⟨_, rfl⟩
  rw [hQQ]
  have rF45 : 0 ≤ F 45 ∧ F 45 ≤ 160 := hX.2.1 45 (0, 160) rfl
  refine lv_iload_n C.x C.b dX2_end_0 rfl (lv_at hl 1 rfl) ?_
  refine r_i2l C (by omega) dX2_end_1 ?_
  refine r_lconst C 0 rfl dX2_end_2 ?_
  refine lv_aload_n C.x C.b dX2_end_3 rfl (lv_at hl 0 rfl) ?_
  refine mg_45 C hX (F 45) rfl dX2_end_4 (fun _ => ?_)
  refine r_i2l C (by omega) dX2_end_7 ?_
  refine r_callSi (As := [.long (zl n), .long (zl 0), .long (zl (F 45))]) (rest := []) (cells' := 0) (slots' := 0) C (met_X2_in l E A ad H n 0 (F 45) (show -9223372036854775808 ≤ n ∧ n < 9223372036854775808 from (by omega)) (show -9223372036854775808 ≤ (0 : Int) ∧ (0 : Int) < 9223372036854775808 from (by omega)) (show -9223372036854775808 ≤ (F 45) ∧ (F 45) < 9223372036854775808 from (by omega))) (lw_S q1209 q1210 q88 q1211) hd_X2_in rfl (by decide) rfl hS hl.1 rfl (Nat.le_of_ble_eq_true rfl) dX2_end_8 rfl rfl ⟨Nat.le_of_ble_eq_true rfl, Nat.le_of_ble_eq_true rfl⟩ (fun rr H locs hp hS => ?_)
  obtain ⟨hrr, hH⟩ := hp
  have hrr : rr = bI ((0 : Int) ≤ n ∧ n ≤ (F 45)) := hrr
  subst hrr
  have hX : MH E A ad F M H := by rw [hH]; exact hX
  refine r_if_ne_b (tgt := 16) C dX2_end_11 (by decide) (fun c_1 => ?_) (fun c_1 => ?_)
  · refine lv_aload_n C.x C.b dX2_end_16 rfl (lv_at hl 0 rfl) ?_
    refine mg_45 C hX (F 45) rfl dX2_end_17 (fun _ => ?_)
    refine lv_istore_n (lv' := [(2, .int (zi (F 45))), (0, .ref (ad 63)), (1, .int (zi n))]) C.x C.b dX2_end_20 rfl hl (by decide) rfl (fun ls hl => ?_)
    refine lv_aload_n C.x C.b dX2_end_21 rfl (lv_at hl 1 rfl) ?_
    refine lv_iload_n C.x C.b dX2_end_22 rfl (lv_at hl 2 rfl) ?_
    refine mp_45 C hX hS (by omega) (F' := (va_up F 45 n)) rfl dX2_end_23 (fun H locs hX hS => ?_)
    refine lv_iload_n C.x C.b dX2_end_26 rfl (lv_at hl 0 rfl) ?_
    rw [← hQQ]
    exact r_iret C hS (Nat.le_of_ble_eq_true rfl) (Nat.le_of_ble_eq_true rfl) dX2_end_27 ⟨n, (by first | rfl | assumption | exact (sel_t (by omega)).symm | exact (sel_f (by omega)).symm | omega), (by first | rfl | exact (sel_t (by omega)).symm | exact (sel_f (by omega)).symm | omega), hX⟩
  · refine r_const C dX2_end_14 ?_
    rw [← hQQ]
    exact r_iret C hS (Nat.le_of_ble_eq_true rfl) (Nat.le_of_ble_eq_true rfl) dX2_end_15 ⟨(F 45), (by first | rfl | assumption | exact (sel_t (by omega)).symm | exact (sel_f (by omega)).symm | omega), (by first | rfl | exact (sel_t (by omega)).symm | exact (sel_f (by omega)).symm | omega), (hX.to ((up_id F (k := 45) (a := (F 45)) rfl).symm.trans rfl) rfl)⟩

theorem hd_X2_feed : yX2_feed.cls = RX2 ∧ yX2_feed.cls ≠ "java/lang/invoke/MethodHandle" ∧ yX2_feed.cls ≠ "java/lang/invoke/VarHandle" ∧ (parseMethodDescriptor yX2_feed.desc).map (fun d => d.parameters.length) = some 1 := by decide +kernel
abbrev rm_X2_feed : Room := { frames := 0, cells := 0, slots := 0, locals := 0 }
set_option maxHeartbeats 8000000 in
theorem met_X2_feed (l : Launch) (E : us_E) (A : Nat → Prop) (ad : Nat → Nat) (F : Nat → Int) (M : Nat → Int → Int) (v : Int) (hv : -9223372036854775808 ≤ v ∧ v < 9223372036854775808) : cMet l yX2_feed cX2_feed 4 (some .int) rm_X2_feed A E [.ref (ad 63), .long (zl v)] (fun H => MH E A ad F M H) (qi A (fun r H => ∃ f45 : Int, ∃ m44 : Int → Int, ((¬ 160 < F 45 + 8) → f45 = F 45 + 8 ∧ (∀ j : Int, 0 ≤ j → j < 8 → m44 (F 45 + j) = v / 2 ^ (56 - 8 * j).toNat % 256) ∧ ∀ j : Int, j < F 45 → m44 j = M 44 j) ∧ (160 < F 45 + 8 → f45 = F 45 ∧ m44 = M 44) ∧ (r = sel (¬ 160 < F 45 + 8) (F 45 + 8) (-3)) ∧ MH E A ad (va_up F 45 f45) (va_up M 44 m44) H)) := by
  refine cMet.of (by decide) (Nat.le_of_ble_eq_true rfl) (fun p e s m args below meth c C hnm hX hS ls hl => ?_)
  have C : Cx p s m args meth c A RX2 cX2_feed 4 (some .int) E := C
  have hX : MH E A ad F M s.heap := hX
  have hl : lv_has ls 4 [(0, .ref (ad 63)), (1, .long (zl v))] := hl
  generalize hH : s.heap = H at hX
  have hS : va_S A s.heap H [] := by rw [← hH]; exact hS
  generalize hlocs : ([] : List Loc) = locs at hS ⊢
  obtain ⟨QQ, hQQ⟩ : ∃ z, MQ below (qi A (fun r H => ∃ f45 : Int, ∃ m44 : Int → Int, ((¬ 160 < F 45 + 8) → f45 = F 45 + 8 ∧ (∀ j : Int, 0 ≤ j → j < 8 → m44 (F 45 + j) = v / 2 ^ (56 - 8 * j).toNat % 256) ∧ ∀ j : Int, j < F 45 → m44 j = M 44 j) ∧ (160 < F 45 + 8 → f45 = F 45 ∧ m44 = M 44) ∧ (r = sel (¬ 160 < F 45 + 8) (F 45 + 8) (-3)) ∧ MH E A ad (va_up F 45 f45) (va_up M 44 m44) H)) args s (rm_X2_feed).cells (rm_X2_feed).slots A = z := ⟨_, rfl⟩
  rw [hQQ]
  have rF45 : 0 ≤ F 45 ∧ F 45 ≤ 160 := hX.2.1 45 (0, 160) rfl
  refine lv_aload_n C.x C.b dX2_feed_0 rfl (lv_at hl 0 rfl) ?_
  refine mg_45 C hX (F 45) rfl dX2_feed_1 (fun _ => ?_)
  refine r_bipush C (by decide) dX2_feed_4 ?_
  refine r_iadd C dX2_feed_6 ?_
  refine r_sipush C (by decide) dX2_feed_7 ?_
  refine r_icmp_le (tgt := 16) C (by omega) (by decide) dX2_feed_10 (by decide) (fun c_1 => ?_) (fun c_1 => ?_)
  · refine r_bipush C (by decide) dX2_feed_16 ?_
    refine lv_istore_n (lv' := [(3, .int (zi 56)), (0, .ref (ad 63)), (1, .long (zl v))]) C.x C.b dX2_feed_18 rfl hl (by decide) rfl (fun ls hl => ?_)
    have L19 : ∀ (fu : Nat) (v3 : Int) (f45 : Int) (m44 : Int → Int) (h3 : -8 ≤ v3 ∧ v3 ≤ 56 ∧ v3 = 56 - 8 * (f45 - F 45)) (hc1 : ∀ j : Int, 0 ≤ j → j < f45 - F 45 → m44 (F 45 + j) = v / 2 ^ (56 - 8 * j).toNat % 256) (hc2 : ∀ j : Int, j < F 45 → m44 j = M 44 j) (hm : Int.toNat (v3 + 8) < fu) (H : Heap) (locs : List Loc) (ls : Array Slot) (hX : MH E A ad (va_up F 45 f45) (va_up M 44 m44) H) (hS : va_S A s.heap H locs) (hl : lv_has ls 4 [(0, .ref (ad 63)), (1, .long (zl v)), (3, .int (zi v3))]), W p l e rm_X2_feed s m args below meth c H locs 0 0 QQ (F0 m 19 ls []) := by
      intro fu
      induction fu with
      | zero => intro v3 f45 m44 h3 hc1 hc2 hm; exact absurd hm (Nat.not_lt_zero _)
      | succ fu ih19 =>
        intro v3 f45 m44 h3 hc1 hc2 hm H locs ls hX hS hl
        refine lv_iload_n C.x C.b dX2_feed_19 rfl (lv_at hl 2 rfl) ?_
        refine r_if_lt (tgt := 56) C (by omega) dX2_feed_20 (by decide) (fun c_2 => ?_) (fun c_2 => ?_)
        · refine lv_aload_n C.x C.b dX2_feed_56 rfl (lv_at hl 0 rfl) ?_
          refine mg_45 C hX f45 rfl dX2_feed_57 (fun r57 => ?_)
          rw [← hQQ]
          exact r_iret C hS (Nat.le_of_ble_eq_true rfl) (Nat.le_of_ble_eq_true rfl) dX2_feed_60 ⟨f45, m44, (fun _ => ⟨by omega, fun j a b => hc1 j a (by omega), hc2⟩), (fun q => absurd q (by omega)), (by rw [sel_t (by omega)]; omega), hX⟩
        · refine lv_aload_n C.x C.b dX2_feed_23 rfl (lv_at hl 0 rfl) ?_
          refine mg_44 C hX dX2_feed_24 ?_
          refine lv_aload_n C.x C.b dX2_feed_27 rfl (lv_at hl 0 rfl) ?_
          refine mg_45 C hX f45 rfl dX2_feed_28 (fun r28 => ?_)
          refine lv_lload_n C.x C.b dX2_feed_31 rfl (lv_at hl 1 rfl) ?_
          refine lv_iload_n C.x C.b dX2_feed_32 rfl (lv_at hl 2 rfl) ?_
          refine r_lshr C (by omega) (by omega) rfl dX2_feed_33 ?_
          refine r_ldc2 C 255 (by decide) q1461 dX2_feed_34 ?_
          refine r_land C (zl_and255 _) dX2_feed_37 ?_
          refine r_l2i C dX2_feed_38 ?_
          refine ms_44 C hX hS (by omega) (by omega) m44 rfl (M' := (va_up M 44 (fup m44 f45 ((v / 2 ^ v3.toNat) % 256)))) (up_up _ _ _ _) dX2_feed_39 (fun H locs hX hS => ?_)
          refine lv_aload_n C.x C.b dX2_feed_40 rfl (lv_at hl 0 rfl) ?_
          refine lv_dup C.x C.b dX2_feed_41 rfl ?_
          refine mg_45 C hX f45 rfl dX2_feed_42 (fun _ => ?_)
          refine r_const C dX2_feed_45 ?_
          refine r_iadd C dX2_feed_46 ?_
          refine mp_45 C hX hS (by omega) (F' := (va_up F 45 (f45 + 1))) (up_up _ _ _ _) dX2_feed_47 (fun H locs hX hS => ?_)
          refine r_iinc (lv' := [(3, .int (zi (v3 + (-8)))), (0, .ref (ad 63)), (1, .long (zl v))]) C dX2_feed_50 hl (k := 2) rfl (by decide) rfl (fun ls hl => ?_)
          refine lv_goto (tgt := 19) C.x C.b dX2_feed_53 (by decide) ?_
          exact ih19 (v3 + (-8)) (f45 + 1) (fup m44 f45 ((v / 2 ^ v3.toNat) % 256)) (by omega) (fun j a b => by by_cases e : j = f45 - F 45; exact (by rw [e, show F 45 + (f45 - F 45) = f45 by omega, fup_s, show 56 - 8 * (f45 - F 45) = v3 by omega]); rw [fup_n _ _ (by omega)]; exact hc1 j a (by omega)) (fun j a => by rw [fup_n _ _ (by omega)]; exact hc2 j a) (by omega) H locs ls hX hS (lv_sub hl [1, 2, 0] rfl)
    exact L19 _ 56 (F 45) (M 44) (by omega) (fun j a b => absurd a (by omega)) (fun _ _ => rfl) (Nat.lt_succ_self _) H locs ls (hX.to ((up_id F (k := 45) (a := (F 45)) rfl).symm.trans rfl) ((up_id M (k := 44) (a := (M 44)) rfl).symm.trans rfl)) hS (lv_sub hl [1, 2, 0] rfl)
  · refine r_bipush C (by decide) dX2_feed_13 ?_
    rw [← hQQ]
    exact r_iret C hS (Nat.le_of_ble_eq_true rfl) (Nat.le_of_ble_eq_true rfl) dX2_feed_15 ⟨(F 45), (M 44), (fun q => absurd (by omega) q), (fun _ => ⟨rfl, rfl⟩), (Eq.symm (sel_f (fun q => q (by omega)))), (hX.to ((up_id F (k := 45) (a := (F 45)) rfl).symm.trans rfl) ((up_id M (k := 44) (a := (M 44)) rfl).symm.trans rfl))⟩
