set_option maxRecDepth 100000

theorem hd_X2_findWords : yX2_findWords.cls = RX2 ∧ yX2_findWords.cls ≠ "java/lang/invoke/MethodHandle" ∧ yX2_findWords.cls ≠ "java/lang/invoke/VarHandle" ∧ (parseMethodDescriptor yX2_findWords.desc).map (fun d => d.parameters.length) = some 0 := by decide +kernel
abbrev rm_X2_findWords : Room := { frames := 2, cells := 0, slots := 0, locals := 48 }
set_option maxHeartbeats 8000000 in
theorem met_X2_findWords (l : Launch) (E : us_E) (A : Nat → Prop) (ad : Nat → Nat) (F : Nat → Int) (M : Nat → Int → Int) : cMet l yX2_findWords cX2_findWords 6 none rm_X2_findWords A E [.ref (ad 63)] (fun H => MH E A ad F M H) (qv A (fun H => ∃ f7 : Int, ∃ m3 : Int → Int, ∃ m8 : Int → Int, ∃ m9 : Int → Int, ∃ m10 : Int → Int, ∃ m11 : Int → Int, SgOK (F 0) (M 1) (F 2) m3 ∧ (f7 = wk (mtc (M 6)) (M 5) (F 4) 0) ∧ WR (mtc (M 6)) (M 5) m8 m9 m10 m11 (F 4) 0 ∧ MH E A ad (va_up F 7 f7) (va_up (va_up (va_up (va_up (va_up M 3 m3) 8 m8) 9 m9) 10 m10) 11 m11) H)) := by
  refine cMet.of (by decide) (Nat.le_of_ble_eq_true rfl) (fun p e s m args below meth c C hnm hX hS ls hl => ?_)
  have C : Cx p s m args meth c A RX2 cX2_findWords 6 none E := C
  have hX : MH E A ad F M s.heap := hX
  have hl : lv_has ls 6 [(0, .ref (ad 63))] := hl
  generalize hH : s.heap = H at hX
  have hS : va_S A s.heap H [] := by rw [← hH]; exact hS
  generalize hlocs : ([] : List Loc) = locs at hS ⊢
  have rF0 : 0 ≤ F 0 ∧ F 0 ≤ 24 := hX.2.1 0 (0, 24) rfl
  have rF2 : 0 ≤ F 2 ∧ F 2 ≤ 12 := hX.2.1 2 (0, 12) rfl
  have rF4 : 0 ≤ F 4 ∧ F 4 ≤ 8 := hX.2.1 4 (0, 8) rfl
  have rF7 : 0 ≤ F 7 ∧ F 7 ≤ 104 := hX.2.1 7 (0, 104) rfl
  have h24 : ∀ t, 0 ≤ M 5 t ∧ M 5 t ≤ 24 := fun t => hX.2.2 5 (0, 24) rfl t
  refine lv_aload_n C.x C.b dX2_findWords_0 rfl (lv_at hl 0 rfl) ?_
  refine lv_aload_n C.x C.b dX2_findWords_1 rfl (lv_at hl 0 rfl) ?_
  refine mg_2 C hX (F 2) rfl dX2_findWords_2 (fun _ => ?_)
  refine r_callVv (As := [.int (zi (F 2))]) (rest := []) (cells' := 0) (slots' := 0) C (met_X2_findSigns l E A ad F M (F 2) (show 0 ≤ (F 2) ∧ (F 2) ≤ 24 from (by omega))) (lw_V q1221 q1223 qs42 q88 q1224) hd_X2_findSigns rfl (by decide) (m_recv C hX) hX hS hl.1 rfl (Nat.le_of_ble_eq_true rfl) dX2_findWords_5 rfl rfl ⟨Nat.le_of_ble_eq_true rfl, Nat.le_of_ble_eq_true rfl⟩ (fun H locs hp hS => ?_)
  obtain ⟨sg, hsg, hX⟩ := hp
  have hsg : SgOK ((F 0)) ((M 1)) (F 2) sg := hsg
  have hX : MH E A ad F (va_up M 3 sg) H := hX.to rfl rfl
  refine lv_aload_n C.x C.b dX2_findWords_8 rfl (lv_at hl 0 rfl) ?_
  refine r_const C dX2_findWords_9 ?_
  refine mp_7 C hX hS (by omega) (F' := (va_up F 7 0)) rfl dX2_findWords_10 (fun H locs hX hS => ?_)
  refine r_const C dX2_findWords_13 ?_
  refine lv_istore_n (lv' := [(1, .int (zi 0)), (0, .ref (ad 63))]) C.x C.b dX2_findWords_14 rfl hl (by decide) rfl (fun ls hl => ?_)
  have L15 : ∀ (fu : Nat) (v1 : Int) (f7 : Int) (m8 : Int → Int) (m9 : Int → Int) (m10 : Int → Int) (m11 : Int → Int) (h1 : 0 ≤ v1 ∧ v1 ≤ F 4) (hk : f7 = wk (mtc (M 6)) (M 5) v1 0) (hw : WR (mtc (M 6)) (M 5) m8 m9 m10 m11 v1 0) (hm : Int.toNat (F 4 - v1) < fu) (H : Heap) (locs : List Loc) (ls : Array Slot) (hX : MH E A ad (va_up F 7 f7) (va_up (va_up (va_up (va_up (va_up M 3 sg) 8 m8) 9 m9) 10 m10) 11 m11) H) (hS : va_S A s.heap H locs) (hl : lv_has ls 6 [(0, .ref (ad 63)), (1, .int (zi v1))]), W p l e rm_X2_findWords s m args below meth c H locs 0 0 (MQ below (qv A (fun H => ∃ f7 : Int, ∃ m3 : Int → Int, ∃ m8 : Int → Int, ∃ m9 : Int → Int, ∃ m10 : Int → Int, ∃ m11 : Int → Int, SgOK (F 0) (M 1) (F 2) m3 ∧ (f7 = wk (mtc (M 6)) (M 5) (F 4) 0) ∧ WR (mtc (M 6)) (M 5) m8 m9 m10 m11 (F 4) 0 ∧ MH E A ad (va_up F 7 f7) (va_up (va_up (va_up (va_up (va_up M 3 m3) 8 m8) 9 m9) 10 m10) 11 m11) H)) args s (rm_X2_findWords).cells (rm_X2_findWords).slots A) (F0 m 15 ls []) := by
    intro fu
    induction fu with
    | zero => intro v1 f7 m8 m9 m10 m11 h1 hk hw hm; exact absurd hm (Nat.not_lt_zero _)
    | succ fu ih15 =>
      intro v1 f7 m8 m9 m10 m11 h1 hk hw hm H locs ls hX hS hl
      refine lv_iload_n C.x C.b dX2_findWords_15 rfl (lv_at hl 1 rfl) ?_
      refine lv_aload_n C.x C.b dX2_findWords_16 rfl (lv_at hl 0 rfl) ?_
      refine mg_4 C hX (F 4) rfl dX2_findWords_17 (fun _ => ?_)
      refine r_icmp_ge (tgt := 167) C (by omega) (by omega) dX2_findWords_20 (by decide) (fun c_1 => ?_) (fun c_1 => ?_)
      · exact r_vret C hS (Nat.le_of_ble_eq_true rfl) (Nat.le_of_ble_eq_true rfl) dX2_findWords_167 ⟨f7, sg, m8, m9, m10, m11, hsg, (by rw [hk, show v1 = F 4 by omega]), (by rw [← show v1 = F 4 by omega]; exact hw), hX⟩
      · refine r_const C dX2_findWords_23 ?_
        refine lv_istore_n (lv' := [(2, .int (zi 0)), (0, .ref (ad 63)), (1, .int (zi v1))]) C.x C.b dX2_findWords_24 rfl hl (by decide) rfl (fun ls hl => ?_)
        refine r_const C dX2_findWords_25 ?_
        refine lv_istore_n (lv' := [(3, .int (zi 1)), (2, .int (zi 0)), (0, .ref (ad 63)), (1, .int (zi v1))]) C.x C.b dX2_findWords_26 rfl hl (by decide) rfl (fun ls hl => ?_)
        refine r_const C dX2_findWords_27 ?_
        refine lv_istore (lv' := [(4, .int (zi 0)), (3, .int (zi 1)), (2, .int (zi 0)), (0, .ref (ad 63)), (1, .int (zi v1))]) C.x C.b dX2_findWords_28 hl (by decide) rfl (fun ls hl => ?_)
        have L30 : ∀ (fu : Nat) (v2 : Int) (v3 : Prop) (xv3 : Int) (hv3 : xv3 = bI v3) (v4 : Int) (f7 : Int) (m8 : Int → Int) (m9 : Int → Int) (m10 : Int → Int) (m11 : Int → Int) (h4 : 0 ≤ v4 ∧ v4 ≤ M 5 v1 + 1) (hI : FWI (mtc (M 6)) (M 5) v1 v2 v3 v4 f7 m8 m9 m10 m11) (hm : Int.toNat (M 5 v1 + 1 - v4) < fu) (H : Heap) (locs : List Loc) (ls : Array Slot) (hX : MH E A ad (va_up F 7 f7) (va_up (va_up (va_up (va_up (va_up M 3 sg) 8 m8) 9 m9) 10 m10) 11 m11) H) (hS : va_S A s.heap H locs) (hl : lv_has ls 6 [(0, .ref (ad 63)), (1, .int (zi v1)), (2, .int (zi v2)), (3, .int (zi xv3)), (4, .int (zi v4))]), W p l e rm_X2_findWords s m args below meth c H locs 0 0 (MQ below (qv A (fun H => ∃ f7 : Int, ∃ m3 : Int → Int, ∃ m8 : Int → Int, ∃ m9 : Int → Int, ∃ m10 : Int → Int, ∃ m11 : Int → Int, SgOK (F 0) (M 1) (F 2) m3 ∧ (f7 = wk (mtc (M 6)) (M 5) (F 4) 0) ∧ WR (mtc (M 6)) (M 5) m8 m9 m10 m11 (F 4) 0 ∧ MH E A ad (va_up F 7 f7) (va_up (va_up (va_up (va_up (va_up M 3 m3) 8 m8) 9 m9) 10 m10) 11 m11) H)) args s (rm_X2_findWords).cells (rm_X2_findWords).slots A) (F0 m 30 ls []) := by
          intro fu
          induction fu with
          | zero => intro v2 v3 xv3 hv3 v4 f7 m8 m9 m10 m11 h4 hI hm; exact absurd hm (Nat.not_lt_zero _)
          | succ fu ih30 =>
            intro v2 v3 xv3 hv3 v4 f7 m8 m9 m10 m11 h4 hI hm H locs ls hX hS hl
            subst hv3
            refine lv_iload C.x C.b dX2_findWords_30 (lv_at hl 4 rfl) ?_
            refine lv_aload_n C.x C.b dX2_findWords_32 rfl (lv_at hl 0 rfl) ?_
            refine mg_5 C hX dX2_findWords_33 ?_
            refine lv_iload_n C.x C.b dX2_findWords_36 rfl (lv_at hl 1 rfl) ?_
            refine ml_5 C hX (by omega) (M 5) rfl dX2_findWords_37 (fun r37 => ?_)
            refine r_icmp_gt (tgt := 161) C (by omega) (by omega) dX2_findWords_38 (by decide) (fun c_2 => ?_) (fun c_2 => ?_)
            · refine r_iinc (lv' := [(1, .int (zi (v1 + 1))), (0, .ref (ad 63)), (2, .int (zi v2)), (3, .int (zi (bI v3))), (4, .int (zi v4))]) C dX2_findWords_161 hl (k := 1) rfl (by decide) rfl (fun ls hl => ?_)
              refine lv_goto (tgt := 15) C.x C.b dX2_findWords_164 (by decide) ?_
              exact ih15 (v1 + 1) f7 m8 m9 m10 m11 (by omega) (hI.out (by omega)).1 (hI.out (by omega)).2 (by omega) H locs ls hX hS (lv_sub hl [1, 0] rfl)
            · refine lv_iload C.x C.b dX2_findWords_41 (lv_at hl 4 rfl) ?_
              refine lv_aload_n C.x C.b dX2_findWords_43 rfl (lv_at hl 0 rfl) ?_
              refine mg_5 C hX dX2_findWords_44 ?_
              refine lv_iload_n C.x C.b dX2_findWords_47 rfl (lv_at hl 1 rfl) ?_
              refine ml_5 C hX (by omega) (M 5) rfl dX2_findWords_48 (fun _ => ?_)
              have r3s : 0 ≤ sg (M 6 (24 * v1 + v4)) ∧ sg (M 6 (24 * v1 + v4)) ≤ 23 := hX.2.2 3 (0, 23) rfl _
              have hsa2 := sa_2 (c := M 6 (24 * v1 + v4)) r3s.1
              have hsa1 := sa_1 (c := M 6 (24 * v1 + v4)) r3s.1
              have hlo := hI.lo
              have J64_3 : ∀ (t0 : Int) (ht0 : t0 = sel (v4 < (M 5 v1)) (sa (sg) ((M 6) (24 * v1 + v4))) (-2)) (H : Heap) (locs : List Loc) (ls : Array Slot) (hX : MH E A ad (va_up F 7 f7) (va_up (va_up (va_up (va_up (va_up M 3 sg) 8 m8) 9 m9) 10 m10) 11 m11) H) (hS : va_S A s.heap H locs) (hl : lv_has ls 6 [(0, .ref (ad 63)), (1, .int (zi v1)), (2, .int (zi v2)), (3, .int (zi (bI v3))), (4, .int (zi v4))]), W p l e rm_X2_findWords s m args below meth c H locs 0 0 (MQ below (qv A (fun H => ∃ f7 : Int, ∃ m3 : Int → Int, ∃ m8 : Int → Int, ∃ m9 : Int → Int, ∃ m10 : Int → Int, ∃ m11 : Int → Int, SgOK (F 0) (M 1) (F 2) m3 ∧ (f7 = wk (mtc (M 6)) (M 5) (F 4) 0) ∧ WR (mtc (M 6)) (M 5) m8 m9 m10 m11 (F 4) 0 ∧ MH E A ad (va_up F 7 f7) (va_up (va_up (va_up (va_up (va_up M 3 m3) 8 m8) 9 m9) 10 m10) 11 m11) H)) args s (rm_X2_findWords).cells (rm_X2_findWords).slots A) (F0 m 64 ls [.int (zi t0)]) := by
                intro t0 ht0 H locs ls hX hS hl
                subst ht0
                refine lv_istore (lv' := [(5, .int (zi (sel (v4 < (M 5 v1)) (sa (sg) ((M 6) (24 * v1 + v4))) (-2)))), (0, .ref (ad 63)), (1, .int (zi v1)), (2, .int (zi v2)), (3, .int (zi (bI v3))), (4, .int (zi v4))]) C.x C.b dX2_findWords_64 hl (by decide) rfl (fun ls hl => ?_)
                have h5r : -2 ≤ sel (v4 < M 5 v1) (sa sg (M 6 (24 * v1 + v4))) (-2) ∧ sel (v4 < M 5 v1) (sa sg (M 6 (24 * v1 + v4))) (-2) ≤ 23 := sel_rg (fun _ => sa_r (hX.2.2 6 (-2, 23) rfl _).1 (hX.2.2 6 (-2, 23) rfl _).2 r3s) (fun _ => by omega)
                refine lv_iload C.x C.b dX2_findWords_66 (lv_at hl 0 rfl) ?_
                refine r_bipush C (by decide) dX2_findWords_68 ?_
                have J139_4 : ∀ (z2 : Int) (z3 : Prop) (xz3 : Int) (hz3 : xz3 = bI z3) (z7 : Int) (z8 : Int → Int) (z9 : Int → Int) (z10 : Int → Int) (z11 : Int → Int) (hA : sel (v4 < M 5 v1) (sa sg (M 6 (24 * v1 + v4))) (-2) = -2 → z2 = v4 + 1 ∧ z3 ∧ FWE (mtc (M 6)) (M 5) v1 v4 z7 z8 z9 z10 z11) (hB : ¬ sel (v4 < M 5 v1) (sa sg (M 6 (24 * v1 + v4))) (-2) = -2 → FWI (mtc (M 6)) (M 5) v1 z2 z3 v4 z7 z8 z9 z10 z11) (H : Heap) (locs : List Loc) (ls : Array Slot) (hX : MH E A ad (va_up F 7 z7) (va_up (va_up (va_up (va_up (va_up M 3 sg) 8 z8) 9 z9) 10 z10) 11 z11) H) (hS : va_S A s.heap H locs) (hl : lv_has ls 6 [(5, .int (zi (sel (v4 < (M 5 v1)) (sa (sg) ((M 6) (24 * v1 + v4))) (-2)))), (0, .ref (ad 63)), (1, .int (zi v1)), (2, .int (zi z2)), (3, .int (zi xz3)), (4, .int (zi v4))]), W p l e rm_X2_findWords s m args below meth c H locs 0 0 (MQ below (qv A (fun H => ∃ f7 : Int, ∃ m3 : Int → Int, ∃ m8 : Int → Int, ∃ m9 : Int → Int, ∃ m10 : Int → Int, ∃ m11 : Int → Int, SgOK (F 0) (M 1) (F 2) m3 ∧ (f7 = wk (mtc (M 6)) (M 5) (F 4) 0) ∧ WR (mtc (M 6)) (M 5) m8 m9 m10 m11 (F 4) 0 ∧ MH E A ad (va_up F 7 f7) (va_up (va_up (va_up (va_up (va_up M 3 m3) 8 m8) 9 m9) 10 m10) 11 m11) H)) args s (rm_X2_findWords).cells (rm_X2_findWords).slots A) (F0 m 139 ls []) := by
                  intro z2 z3 xz3 hz3 z7 z8 z9 z10 z11 hA hB H locs ls hX hS hl
                  subst hz3
                  refine lv_iload_n C.x C.b dX2_findWords_139 rfl (lv_at hl 4 rfl) ?_
                  have J154_5 : ∀ (t0 : Int) (ht0 : t0 = bI (z3 ∧ (¬ ((sel (v4 < (M 5 v1)) (sa (sg) ((M 6) (24 * v1 + v4))) (-2)) = (-1))))) (H : Heap) (locs : List Loc) (ls : Array Slot) (hX : MH E A ad (va_up F 7 z7) (va_up (va_up (va_up (va_up (va_up M 3 sg) 8 z8) 9 z9) 10 z10) 11 z11) H) (hS : va_S A s.heap H locs) (hl : lv_has ls 6 [(5, .int (zi (sel (v4 < (M 5 v1)) (sa (sg) ((M 6) (24 * v1 + v4))) (-2)))), (0, .ref (ad 63)), (1, .int (zi v1)), (2, .int (zi z2)), (3, .int (zi (bI z3))), (4, .int (zi v4))]), W p l e rm_X2_findWords s m args below meth c H locs 0 0 (MQ below (qv A (fun H => ∃ f7 : Int, ∃ m3 : Int → Int, ∃ m8 : Int → Int, ∃ m9 : Int → Int, ∃ m10 : Int → Int, ∃ m11 : Int → Int, SgOK (F 0) (M 1) (F 2) m3 ∧ (f7 = wk (mtc (M 6)) (M 5) (F 4) 0) ∧ WR (mtc (M 6)) (M 5) m8 m9 m10 m11 (F 4) 0 ∧ MH E A ad (va_up F 7 f7) (va_up (va_up (va_up (va_up (va_up M 3 m3) 8 m8) 9 m9) 10 m10) 11 m11) H)) args s (rm_X2_findWords).cells (rm_X2_findWords).slots A) (F0 m 154 ls [.int (zi t0)]) := by
                    intro t0 ht0 H locs ls hX hS hl
                    subst ht0
                    refine lv_istore_n (lv' := [(3, .int (zi (bI (z3 ∧ (¬ ((sel (v4 < (M 5 v1)) (sa (sg) ((M 6) (24 * v1 + v4))) (-2)) = (-1))))))), (5, .int (zi (sel (v4 < (M 5 v1)) (sa (sg) ((M 6) (24 * v1 + v4))) (-2)))), (0, .ref (ad 63)), (1, .int (zi v1)), (2, .int (zi z2)), (4, .int (zi v4))]) C.x C.b dX2_findWords_154 rfl hl (by decide) rfl (fun ls hl => ?_)
                    have hst : FWI (mtc (M 6)) (M 5) v1 z2 (z3 ∧ ¬ sel (v4 < M 5 v1) (sa sg (M 6 (24 * v1 + v4))) (-2) = -1) (v4 + 1) z7 z8 z9 z10 z11 := by
                      rcases Int.lt_or_le v4 (M 5 v1) with q | q
                      · by_cases e : mtc (M 6) v1 v4 = -2
                        · have e2 : sel (v4 < M 5 v1) (sa sg (M 6 (24 * v1 + v4))) (-2) = -2 := by rw [sel_t q]; exact hsa2.2 e
                          obtain ⟨a1, a2, a3⟩ := hA e2
                          rw [a1]
                          exact a3.next (fun a => (h24 a).1) h1.1 h4.1 (by omega) (Or.inr e) ⟨a2, by rw [e2]; omega⟩
                        · have e2 : ¬ sel (v4 < M 5 v1) (sa sg (M 6 (24 * v1 + v4))) (-2) = -2 := by rw [sel_t q]; exact fun z => e (hsa2.1 z)
                          have := (hB e2).go q e
                          rw [sel_t q]
                          rw [show (¬ sa sg (M 6 (24 * v1 + v4)) = -1) = (¬ mtc (M 6) v1 v4 = -1) from propext (not_congr hsa1)]
                          exact this
                      · have e2 : sel (v4 < M 5 v1) (sa sg (M 6 (24 * v1 + v4))) (-2) = -2 := sel_f (by omega)
                        obtain ⟨a1, a2, a3⟩ := hA e2
                        rw [a1]
                        exact a3.next (fun a => (h24 a).1) h1.1 h4.1 (by omega) (Or.inl (by omega)) ⟨a2, by rw [e2]; omega⟩
                    refine r_iinc (lv' := [(4, .int (zi (v4 + 1))), (3, .int (zi (bI (z3 ∧ (¬ ((sel (v4 < (M 5 v1)) (sa (sg) ((M 6) (24 * v1 + v4))) (-2)) = (-1))))))), (5, .int (zi (sel (v4 < (M 5 v1)) (sa (sg) ((M 6) (24 * v1 + v4))) (-2)))), (0, .ref (ad 63)), (1, .int (zi v1)), (2, .int (zi z2))]) C dX2_findWords_155 hl (k := 5) rfl (by decide) rfl (fun ls hl => ?_)
                    refine lv_goto (tgt := 30) C.x C.b dX2_findWords_158 (by decide) ?_
                    exact ih30 z2 (z3 ∧ (¬ ((sel (v4 < (M 5 v1)) (sa (sg) ((M 6) (24 * v1 + v4))) (-2)) = (-1)))) (bI (z3 ∧ (¬ ((sel (v4 < (M 5 v1)) (sa (sg) ((M 6) (24 * v1 + v4))) (-2)) = (-1))))) rfl (v4 + 1) z7 z8 z9 z10 z11 (by omega) hst (by omega) H locs ls hX hS (lv_sub hl [3, 4, 5, 1, 0] rfl)
                  refine r_if_eq_b (tgt := 153) C dX2_findWords_140 (by decide) (fun c_6 => ?_) (fun c_6 => ?_)
                  · refine r_const C dX2_findWords_153 ?_
                    exact J154_5 0 ((bI_f (fun q => c_6 q.1)).symm) H locs ls hX hS hl
                  · refine lv_iload C.x C.b dX2_findWords_143 (lv_at hl 0 rfl) ?_
                    refine r_const C dX2_findWords_145 ?_
                    refine r_icmp_eq (tgt := 153) C (by omega) (by decide) dX2_findWords_146 (by decide) (fun c_7 => ?_) (fun c_7 => ?_)
                    · refine r_const C dX2_findWords_153 ?_
                      exact J154_5 0 ((bI_f (fun q => (fun q => q c_7) q.2)).symm) H locs ls hX hS hl
                    · refine r_const C dX2_findWords_149 ?_
                      refine lv_goto (tgt := 154) C.x C.b dX2_findWords_150 (by decide) ?_
                      exact J154_5 1 ((bI_t ⟨c_6, c_7⟩).symm) H locs ls hX hS hl
                refine r_icmp_ne (tgt := 139) C (by omega) (by decide) dX2_findWords_70 (by decide) (fun c_8 => ?_) (fun c_8 => ?_)
                · exact J139_4 v2 v3 (bI v3) rfl f7 m8 m9 m10 m11 (by first | exact (fun q => absurd q (by assumption)) | exact (fun _ => ⟨rfl, trivial, hI.rec (fun a => (h24 a).1) h1.1 (by omega) hE (by assumption)⟩) | exact (fun _ => ⟨rfl, trivial, hI.norec (by omega) (by assumption)⟩)) (by first | exact (fun q => absurd (by assumption) q) | exact (fun _ => hI)) H locs ls hX hS hl
                · have hE : v4 = M 5 v1 ∨ mtc (M 6) v1 v4 = -2 := by
                    rcases Int.lt_or_le v4 (M 5 v1) with q | q
                    · right
                      have z : sel (v4 < M 5 v1) (sa sg (M 6 (24 * v1 + v4))) (-2) = -2 := by assumption
                      rw [sel_t q] at z
                      exact hsa2.1 z
                    · left; omega
                  have hlo2 := hlo (by omega)
                  have hkr := wk_r (tc := (mtc (M 6))) h24 h1.1 (i := v2) (by have := h24 v1; omega)
                  refine lv_iload C.x C.b dX2_findWords_73 (lv_at hl 5 rfl) ?_
                  refine lv_iload_n C.x C.b dX2_findWords_75 rfl (lv_at hl 3 rfl) ?_
                  refine r_icmp_le (tgt := 132) C (by omega) (by omega) dX2_findWords_76 (by decide) (fun c_9 => ?_) (fun c_9 => ?_)
                  · refine lv_iload C.x C.b dX2_findWords_132 (lv_at hl 5 rfl) ?_
                    refine r_const C dX2_findWords_134 ?_
                    refine r_iadd C dX2_findWords_135 ?_
                    refine lv_istore_n (lv' := [(2, .int (zi (v4 + 1))), (5, .int (zi (sel (v4 < (M 5 v1)) (sa (sg) ((M 6) (24 * v1 + v4))) (-2)))), (0, .ref (ad 63)), (1, .int (zi v1)), (3, .int (zi (bI v3))), (4, .int (zi v4))]) C.x C.b dX2_findWords_136 rfl hl (by decide) rfl (fun ls hl => ?_)
                    refine r_const C dX2_findWords_137 ?_
                    refine lv_istore_n (lv' := [(3, .int (zi 1)), (2, .int (zi (v4 + 1))), (5, .int (zi (sel (v4 < (M 5 v1)) (sa (sg) ((M 6) (24 * v1 + v4))) (-2)))), (0, .ref (ad 63)), (1, .int (zi v1)), (4, .int (zi v4))]) C.x C.b dX2_findWords_138 rfl hl (by decide) rfl (fun ls hl => ?_)
                    exact J139_4 (v4 + 1) True 1 bI_T.symm f7 m8 m9 m10 m11 (by first | exact (fun q => absurd q (by assumption)) | exact (fun _ => ⟨rfl, trivial, hI.rec (fun a => (h24 a).1) h1.1 (by omega) hE (by assumption)⟩) | exact (fun _ => ⟨rfl, trivial, hI.norec (by omega) (by assumption)⟩)) (by first | exact (fun q => absurd (by assumption) q) | exact (fun _ => hI)) H locs ls hX hS (lv_sub hl [2, 3, 4, 1, 0, 5] rfl)
                  · refine lv_aload_n C.x C.b dX2_findWords_79 rfl (lv_at hl 1 rfl) ?_
                    refine mg_8 C hX dX2_findWords_80 ?_
                    refine lv_aload_n C.x C.b dX2_findWords_83 rfl (lv_at hl 1 rfl) ?_
                    refine mg_7 C hX f7 rfl dX2_findWords_84 (fun r84 => ?_)
                    refine lv_iload_n C.x C.b dX2_findWords_87 rfl (lv_at hl 2 rfl) ?_
                    refine ms_8 C hX hS (by omega) (by omega) m8 rfl (M' := (va_up (va_up (va_up (va_up (va_up M 3 sg) 8 (fup m8 f7 v1)) 9 m9) 10 m10) 11 m11)) (up_in (by decide) (up_in (by decide) (up_in (by decide) (up_up _ _ _ _)))) dX2_findWords_88 (fun H locs hX hS => ?_)
                    refine lv_aload_n C.x C.b dX2_findWords_89 rfl (lv_at hl 1 rfl) ?_
                    refine mg_9 C hX dX2_findWords_90 ?_
                    refine lv_aload_n C.x C.b dX2_findWords_93 rfl (lv_at hl 1 rfl) ?_
                    refine mg_7 C hX f7 rfl dX2_findWords_94 (fun _ => ?_)
                    refine lv_iload_n C.x C.b dX2_findWords_97 rfl (lv_at hl 3 rfl) ?_
                    refine ms_9 C hX hS (by omega) (by omega) m9 rfl (M' := (va_up (va_up (va_up (va_up (va_up M 3 sg) 8 (fup m8 f7 v1)) 9 (fup m9 f7 v2)) 10 m10) 11 m11)) (up_in (by decide) (up_in (by decide) (up_up _ _ _ _))) dX2_findWords_98 (fun H locs hX hS => ?_)
                    refine lv_aload_n C.x C.b dX2_findWords_99 rfl (lv_at hl 1 rfl) ?_
                    refine mg_10 C hX dX2_findWords_100 ?_
                    refine lv_aload_n C.x C.b dX2_findWords_103 rfl (lv_at hl 1 rfl) ?_
                    refine mg_7 C hX f7 rfl dX2_findWords_104 (fun _ => ?_)
                    refine lv_iload C.x C.b dX2_findWords_107 (lv_at hl 5 rfl) ?_
                    refine lv_iload_n C.x C.b dX2_findWords_109 rfl (lv_at hl 3 rfl) ?_
                    refine r_isub C dX2_findWords_110 ?_
                    refine ms_10 C hX hS (by omega) (by omega) m10 rfl (M' := (va_up (va_up (va_up (va_up (va_up M 3 sg) 8 (fup m8 f7 v1)) 9 (fup m9 f7 v2)) 10 (fup m10 f7 (v4 - v2))) 11 m11)) (up_in (by decide) (up_up _ _ _ _)) dX2_findWords_111 (fun H locs hX hS => ?_)
                    refine lv_aload_n C.x C.b dX2_findWords_112 rfl (lv_at hl 1 rfl) ?_
                    refine mg_11 C hX dX2_findWords_113 ?_
                    refine lv_aload_n C.x C.b dX2_findWords_116 rfl (lv_at hl 1 rfl) ?_
                    refine mg_7 C hX f7 rfl dX2_findWords_117 (fun _ => ?_)
                    refine lv_iload_n C.x C.b dX2_findWords_120 rfl (lv_at hl 4 rfl) ?_
                    refine ms_11 C hX hS (by omega) (bI_01 _) m11 rfl (M' := (va_up (va_up (va_up (va_up (va_up M 3 sg) 8 (fup m8 f7 v1)) 9 (fup m9 f7 v2)) 10 (fup m10 f7 (v4 - v2))) 11 (fup m11 f7 (bI v3)))) (up_up _ _ _ _) dX2_findWords_121 (fun H locs hX hS => ?_)
                    refine lv_aload_n C.x C.b dX2_findWords_122 rfl (lv_at hl 1 rfl) ?_
                    refine lv_dup C.x C.b dX2_findWords_123 rfl ?_
                    refine mg_7 C hX f7 rfl dX2_findWords_124 (fun _ => ?_)
                    refine r_const C dX2_findWords_127 ?_
                    refine r_iadd C dX2_findWords_128 ?_
                    refine mp_7 C hX hS (by omega) (F' := (va_up F 7 (f7 + 1))) (up_up _ _ _ _) dX2_findWords_129 (fun H locs hX hS => ?_)
                    refine lv_iload C.x C.b dX2_findWords_132 (lv_at hl 5 rfl) ?_
                    refine r_const C dX2_findWords_134 ?_
                    refine r_iadd C dX2_findWords_135 ?_
                    refine lv_istore_n (lv' := [(2, .int (zi (v4 + 1))), (5, .int (zi (sel (v4 < (M 5 v1)) (sa (sg) ((M 6) (24 * v1 + v4))) (-2)))), (0, .ref (ad 63)), (1, .int (zi v1)), (3, .int (zi (bI v3))), (4, .int (zi v4))]) C.x C.b dX2_findWords_136 rfl hl (by decide) rfl (fun ls hl => ?_)
                    refine r_const C dX2_findWords_137 ?_
                    refine lv_istore_n (lv' := [(3, .int (zi 1)), (2, .int (zi (v4 + 1))), (5, .int (zi (sel (v4 < (M 5 v1)) (sa (sg) ((M 6) (24 * v1 + v4))) (-2)))), (0, .ref (ad 63)), (1, .int (zi v1)), (4, .int (zi v4))]) C.x C.b dX2_findWords_138 rfl hl (by decide) rfl (fun ls hl => ?_)
                    exact J139_4 (v4 + 1) True 1 bI_T.symm (f7 + 1) (fup m8 f7 v1) (fup m9 f7 v2) (fup m10 f7 (v4 - v2)) (fup m11 f7 (bI v3)) (by first | exact (fun q => absurd q (by assumption)) | exact (fun _ => ⟨rfl, trivial, hI.rec (fun a => (h24 a).1) h1.1 (by omega) hE (by assumption)⟩) | exact (fun _ => ⟨rfl, trivial, hI.norec (by omega) (by assumption)⟩)) (by first | exact (fun q => absurd (by assumption) q) | exact (fun _ => hI)) H locs ls hX hS (lv_sub hl [2, 3, 4, 1, 0, 5] rfl)
              refine r_icmp_ge (tgt := 62) C (by omega) (by omega) dX2_findWords_49 (by decide) (fun c_10 => ?_) (fun c_10 => ?_)
              · refine r_bipush C (by decide) dX2_findWords_62 ?_
                exact J64_3 (-2) ((sel_f c_10).symm) H locs ls hX hS hl
              · refine lv_aload_n C.x C.b dX2_findWords_52 rfl (lv_at hl 0 rfl) ?_
                refine lv_iload_n C.x C.b dX2_findWords_53 rfl (lv_at hl 1 rfl) ?_
                refine lv_iload C.x C.b dX2_findWords_54 (lv_at hl 4 rfl) ?_
                refine r_callVi (As := [.int (zi v1), .int (zi v4)]) (rest := []) (cells' := 0) (slots' := 0) C (met_X2_at l E A ad (va_up F 7 f7) (va_up (va_up (va_up (va_up (va_up M 3 sg) 8 m8) 9 m9) 10 m10) 11 m11) v1 v4 (show 0 ≤ v1 ∧ v1 < 8 from (by omega)) (show 0 ≤ v4 ∧ v4 < 24 from (by omega))) (lw_V q1259 q1261 qs47 q88 q1262) hd_X2_at rfl (by decide) (m_recv C hX) hX hS hl.1 rfl (Nat.le_of_ble_eq_true rfl) dX2_findWords_56 rfl rfl ⟨Nat.le_of_ble_eq_true rfl, Nat.le_of_ble_eq_true rfl⟩ (fun rr H locs hp hS => ?_)
                obtain ⟨hat, hrr, hX⟩ := hp
                have hrr : rr = sa (sg) ((M 6) (24 * v1 + v4)) := hrr
                subst hrr
                have hat : -2 ≤ sa (sg) ((M 6) (24 * v1 + v4)) ∧ sa (sg) ((M 6) (24 * v1 + v4)) ≤ 23 := hat
                refine lv_goto (tgt := 64) C.x C.b dX2_findWords_59 (by decide) ?_
                exact J64_3 (sa (sg) ((M 6) (24 * v1 + v4))) ((sel_t c_10).symm) H locs ls hX hS hl
        have r5 := h24 v1
        exact L30 _ 0 True 1 bI_T.symm 0 f7 m8 m9 m10 m11 (by omega) (FWI.zero (h24 v1).1 hk hw) (Nat.lt_succ_self _) H locs ls hX hS (lv_sub hl [3, 4, 2, 1, 0] rfl)
  exact L15 _ 0 0 (M 8) (M 9) (M 10) (M 11) (by omega) rfl (fun a b a1 a2 a3 a4 a5 => absurd a5 (by omega)) (Nat.lt_succ_self _) H locs ls (hX.to rfl (((((up_id (va_up M 3 sg) (k := 8) (a := (M 8)) rfl).symm.trans rfl).trans ((up_id (va_up (va_up M 3 sg) 8 (M 8)) (k := 9) (a := (M 9)) rfl).symm.trans rfl)).trans ((up_id (va_up (va_up (va_up M 3 sg) 8 (M 8)) 9 (M 9)) (k := 10) (a := (M 10)) rfl).symm.trans rfl)).trans ((up_id (va_up (va_up (va_up (va_up M 3 sg) 8 (M 8)) 9 (M 9)) 10 (M 10)) (k := 11) (a := (M 11)) rfl).symm.trans rfl))) hS (lv_sub hl [1, 0] rfl)

theorem hd_X2_textOf : yX2_textOf.cls = RX2 ∧ yX2_textOf.cls ≠ "java/lang/invoke/MethodHandle" ∧ yX2_textOf.cls ≠ "java/lang/invoke/VarHandle" ∧ (parseMethodDescriptor yX2_textOf.desc).map (fun d => d.parameters.length) = some 2 := by decide +kernel
abbrev rm_X2_textOf : Room := { frames := 3, cells := 0, slots := 0, locals := 73 }
set_option maxHeartbeats 8000000 in
theorem met_X2_textOf (l : Launch) (E : us_E) (A : Nat → Prop) (ad : Nat → Nat) (F : Nat → Int) (M : Nat → Int → Int) (t : Int) (w : Int) (ht : -2147483648 ≤ t ∧ t < 2147483648) (hw : -2147483648 ≤ w ∧ w < 2147483648) : cMet l yX2_textOf cX2_textOf 9 (some .int) rm_X2_textOf A E [.ref (ad 63), .int (zi t), .int (zi w)] (fun H => MH E A ad F M H) (qi A (fun r H => ∃ f7 : Int, ∃ m3 : Int → Int, ∃ m8 : Int → Int, ∃ m9 : Int → Int, ∃ m10 : Int → Int, ∃ m11 : Int → Int, (((0 ≤ t ∧ t < F 4) ∧ ((0 ≤ w ∧ w ≤ 5) ∨ (10 ≤ w ∧ w ≤ 9 + M 5 t))) → SgOK (F 0) (M 1) (F 2) m3) ∧ (r = sel ((0 ≤ t ∧ t < F 4) ∧ ((0 ≤ w ∧ w ≤ 5) ∨ (10 ≤ w ∧ w ≤ 9 + M 5 t))) (txo m3 (mtc (M 6)) (M 5) t w) (-10)) ∧ MH E A ad (va_up F 7 f7) (va_up (va_up (va_up (va_up (va_up M 3 m3) 8 m8) 9 m9) 10 m10) 11 m11) H)) := by
  refine cMet.of (by decide) (Nat.le_of_ble_eq_true rfl) (fun p e s m args below meth c C hnm hX hS ls hl => ?_)
  have C : Cx p s m args meth c A RX2 cX2_textOf 9 (some .int) E := C
  have hX : MH E A ad F M s.heap := hX
  have hl : lv_has ls 9 [(0, .ref (ad 63)), (1, .int (zi t)), (2, .int (zi w))] := hl
  generalize hH : s.heap = H at hX
  have hS : va_S A s.heap H [] := by rw [← hH]; exact hS
  generalize hlocs : ([] : List Loc) = locs at hS ⊢
  have rF0 : 0 ≤ F 0 ∧ F 0 ≤ 24 := hX.2.1 0 (0, 24) rfl
  have rF2 : 0 ≤ F 2 ∧ F 2 ≤ 12 := hX.2.1 2 (0, 12) rfl
  have rF4 : 0 ≤ F 4 ∧ F 4 ≤ 8 := hX.2.1 4 (0, 8) rfl
  have rF7 : 0 ≤ F 7 ∧ F 7 ≤ 104 := hX.2.1 7 (0, 104) rfl
  have h24 : ∀ t, 0 ≤ M 5 t ∧ M 5 t ≤ 24 := fun t => hX.2.2 5 (0, 24) rfl t
  have hcl : ∀ q, -2 ≤ M 6 q ∧ M 6 q ≤ 23 := fun q => hX.2.2 6 (-2, 23) rfl q
  refine lv_aload_n C.x C.b dX2_textOf_0 rfl (lv_at hl 0 rfl) ?_
  refine lv_iload_n C.x C.b dX2_textOf_1 rfl (lv_at hl 1 rfl) ?_
  refine r_callVi (As := [.int (zi t)]) (rest := []) (cells' := 0) (slots' := 0) C (met_X2_isText l E A ad F M t (show -2147483648 ≤ t ∧ t < 2147483648 from (by omega))) (lw_V q1249 q1251 qs45 q88 q1252) hd_X2_isText rfl (by decide) (m_recv C hX) hX hS hl.1 rfl (Nat.le_of_ble_eq_true rfl) dX2_textOf_2 rfl rfl ⟨Nat.le_of_ble_eq_true rfl, Nat.le_of_ble_eq_true rfl⟩ (fun rr H locs hp hS => ?_)
  obtain ⟨hrr, hX⟩ := hp
  have hrr : rr = bI (0 ≤ t ∧ t < (F 4)) := hrr
  subst hrr
  have J44_1 : ∀ (hok : (0 ≤ t ∧ t < F 4) ∧ ((0 ≤ w ∧ w ≤ 5) ∨ (10 ≤ w ∧ w ≤ 9 + M 5 t))) (H : Heap) (locs : List Loc) (ls : Array Slot) (hX : MH E A ad F M H) (hS : va_S A s.heap H locs) (hl : lv_has ls 9 [(0, .ref (ad 63)), (1, .int (zi t)), (2, .int (zi w))]), W p l e rm_X2_textOf s m args below meth c H locs 0 0 (MQ below (qi A (fun r H => ∃ f7 : Int, ∃ m3 : Int → Int, ∃ m8 : Int → Int, ∃ m9 : Int → Int, ∃ m10 : Int → Int, ∃ m11 : Int → Int, (((0 ≤ t ∧ t < F 4) ∧ ((0 ≤ w ∧ w ≤ 5) ∨ (10 ≤ w ∧ w ≤ 9 + M 5 t))) → SgOK (F 0) (M 1) (F 2) m3) ∧ (r = sel ((0 ≤ t ∧ t < F 4) ∧ ((0 ≤ w ∧ w ≤ 5) ∨ (10 ≤ w ∧ w ≤ 9 + M 5 t))) (txo m3 (mtc (M 6)) (M 5) t w) (-10)) ∧ MH E A ad (va_up F 7 f7) (va_up (va_up (va_up (va_up (va_up M 3 m3) 8 m8) 9 m9) 10 m10) 11 m11) H)) args s (rm_X2_textOf).cells (rm_X2_textOf).slots A) (F0 m 44 ls []) := by
    intro hok H locs ls hX hS hl
    refine lv_aload_n C.x C.b dX2_textOf_44 rfl (lv_at hl 0 rfl) ?_
    refine r_callVv (As := []) (rest := []) (cells' := 0) (slots' := 0) C (met_X2_findWords l E A ad F M) (lw_V q1255 q1257 qs46 q88 q1258) hd_X2_findWords rfl (by decide) (m_recv C hX) hX hS hl.1 rfl (Nat.le_of_ble_eq_true rfl) dX2_textOf_45 rfl rfl ⟨Nat.le_of_ble_eq_true rfl, Nat.le_of_ble_eq_true rfl⟩ (fun H locs hp hS => ?_)
    obtain ⟨wn, sg, w8, w9, w10, w11, hsg, hwk, hwr, hX⟩ := hp
    have hsg : SgOK ((F 0)) ((M 1)) ((F 2)) sg := hsg
    have hwk : wn = wk (mtc ((M 6))) ((M 5)) ((F 4)) 0 := hwk
    have hwr : WR (mtc ((M 6))) ((M 5)) w8 w9 w10 w11 ((F 4)) 0 := hwr
    have hX : MH E A ad (va_up F 7 wn) (va_up (va_up (va_up (va_up (va_up M 3 sg) 8 w8) 9 w9) 10 w10) 11 w11) H := hX.to rfl ((congrArg (fun z => va_up z 11 w11) ((congrArg (fun z => va_up z 10 w10) ((congrArg (fun z => va_up z 9 w9) ((congrArg (fun z => va_up z 8 w8) rfl).trans rfl)).trans rfl)).trans rfl)).trans rfl)
    have hwkr := wk_r (tc := (mtc (M 6))) h24 rF4.1 (i := 0) (by omega)
    refine r_const C dX2_textOf_48 ?_
    refine lv_istore_n (lv' := [(3, .int (zi 0)), (0, .ref (ad 63)), (1, .int (zi t)), (2, .int (zi w))]) C.x C.b dX2_textOf_49 rfl hl (by decide) rfl (fun ls hl => ?_)
    refine r_const C dX2_textOf_50 ?_
    refine lv_istore (lv' := [(4, .int (zi 0)), (3, .int (zi 0)), (0, .ref (ad 63)), (1, .int (zi t)), (2, .int (zi w))]) C.x C.b dX2_textOf_51 hl (by decide) rfl (fun ls hl => ?_)
    refine r_const C dX2_textOf_53 ?_
    refine lv_istore (lv' := [(5, .int (zi 0)), (4, .int (zi 0)), (3, .int (zi 0)), (0, .ref (ad 63)), (1, .int (zi t)), (2, .int (zi w))]) C.x C.b dX2_textOf_54 hl (by decide) rfl (fun ls hl => ?_)
    have L56 : ∀ (fu : Nat) (v3 : Int) (v4 : Int) (v5 : Int) (h5 : 0 ≤ v5 ∧ v5 ≤ M 5 t) (h3 : v3 = tSig sg (mtc (M 6)) t v5) (h4 : v4 = tGap sg (mtc (M 6)) t v5) (hm : Int.toNat (M 5 t - v5) < fu) (H : Heap) (locs : List Loc) (ls : Array Slot) (hX : MH E A ad (va_up F 7 wn) (va_up (va_up (va_up (va_up (va_up M 3 sg) 8 w8) 9 w9) 10 w10) 11 w11) H) (hS : va_S A s.heap H locs) (hl : lv_has ls 9 [(0, .ref (ad 63)), (1, .int (zi t)), (2, .int (zi w)), (3, .int (zi v3)), (4, .int (zi v4)), (5, .int (zi v5))]), W p l e rm_X2_textOf s m args below meth c H locs 0 0 (MQ below (qi A (fun r H => ∃ f7 : Int, ∃ m3 : Int → Int, ∃ m8 : Int → Int, ∃ m9 : Int → Int, ∃ m10 : Int → Int, ∃ m11 : Int → Int, (((0 ≤ t ∧ t < F 4) ∧ ((0 ≤ w ∧ w ≤ 5) ∨ (10 ≤ w ∧ w ≤ 9 + M 5 t))) → SgOK (F 0) (M 1) (F 2) m3) ∧ (r = sel ((0 ≤ t ∧ t < F 4) ∧ ((0 ≤ w ∧ w ≤ 5) ∨ (10 ≤ w ∧ w ≤ 9 + M 5 t))) (txo m3 (mtc (M 6)) (M 5) t w) (-10)) ∧ MH E A ad (va_up F 7 f7) (va_up (va_up (va_up (va_up (va_up M 3 m3) 8 m8) 9 m9) 10 m10) 11 m11) H)) args s (rm_X2_textOf).cells (rm_X2_textOf).slots A) (F0 m 56 ls []) := by
      intro fu
      induction fu with
      | zero => intro v3 v4 v5 h5 h3 h4 hm; exact absurd hm (Nat.not_lt_zero _)
      | succ fu ih56 =>
        intro v3 v4 v5 h5 h3 h4 hm H locs ls hX hS hl
        refine lv_iload C.x C.b dX2_textOf_56 (lv_at hl 5 rfl) ?_
        refine lv_aload_n C.x C.b dX2_textOf_58 rfl (lv_at hl 0 rfl) ?_
        refine mg_5 C hX dX2_textOf_59 ?_
        refine lv_iload_n C.x C.b dX2_textOf_62 rfl (lv_at hl 1 rfl) ?_
        refine ml_5 C hX (by omega) (M 5) rfl dX2_textOf_63 (fun r63 => ?_)
        refine r_icmp_ge (tgt := 112) C (by omega) (by omega) dX2_textOf_64 (by decide) (fun c_2 => ?_) (fun c_2 => ?_)
        · have h3 : v3 = tSig sg (mtc (M 6)) t (M 5 t) := by rw [h3, show v5 = M 5 t by omega]
          have h4 : v4 = tGap sg (mtc (M 6)) t (M 5 t) := by rw [h4, show v5 = M 5 t by omega]
          refine r_const C dX2_textOf_112 ?_
          refine lv_istore (lv' := [(5, .int (zi 0)), (0, .ref (ad 63)), (1, .int (zi t)), (2, .int (zi w)), (3, .int (zi v3)), (4, .int (zi v4))]) C.x C.b dX2_textOf_113 hl (by decide) rfl (fun ls hl => ?_)
          refine r_const C dX2_textOf_115 ?_
          refine lv_istore (lv' := [(6, .int (zi 0)), (5, .int (zi 0)), (0, .ref (ad 63)), (1, .int (zi t)), (2, .int (zi w)), (3, .int (zi v3)), (4, .int (zi v4))]) C.x C.b dX2_textOf_116 hl (by decide) rfl (fun ls hl => ?_)
          refine r_const C dX2_textOf_118 ?_
          refine lv_istore (lv' := [(7, .int (zi 0)), (6, .int (zi 0)), (5, .int (zi 0)), (0, .ref (ad 63)), (1, .int (zi t)), (2, .int (zi w)), (3, .int (zi v3)), (4, .int (zi v4))]) C.x C.b dX2_textOf_119 hl (by decide) rfl (fun ls hl => ?_)
          refine r_const C dX2_textOf_121 ?_
          refine lv_istore (lv' := [(8, .int (zi 0)), (7, .int (zi 0)), (6, .int (zi 0)), (5, .int (zi 0)), (0, .ref (ad 63)), (1, .int (zi t)), (2, .int (zi w)), (3, .int (zi v3)), (4, .int (zi v4))]) C.x C.b dX2_textOf_122 hl (by decide) rfl (fun ls hl => ?_)
          have L124 : ∀ (fu : Nat) (v5 : Int) (v6 : Int) (v7 : Int) (v8 : Int) (h8 : 0 ≤ v8 ∧ v8 ≤ wn) (ha : v5 = isum (fun k => bI (w8 k = t)) v8) (hb : v6 = isum (fun k => bI (w8 k = t ∧ w11 k = 1)) v8) (hc : IsMx (fun v => ∃ k, 0 ≤ k ∧ k < v8 ∧ (w8 k = t ∧ w11 k = 1) ∧ v = w10 k) v7) (hmr : v7 ≤ 24) (hm : Int.toNat (wn - v8) < fu) (H : Heap) (locs : List Loc) (ls : Array Slot) (hX : MH E A ad (va_up F 7 wn) (va_up (va_up (va_up (va_up (va_up M 3 sg) 8 w8) 9 w9) 10 w10) 11 w11) H) (hS : va_S A s.heap H locs) (hl : lv_has ls 9 [(0, .ref (ad 63)), (1, .int (zi t)), (2, .int (zi w)), (3, .int (zi v3)), (4, .int (zi v4)), (5, .int (zi v5)), (6, .int (zi v6)), (7, .int (zi v7)), (8, .int (zi v8))]), W p l e rm_X2_textOf s m args below meth c H locs 0 0 (MQ below (qi A (fun r H => ∃ f7 : Int, ∃ m3 : Int → Int, ∃ m8 : Int → Int, ∃ m9 : Int → Int, ∃ m10 : Int → Int, ∃ m11 : Int → Int, (((0 ≤ t ∧ t < F 4) ∧ ((0 ≤ w ∧ w ≤ 5) ∨ (10 ≤ w ∧ w ≤ 9 + M 5 t))) → SgOK (F 0) (M 1) (F 2) m3) ∧ (r = sel ((0 ≤ t ∧ t < F 4) ∧ ((0 ≤ w ∧ w ≤ 5) ∨ (10 ≤ w ∧ w ≤ 9 + M 5 t))) (txo m3 (mtc (M 6)) (M 5) t w) (-10)) ∧ MH E A ad (va_up F 7 f7) (va_up (va_up (va_up (va_up (va_up M 3 m3) 8 m8) 9 m9) 10 m10) 11 m11) H)) args s (rm_X2_textOf).cells (rm_X2_textOf).slots A) (F0 m 124 ls []) := by
            intro fu
            induction fu with
            | zero => intro v5 v6 v7 v8 h8 ha hb hc hmr hm; exact absurd hm (Nat.not_lt_zero _)
            | succ fu ih124 =>
              intro v5 v6 v7 v8 h8 ha hb hc hmr hm H locs ls hX hS hl
              refine lv_iload C.x C.b dX2_textOf_124 (lv_at hl 8 rfl) ?_
              refine lv_aload_n C.x C.b dX2_textOf_126 rfl (lv_at hl 0 rfl) ?_
              refine mg_7 C hX wn rfl dX2_textOf_127 (fun r127 => ?_)
              refine r_icmp_ge (tgt := 209) C (by omega) (by omega) dX2_textOf_130 (by decide) (fun c_3 => ?_) (fun c_3 => ?_)
              · have e8 : v8 = wn := by omega
                have e5 : v5 = tWds (mtc (M 6)) t (M 5 t) := by
                  rw [ha, e8, hwk]
                  exact wk_row (g := fun _ => 1) (fun a => (h24 a).1) hok.1 (fun a b h1 h2 h3 h4 h5 => by rw [(hwr a b h1 h2 h3 h4 (Or.inl h5)).1]; rfl)
                have e6 : v6 = tWho (mtc (M 6)) (M 5) t (M 5 t) := by
                  rw [hb, e8, hwk, wk_row (g := fun b => bI (wh (mtc (M 6)) (M 5) t b)) (fun a => (h24 a).1) hok.1 (fun a b h1 h2 h3 h4 h5 => by
                    obtain ⟨q1, q2, q3, q4⟩ := hwr a b h1 h2 h3 h4 (Or.inl h5)
                    rw [q1, q4]
                    by_cases e : a = t
                    · rw [sel_t e, e]; exact bI_c ⟨fun z => z.2, fun z => ⟨rfl, z⟩⟩
                    · rw [sel_f e]; exact bI_f (fun z => e z.1))]
                  exact isum_congr (fun b _ _ => sel_by (fun _ => rfl) (fun q => (bI_f (fun z => q z.1)).symm))
                have e7 : v7 = tMst (mtc (M 6)) (M 5) t (M 5 t) := tMst_e (hc.congr (fun v => ⟨fun ⟨k, a, b, e, f⟩ => (by
                    obtain ⟨wa, wb_, hw1, hw2, hw3, hw4, hw5, hw6, hw7, hw8, hw9, hw10, hw11, hw12⟩ := hwr.at (fun a => (h24 a).1) rF4.1 (w := k) a (by omega)
                    have e1 : wa = t := by rw [← hw7]; exact e.1
                    rw [e1] at hw4 hw9 hw10
                    exact ⟨wb_, hw3, hw4, hw10.1 e.2, by rw [f, hw9]⟩), fun ⟨i, a, b, e, f⟩ => (by
                    obtain ⟨q1, q2, q3, q4⟩ := hwr t i hok.1.1 a b e.1 (Or.inl hok.1.2)
                    have lt : wk (mtc (M 6)) (M 5) t i + 1 ≤ wk (mtc (M 6)) (M 5) (F 4) 0 := KP_lt (fun a => (h24 a).1) hok.1.1 a b (Int.le_refl 0) e.1 (Or.inl hok.1.2)
                    exact ⟨wk (mtc (M 6)) (M 5) t i, KP_nn (fun a => (h24 a).1) hok.1.1 a, by omega, ⟨q1, q4.2 e⟩, by rw [f, q3]⟩)⟩))
                refine lv_iload_n C.x C.b dX2_textOf_209 rfl (lv_at hl 2 rfl) ?_
                rcases (show w = 0 ∨ w = 1 ∨ w = 2 ∨ w = 3 ∨ w = 4 ∨ w = 5 ∨ (w < 0 ∨ 5 < w) by omega) with cs | cs | cs | cs | cs | cs | cs
                · refine r_tswIn (k := 0) (tgt := 248) (off := 38) C cs (by omega) dX2_textOf_210 (by decide) rfl (by decide) ?_
                  refine lv_aload_n C.x C.b dX2_textOf_248 rfl (lv_at hl 0 rfl) ?_
                  refine mg_5 C hX dX2_textOf_249 ?_
                  refine lv_iload_n C.x C.b dX2_textOf_252 rfl (lv_at hl 1 rfl) ?_
                  refine ml_5 C hX (by omega) (M 5) rfl dX2_textOf_253 (fun _ => ?_)
                  exact r_iret C hS (Nat.le_of_ble_eq_true rfl) (Nat.le_of_ble_eq_true rfl) dX2_textOf_254 ⟨wn, sg, w8, w9, w10, w11, (fun _ => hsg), (by rw [sel_t hok]; unfold txo; rw [sel_t (by omega)]), hX⟩
                · refine r_tswIn (k := 1) (tgt := 255) (off := 45) C cs (by omega) dX2_textOf_210 (by decide) rfl (by decide) ?_
                  refine lv_iload_n C.x C.b dX2_textOf_255 rfl (lv_at hl 3 rfl) ?_
                  exact r_iret C hS (Nat.le_of_ble_eq_true rfl) (Nat.le_of_ble_eq_true rfl) dX2_textOf_256 ⟨wn, sg, w8, w9, w10, w11, (fun _ => hsg), (by rw [sel_t hok]; unfold txo; rw [sel_f (by omega), sel_t (by omega)]; exact h3), hX⟩
                · refine r_tswIn (k := 2) (tgt := 257) (off := 47) C cs (by omega) dX2_textOf_210 (by decide) rfl (by decide) ?_
                  refine lv_iload C.x C.b dX2_textOf_257 (lv_at hl 4 rfl) ?_
                  exact r_iret C hS (Nat.le_of_ble_eq_true rfl) (Nat.le_of_ble_eq_true rfl) dX2_textOf_259 ⟨wn, sg, w8, w9, w10, w11, (fun _ => hsg), (by rw [sel_t hok]; unfold txo; rw [sel_f (by omega), sel_f (by omega), sel_t (by omega)]; exact h4), hX⟩
                · refine r_tswIn (k := 3) (tgt := 260) (off := 50) C cs (by omega) dX2_textOf_210 (by decide) rfl (by decide) ?_
                  refine lv_iload C.x C.b dX2_textOf_260 (lv_at hl 5 rfl) ?_
                  exact r_iret C hS (Nat.le_of_ble_eq_true rfl) (Nat.le_of_ble_eq_true rfl) dX2_textOf_262 ⟨wn, sg, w8, w9, w10, w11, (fun _ => hsg), (by rw [sel_t hok]; unfold txo; rw [sel_f (by omega), sel_f (by omega), sel_f (by omega), sel_t (by omega)]; exact e5), hX⟩
                · refine r_tswIn (k := 4) (tgt := 263) (off := 53) C cs (by omega) dX2_textOf_210 (by decide) rfl (by decide) ?_
                  refine lv_iload C.x C.b dX2_textOf_263 (lv_at hl 6 rfl) ?_
                  exact r_iret C hS (Nat.le_of_ble_eq_true rfl) (Nat.le_of_ble_eq_true rfl) dX2_textOf_265 ⟨wn, sg, w8, w9, w10, w11, (fun _ => hsg), (by rw [sel_t hok]; unfold txo; rw [sel_f (by omega), sel_f (by omega), sel_f (by omega), sel_f (by omega), sel_t (by omega)]; exact e6), hX⟩
                · refine r_tswIn (k := 5) (tgt := 266) (off := 56) C cs (by omega) dX2_textOf_210 (by decide) rfl (by decide) ?_
                  refine lv_iload C.x C.b dX2_textOf_266 (lv_at hl 7 rfl) ?_
                  exact r_iret C hS (Nat.le_of_ble_eq_true rfl) (Nat.le_of_ble_eq_true rfl) dX2_textOf_268 ⟨wn, sg, w8, w9, w10, w11, (fun _ => hsg), (by rw [sel_t hok]; unfold txo; rw [sel_f (by omega), sel_f (by omega), sel_f (by omega), sel_f (by omega), sel_f (by omega), sel_t (by omega)]; exact e7), hX⟩
                · refine r_tswOut (tgt := 269) C (by omega) dX2_textOf_210 cs (by decide) ?_
                  refine lv_aload_n C.x C.b dX2_textOf_269 rfl (lv_at hl 0 rfl) ?_
                  refine lv_iload_n C.x C.b dX2_textOf_270 rfl (lv_at hl 1 rfl) ?_
                  refine lv_iload_n C.x C.b dX2_textOf_271 rfl (lv_at hl 2 rfl) ?_
                  refine r_bipush C (by decide) dX2_textOf_272 ?_
                  refine r_isub C dX2_textOf_274 ?_
                  refine r_callVi (As := [.int (zi t), .int (zi (w - 10))]) (rest := []) (cells' := 0) (slots' := 0) C (met_X2_at l E A ad (va_up F 7 wn) (va_up (va_up (va_up (va_up (va_up M 3 sg) 8 w8) 9 w9) 10 w10) 11 w11) t (w - 10) (show 0 ≤ t ∧ t < 8 from (by omega)) (show 0 ≤ (w - 10) ∧ (w - 10) < 24 from (by omega))) (lw_V q1259 q1261 qs47 q88 q1262) hd_X2_at rfl (by decide) (m_recv C hX) hX hS hl.1 rfl (Nat.le_of_ble_eq_true rfl) dX2_textOf_275 rfl rfl ⟨Nat.le_of_ble_eq_true rfl, Nat.le_of_ble_eq_true rfl⟩ (fun rr H locs hp hS => ?_)
                  obtain ⟨hat, hrr, hX⟩ := hp
                  have hrr : rr = sa (sg) ((M 6) (24 * t + (w - 10))) := hrr
                  subst hrr
                  have hat : -2 ≤ sa (sg) ((M 6) (24 * t + (w - 10))) ∧ sa (sg) ((M 6) (24 * t + (w - 10))) ≤ 23 := hat
                  exact r_iret C hS (Nat.le_of_ble_eq_true rfl) (Nat.le_of_ble_eq_true rfl) dX2_textOf_278 ⟨wn, sg, w8, w9, w10, w11, (fun _ => hsg), (by rw [sel_t hok]; unfold txo; rw [sel_f (by omega), sel_f (by omega), sel_f (by omega), sel_f (by omega), sel_f (by omega), sel_f (by omega)]; exact rfl), hX⟩
              · have r11 : 0 ≤ w11 v8 ∧ w11 v8 ≤ 1 := hX.2.2 11 (0, 1) rfl _
                have r10 : 0 ≤ w10 v8 ∧ w10 v8 ≤ 24 := hX.2.2 10 (0, 24) rfl _
                refine lv_aload_n C.x C.b dX2_textOf_133 rfl (lv_at hl 0 rfl) ?_
                refine mg_8 C hX dX2_textOf_134 ?_
                refine lv_iload C.x C.b dX2_textOf_137 (lv_at hl 8 rfl) ?_
                refine ml_8 C hX (by omega) w8 rfl dX2_textOf_139 (fun r139 => ?_)
                refine lv_iload_n C.x C.b dX2_textOf_140 rfl (lv_at hl 1 rfl) ?_
                refine r_icmp_ne (tgt := 203) C (by omega) (by omega) dX2_textOf_141 (by decide) (fun c_4 => ?_) (fun c_4 => ?_)
                · try have hst2 : v6 + bI (¬ w11 v8 = 0) = isum (fun k => bI (w8 k = t ∧ w11 k = 1)) (v8 + 1) := isum_st h8.1 hb (bI_c ⟨fun q => ⟨by assumption, by omega⟩, fun q => by omega⟩)
                  try have hst3 : IsMx (fun v => ∃ k, 0 ≤ k ∧ k < v8 + 1 ∧ (w8 k = t ∧ w11 k = 1) ∧ v = w10 k) (sel (w11 v8 = 0) v7 (sel (v7 < w10 v8) (w10 v8) v7)) := hc.st2 (z := w11 v8 = 0) (x := w10 v8) (fun v => ⟨fun ⟨k, a, b, e, f⟩ => (by
                      by_cases q : k = v8
                      · rw [q] at e f; exact Or.inr ⟨by omega, f⟩
                      · exact Or.inl ⟨k, a, by omega, e, f⟩), fun q => q.elim (fun ⟨k, a, b, e, f⟩ => ⟨k, a, by omega, e, f⟩) (fun z => ⟨v8, h8.1, by omega, ⟨by assumption, by omega⟩, z.2⟩)⟩) r10.1
                  try have hne : ¬ w8 v8 = t := by assumption
                  try have hst5 : IsMx (fun v => ∃ k, 0 ≤ k ∧ k < v8 + 1 ∧ (w8 k = t ∧ w11 k = 1) ∧ v = w10 k) v7 := hc.congr (fun v => ⟨fun ⟨k, a, b, e, f⟩ => ⟨k, a, by omega, e, f⟩, fun ⟨k, a, b, e, f⟩ => ⟨k, a, (by have z : ¬ k = v8 := fun z => hne (z ▸ e.1); omega), e, f⟩⟩)
                  have hst4 : sel (w11 v8 = 0) v7 (sel (v7 < w10 v8) (w10 v8) v7) ≤ 24 := (sel_rg (lo := -1) (fun _ => by have := hc.2.1; omega) (fun _ => sel_rg (fun _ => by omega) (fun _ => by have := hc.2.1; omega))).2
                  refine r_iinc (lv' := [(8, .int (zi (v8 + 1))), (0, .ref (ad 63)), (1, .int (zi t)), (2, .int (zi w)), (3, .int (zi v3)), (4, .int (zi v4)), (5, .int (zi v5)), (6, .int (zi v6)), (7, .int (zi v7))]) C dX2_textOf_203 hl (k := 8) rfl (by decide) rfl (fun ls hl => ?_)
                  refine lv_goto (tgt := 124) C.x C.b dX2_textOf_206 (by decide) ?_
                  exact ih124 v5 v6 v7 (v8 + 1) (by omega) (by first | exact isum_st (by omega) ha (bI_t (by assumption)).symm | (rw [isum_s h8.1, ← ha, bI_f (by assumption)]; omega)) (by first | exact hst2 | (rw [isum_s h8.1, ← hb, bI_f (fun z => absurd z.1 (by assumption))]; omega)) (by first | exact hst3 | exact hst5) (by first | omega | exact hst4) (by omega) H locs ls hX hS (lv_sub hl [1, 2, 3, 4, 5, 6, 7, 8, 0] rfl)
                · refine r_iinc (lv' := [(5, .int (zi (v5 + 1))), (0, .ref (ad 63)), (1, .int (zi t)), (2, .int (zi w)), (3, .int (zi v3)), (4, .int (zi v4)), (6, .int (zi v6)), (7, .int (zi v7)), (8, .int (zi v8))]) C dX2_textOf_144 hl (k := 5) rfl (by decide) rfl (fun ls hl => ?_)
                  refine lv_iload C.x C.b dX2_textOf_147 (lv_at hl 6 rfl) ?_
                  refine lv_aload_n C.x C.b dX2_textOf_149 rfl (lv_at hl 1 rfl) ?_
                  refine mg_11 C hX dX2_textOf_150 ?_
                  refine lv_iload C.x C.b dX2_textOf_153 (lv_at hl 8 rfl) ?_
                  refine ml_11 C hX (by omega) w11 rfl dX2_textOf_155 (fun r155 => ?_)
                  have J164_5 : ∀ (t1 : Int) (ht1 : t1 = bI (¬ ((w11 v8) = 0))) (H : Heap) (locs : List Loc) (ls : Array Slot) (hX : MH E A ad (va_up F 7 wn) (va_up (va_up (va_up (va_up (va_up M 3 sg) 8 w8) 9 w9) 10 w10) 11 w11) H) (hS : va_S A s.heap H locs) (hl : lv_has ls 9 [(5, .int (zi (v5 + 1))), (0, .ref (ad 63)), (1, .int (zi t)), (2, .int (zi w)), (3, .int (zi v3)), (4, .int (zi v4)), (6, .int (zi v6)), (7, .int (zi v7)), (8, .int (zi v8))]), W p l e rm_X2_textOf s m args below meth c H locs 0 0 (MQ below (qi A (fun r H => ∃ f7 : Int, ∃ m3 : Int → Int, ∃ m8 : Int → Int, ∃ m9 : Int → Int, ∃ m10 : Int → Int, ∃ m11 : Int → Int, (((0 ≤ t ∧ t < F 4) ∧ ((0 ≤ w ∧ w ≤ 5) ∨ (10 ≤ w ∧ w ≤ 9 + M 5 t))) → SgOK (F 0) (M 1) (F 2) m3) ∧ (r = sel ((0 ≤ t ∧ t < F 4) ∧ ((0 ≤ w ∧ w ≤ 5) ∨ (10 ≤ w ∧ w ≤ 9 + M 5 t))) (txo m3 (mtc (M 6)) (M 5) t w) (-10)) ∧ MH E A ad (va_up F 7 f7) (va_up (va_up (va_up (va_up (va_up M 3 m3) 8 m8) 9 m9) 10 m10) 11 m11) H)) args s (rm_X2_textOf).cells (rm_X2_textOf).slots A) (F0 m 164 ls [.int (zi t1), .int (zi v6)]) := by
                    intro t1 ht1 H locs ls hX hS hl
                    subst ht1
                    refine r_iadd C dX2_textOf_164 ?_
                    refine lv_istore (lv' := [(6, .int (zi (v6 + (bI (¬ ((w11 v8) = 0)))))), (5, .int (zi (v5 + 1))), (0, .ref (ad 63)), (1, .int (zi t)), (2, .int (zi w)), (3, .int (zi v3)), (4, .int (zi v4)), (7, .int (zi v7)), (8, .int (zi v8))]) C.x C.b dX2_textOf_165 hl (by decide) rfl (fun ls hl => ?_)
                    have hv7 := hc.2.1
                    refine lv_aload_n C.x C.b dX2_textOf_167 rfl (lv_at hl 2 rfl) ?_
                    refine mg_11 C hX dX2_textOf_168 ?_
                    refine lv_iload C.x C.b dX2_textOf_171 (lv_at hl 8 rfl) ?_
                    refine ml_11 C hX (by omega) w11 rfl dX2_textOf_173 (fun _ => ?_)
                    have J201_6 : ∀ (t0 : Int) (ht0 : t0 = sel ((w11 v8) = 0) v7 (sel (v7 < (w10 v8)) (w10 v8) v7)) (H : Heap) (locs : List Loc) (ls : Array Slot) (hX : MH E A ad (va_up F 7 wn) (va_up (va_up (va_up (va_up (va_up M 3 sg) 8 w8) 9 w9) 10 w10) 11 w11) H) (hS : va_S A s.heap H locs) (hl : lv_has ls 9 [(6, .int (zi (v6 + (bI (¬ ((w11 v8) = 0)))))), (5, .int (zi (v5 + 1))), (0, .ref (ad 63)), (1, .int (zi t)), (2, .int (zi w)), (3, .int (zi v3)), (4, .int (zi v4)), (7, .int (zi v7)), (8, .int (zi v8))]), W p l e rm_X2_textOf s m args below meth c H locs 0 0 (MQ below (qi A (fun r H => ∃ f7 : Int, ∃ m3 : Int → Int, ∃ m8 : Int → Int, ∃ m9 : Int → Int, ∃ m10 : Int → Int, ∃ m11 : Int → Int, (((0 ≤ t ∧ t < F 4) ∧ ((0 ≤ w ∧ w ≤ 5) ∨ (10 ≤ w ∧ w ≤ 9 + M 5 t))) → SgOK (F 0) (M 1) (F 2) m3) ∧ (r = sel ((0 ≤ t ∧ t < F 4) ∧ ((0 ≤ w ∧ w ≤ 5) ∨ (10 ≤ w ∧ w ≤ 9 + M 5 t))) (txo m3 (mtc (M 6)) (M 5) t w) (-10)) ∧ MH E A ad (va_up F 7 f7) (va_up (va_up (va_up (va_up (va_up M 3 m3) 8 m8) 9 m9) 10 m10) 11 m11) H)) args s (rm_X2_textOf).cells (rm_X2_textOf).slots A) (F0 m 201 ls [.int (zi t0)]) := by
                      intro t0 ht0 H locs ls hX hS hl
                      subst ht0
                      refine lv_istore (lv' := [(7, .int (zi (sel ((w11 v8) = 0) v7 (sel (v7 < (w10 v8)) (w10 v8) v7)))), (6, .int (zi (v6 + (bI (¬ ((w11 v8) = 0)))))), (5, .int (zi (v5 + 1))), (0, .ref (ad 63)), (1, .int (zi t)), (2, .int (zi w)), (3, .int (zi v3)), (4, .int (zi v4)), (8, .int (zi v8))]) C.x C.b dX2_textOf_201 hl (by decide) rfl (fun ls hl => ?_)
                      try have hst2 : v6 + bI (¬ w11 v8 = 0) = isum (fun k => bI (w8 k = t ∧ w11 k = 1)) (v8 + 1) := isum_st h8.1 hb (bI_c ⟨fun q => ⟨by assumption, by omega⟩, fun q => by omega⟩)
                      try have hst3 : IsMx (fun v => ∃ k, 0 ≤ k ∧ k < v8 + 1 ∧ (w8 k = t ∧ w11 k = 1) ∧ v = w10 k) (sel (w11 v8 = 0) v7 (sel (v7 < w10 v8) (w10 v8) v7)) := hc.st2 (z := w11 v8 = 0) (x := w10 v8) (fun v => ⟨fun ⟨k, a, b, e, f⟩ => (by
                          by_cases q : k = v8
                          · rw [q] at e f; exact Or.inr ⟨by omega, f⟩
                          · exact Or.inl ⟨k, a, by omega, e, f⟩), fun q => q.elim (fun ⟨k, a, b, e, f⟩ => ⟨k, a, by omega, e, f⟩) (fun z => ⟨v8, h8.1, by omega, ⟨by assumption, by omega⟩, z.2⟩)⟩) r10.1
                      try have hne : ¬ w8 v8 = t := by assumption
                      try have hst5 : IsMx (fun v => ∃ k, 0 ≤ k ∧ k < v8 + 1 ∧ (w8 k = t ∧ w11 k = 1) ∧ v = w10 k) v7 := hc.congr (fun v => ⟨fun ⟨k, a, b, e, f⟩ => ⟨k, a, by omega, e, f⟩, fun ⟨k, a, b, e, f⟩ => ⟨k, a, (by have z : ¬ k = v8 := fun z => hne (z ▸ e.1); omega), e, f⟩⟩)
                      have hst4 : sel (w11 v8 = 0) v7 (sel (v7 < w10 v8) (w10 v8) v7) ≤ 24 := (sel_rg (lo := -1) (fun _ => by have := hc.2.1; omega) (fun _ => sel_rg (fun _ => by omega) (fun _ => by have := hc.2.1; omega))).2
                      refine r_iinc (lv' := [(8, .int (zi (v8 + 1))), (7, .int (zi (sel ((w11 v8) = 0) v7 (sel (v7 < (w10 v8)) (w10 v8) v7)))), (6, .int (zi (v6 + (bI (¬ ((w11 v8) = 0)))))), (5, .int (zi (v5 + 1))), (0, .ref (ad 63)), (1, .int (zi t)), (2, .int (zi w)), (3, .int (zi v3)), (4, .int (zi v4))]) C dX2_textOf_203 hl (k := 8) rfl (by decide) rfl (fun ls hl => ?_)
                      refine lv_goto (tgt := 124) C.x C.b dX2_textOf_206 (by decide) ?_
                      exact ih124 (v5 + 1) (v6 + (bI (¬ ((w11 v8) = 0)))) (sel ((w11 v8) = 0) v7 (sel (v7 < (w10 v8)) (w10 v8) v7)) (v8 + 1) (by omega) (by first | exact isum_st (by omega) ha (bI_t (by assumption)).symm | (rw [isum_s h8.1, ← ha, bI_f (by assumption)]; omega)) (by first | exact hst2 | (rw [isum_s h8.1, ← hb, bI_f (fun z => absurd z.1 (by assumption))]; omega)) (by first | exact hst3 | exact hst5) (by first | omega | exact hst4) (by omega) H locs ls hX hS (lv_sub hl [4, 5, 6, 7, 8, 3, 2, 1, 0] rfl)
                    refine r_if_eq (tgt := 199) C (by omega) dX2_textOf_174 (by decide) (fun c_7 => ?_) (fun c_7 => ?_)
                    · refine lv_iload C.x C.b dX2_textOf_199 (lv_at hl 7 rfl) ?_
                      exact J201_6 v7 ((sel_t c_7).symm) H locs ls hX hS hl
                    · refine lv_aload_n C.x C.b dX2_textOf_177 rfl (lv_at hl 2 rfl) ?_
                      refine mg_10 C hX dX2_textOf_178 ?_
                      refine lv_iload C.x C.b dX2_textOf_181 (lv_at hl 8 rfl) ?_
                      refine ml_10 C hX (by omega) w10 rfl dX2_textOf_183 (fun r183 => ?_)
                      refine lv_iload C.x C.b dX2_textOf_184 (lv_at hl 7 rfl) ?_
                      refine r_icmp_le (tgt := 199) C (by omega) (by omega) dX2_textOf_186 (by decide) (fun c_8 => ?_) (fun c_8 => ?_)
                      · refine lv_iload C.x C.b dX2_textOf_199 (lv_at hl 7 rfl) ?_
                        exact J201_6 v7 (((sel_f c_7).trans (sel_f c_8)).symm) H locs ls hX hS hl
                      · refine lv_aload_n C.x C.b dX2_textOf_189 rfl (lv_at hl 2 rfl) ?_
                        refine mg_10 C hX dX2_textOf_190 ?_
                        refine lv_iload C.x C.b dX2_textOf_193 (lv_at hl 8 rfl) ?_
                        refine ml_10 C hX (by omega) w10 rfl dX2_textOf_195 (fun _ => ?_)
                        refine lv_goto (tgt := 201) C.x C.b dX2_textOf_196 (by decide) ?_
                        exact J201_6 (w10 v8) (((sel_f c_7).trans (sel_t c_8)).symm) H locs ls hX hS hl
                  refine r_if_eq (tgt := 163) C (by omega) dX2_textOf_156 (by decide) (fun c_9 => ?_) (fun c_9 => ?_)
                  · refine r_const C dX2_textOf_163 ?_
                    exact J164_5 0 ((bI_f (fun q => q c_9)).symm) H locs ls hX hS hl
                  · refine r_const C dX2_textOf_159 ?_
                    refine lv_goto (tgt := 164) C.x C.b dX2_textOf_160 (by decide) ?_
                    exact J164_5 1 ((bI_t c_9).symm) H locs ls hX hS hl
          exact L124 _ 0 0 0 0 (by omega) rfl rfl ⟨Or.inl rfl, Int.le_refl _, fun v ⟨k, a, b, _⟩ => absurd a (by omega)⟩ (by omega) (Nat.lt_succ_self _) H locs ls hX hS (lv_sub hl [4, 5, 6, 7, 8, 3, 2, 1, 0] rfl)
        · refine lv_iload_n C.x C.b dX2_textOf_67 rfl (lv_at hl 3 rfl) ?_
          refine lv_aload_n C.x C.b dX2_textOf_68 rfl (lv_at hl 0 rfl) ?_
          refine lv_iload_n C.x C.b dX2_textOf_69 rfl (lv_at hl 1 rfl) ?_
          refine lv_iload C.x C.b dX2_textOf_70 (lv_at hl 5 rfl) ?_
          refine r_callVi (As := [.int (zi t), .int (zi v5)]) (rest := [.int (zi v3)]) (cells' := 0) (slots' := 0) C (met_X2_at l E A ad (va_up F 7 wn) (va_up (va_up (va_up (va_up (va_up M 3 sg) 8 w8) 9 w9) 10 w10) 11 w11) t v5 (show 0 ≤ t ∧ t < 8 from (by omega)) (show 0 ≤ v5 ∧ v5 < 24 from (by omega))) (lw_V q1259 q1261 qs47 q88 q1262) hd_X2_at rfl (by decide) (m_recv C hX) hX hS hl.1 rfl (Nat.le_of_ble_eq_true rfl) dX2_textOf_72 rfl rfl ⟨Nat.le_of_ble_eq_true rfl, Nat.le_of_ble_eq_true rfl⟩ (fun rr H locs hp hS => ?_)
          obtain ⟨hat, hrr, hX⟩ := hp
          have hrr : rr = sa (sg) ((M 6) (24 * t + v5)) := hrr
          subst hrr
          have hat : -2 ≤ sa (sg) ((M 6) (24 * t + v5)) ∧ sa (sg) ((M 6) (24 * t + v5)) ≤ 23 := hat
          have J83_10 : ∀ (t1 : Int) (ht1 : t1 = bI (¬ ((sa (sg) ((M 6) (24 * t + v5))) < 0))) (H : Heap) (locs : List Loc) (ls : Array Slot) (hX : MH E A ad (va_up F 7 wn) (va_up (va_up (va_up (va_up (va_up M 3 sg) 8 w8) 9 w9) 10 w10) 11 w11) H) (hS : va_S A s.heap H locs) (hl : lv_has ls 9 [(0, .ref (ad 63)), (1, .int (zi t)), (2, .int (zi w)), (3, .int (zi v3)), (4, .int (zi v4)), (5, .int (zi v5))]), W p l e rm_X2_textOf s m args below meth c H locs 0 0 (MQ below (qi A (fun r H => ∃ f7 : Int, ∃ m3 : Int → Int, ∃ m8 : Int → Int, ∃ m9 : Int → Int, ∃ m10 : Int → Int, ∃ m11 : Int → Int, (((0 ≤ t ∧ t < F 4) ∧ ((0 ≤ w ∧ w ≤ 5) ∨ (10 ≤ w ∧ w ≤ 9 + M 5 t))) → SgOK (F 0) (M 1) (F 2) m3) ∧ (r = sel ((0 ≤ t ∧ t < F 4) ∧ ((0 ≤ w ∧ w ≤ 5) ∨ (10 ≤ w ∧ w ≤ 9 + M 5 t))) (txo m3 (mtc (M 6)) (M 5) t w) (-10)) ∧ MH E A ad (va_up F 7 f7) (va_up (va_up (va_up (va_up (va_up M 3 m3) 8 m8) 9 m9) 10 m10) 11 m11) H)) args s (rm_X2_textOf).cells (rm_X2_textOf).slots A) (F0 m 83 ls [.int (zi t1), .int (zi v3)]) := by
            intro t1 ht1 H locs ls hX hS hl
            subst ht1
            refine r_iadd C dX2_textOf_83 ?_
            refine lv_istore_n (lv' := [(3, .int (zi (v3 + (bI (¬ ((sa (sg) ((M 6) (24 * t + v5))) < 0)))))), (0, .ref (ad 63)), (1, .int (zi t)), (2, .int (zi w)), (4, .int (zi v4)), (5, .int (zi v5))]) C.x C.b dX2_textOf_84 rfl hl (by decide) rfl (fun ls hl => ?_)
            refine lv_iload C.x C.b dX2_textOf_85 (lv_at hl 4 rfl) ?_
            refine lv_aload_n C.x C.b dX2_textOf_87 rfl (lv_at hl 1 rfl) ?_
            refine lv_iload_n C.x C.b dX2_textOf_88 rfl (lv_at hl 2 rfl) ?_
            refine lv_iload C.x C.b dX2_textOf_89 (lv_at hl 5 rfl) ?_
            refine r_callVi (As := [.int (zi t), .int (zi v5)]) (rest := [.int (zi v4)]) (cells' := 0) (slots' := 0) C (met_X2_at l E A ad (va_up F 7 wn) (va_up (va_up (va_up (va_up (va_up M 3 sg) 8 w8) 9 w9) 10 w10) 11 w11) t v5 (show 0 ≤ t ∧ t < 8 from (by omega)) (show 0 ≤ v5 ∧ v5 < 24 from (by omega))) (lw_V q1259 q1261 qs47 q88 q1262) hd_X2_at rfl (by decide) (m_recv C hX) hX hS hl.1 rfl (Nat.le_of_ble_eq_true rfl) dX2_textOf_91 rfl rfl ⟨Nat.le_of_ble_eq_true rfl, Nat.le_of_ble_eq_true rfl⟩ (fun rr H locs hp hS => ?_)
            obtain ⟨hat, hrr, hX⟩ := hp
            have hrr : rr = sa (sg) ((M 6) (24 * t + v5)) := hrr
            subst hrr
            have hat : -2 ≤ sa (sg) ((M 6) (24 * t + v5)) ∧ sa (sg) ((M 6) (24 * t + v5)) ≤ 23 := hat
            refine r_const C dX2_textOf_94 ?_
            have J103_11 : ∀ (t1 : Int) (ht1 : t1 = bI ((sa (sg) ((M 6) (24 * t + v5))) = (-1))) (H : Heap) (locs : List Loc) (ls : Array Slot) (hX : MH E A ad (va_up F 7 wn) (va_up (va_up (va_up (va_up (va_up M 3 sg) 8 w8) 9 w9) 10 w10) 11 w11) H) (hS : va_S A s.heap H locs) (hl : lv_has ls 9 [(3, .int (zi (v3 + (bI (¬ ((sa (sg) ((M 6) (24 * t + v5))) < 0)))))), (0, .ref (ad 63)), (1, .int (zi t)), (2, .int (zi w)), (4, .int (zi v4)), (5, .int (zi v5))]), W p l e rm_X2_textOf s m args below meth c H locs 0 0 (MQ below (qi A (fun r H => ∃ f7 : Int, ∃ m3 : Int → Int, ∃ m8 : Int → Int, ∃ m9 : Int → Int, ∃ m10 : Int → Int, ∃ m11 : Int → Int, (((0 ≤ t ∧ t < F 4) ∧ ((0 ≤ w ∧ w ≤ 5) ∨ (10 ≤ w ∧ w ≤ 9 + M 5 t))) → SgOK (F 0) (M 1) (F 2) m3) ∧ (r = sel ((0 ≤ t ∧ t < F 4) ∧ ((0 ≤ w ∧ w ≤ 5) ∨ (10 ≤ w ∧ w ≤ 9 + M 5 t))) (txo m3 (mtc (M 6)) (M 5) t w) (-10)) ∧ MH E A ad (va_up F 7 f7) (va_up (va_up (va_up (va_up (va_up M 3 m3) 8 m8) 9 m9) 10 m10) 11 m11) H)) args s (rm_X2_textOf).cells (rm_X2_textOf).slots A) (F0 m 103 ls [.int (zi t1), .int (zi v4)]) := by
              intro t1 ht1 H locs ls hX hS hl
              subst ht1
              refine r_iadd C dX2_textOf_103 ?_
              refine lv_istore (lv' := [(4, .int (zi (v4 + (bI ((sa (sg) ((M 6) (24 * t + v5))) = (-1)))))), (3, .int (zi (v3 + (bI (¬ ((sa (sg) ((M 6) (24 * t + v5))) < 0)))))), (0, .ref (ad 63)), (1, .int (zi t)), (2, .int (zi w)), (5, .int (zi v5))]) C.x C.b dX2_textOf_104 hl (by decide) rfl (fun ls hl => ?_)
              refine r_iinc (lv' := [(5, .int (zi (v5 + 1))), (4, .int (zi (v4 + (bI ((sa (sg) ((M 6) (24 * t + v5))) = (-1)))))), (3, .int (zi (v3 + (bI (¬ ((sa (sg) ((M 6) (24 * t + v5))) < 0)))))), (0, .ref (ad 63)), (1, .int (zi t)), (2, .int (zi w))]) C dX2_textOf_106 hl (k := 5) rfl (by decide) rfl (fun ls hl => ?_)
              refine lv_goto (tgt := 56) C.x C.b dX2_textOf_109 (by decide) ?_
              exact ih56 (v3 + (bI (¬ ((sa (sg) ((M 6) (24 * t + v5))) < 0)))) (v4 + (bI ((sa (sg) ((M 6) (24 * t + v5))) = (-1)))) (v5 + 1) (by omega) (isum_st (by omega) h3 rfl) (isum_st (by omega) h4 rfl) (by omega) H locs ls hX hS (lv_sub hl [3, 4, 5, 2, 1, 0] rfl)
            refine r_icmp_ne (tgt := 102) C (by omega) (by decide) dX2_textOf_95 (by decide) (fun c_12 => ?_) (fun c_12 => ?_)
            · refine r_const C dX2_textOf_102 ?_
              exact J103_11 0 ((bI_f c_12).symm) H locs ls hX hS hl
            · refine r_const C dX2_textOf_98 ?_
              refine lv_goto (tgt := 103) C.x C.b dX2_textOf_99 (by decide) ?_
              exact J103_11 1 ((bI_t c_12).symm) H locs ls hX hS hl
          refine r_if_lt (tgt := 82) C (by omega) dX2_textOf_75 (by decide) (fun c_13 => ?_) (fun c_13 => ?_)
          · refine r_const C dX2_textOf_82 ?_
            exact J83_10 0 ((bI_f (fun q => q c_13)).symm) H locs ls hX hS hl
          · refine r_const C dX2_textOf_78 ?_
            refine lv_goto (tgt := 83) C.x C.b dX2_textOf_79 (by decide) ?_
            exact J83_10 1 ((bI_t c_13).symm) H locs ls hX hS hl
    exact L56 _ 0 0 0 (by have := h24 t; omega) rfl rfl (Nat.lt_succ_self _) H locs ls hX hS (lv_sub hl [3, 4, 5, 2, 1, 0] rfl)
  refine r_if_eq_b (tgt := 41) C dX2_textOf_5 (by decide) (fun c_14 => ?_) (fun c_14 => ?_)
  · refine r_bipush C (by decide) dX2_textOf_41 ?_
    exact r_iret C hS (Nat.le_of_ble_eq_true rfl) (Nat.le_of_ble_eq_true rfl) dX2_textOf_43 ⟨(F 7), (M 3), (M 8), (M 9), (M 10), (M 11), (fun q => by first | exact absurd q.1 (by assumption) | exact q.2.elim (fun z => absurd z (by assumption)) (fun z => absurd z (by assumption))), (Eq.symm (sel_f (fun q => by first | exact absurd q.1 (by assumption) | exact q.2.elim (fun z => absurd z (by assumption)) (fun z => absurd z (by assumption))))), (hX.to ((up_id F (k := 7) (a := (F 7)) rfl).symm.trans rfl) ((((((up_id M (k := 3) (a := (M 3)) rfl).symm.trans rfl).trans ((up_id (va_up M 3 (M 3)) (k := 8) (a := (M 8)) rfl).symm.trans rfl)).trans ((up_id (va_up (va_up M 3 (M 3)) 8 (M 8)) (k := 9) (a := (M 9)) rfl).symm.trans rfl)).trans ((up_id (va_up (va_up (va_up M 3 (M 3)) 8 (M 8)) 9 (M 9)) (k := 10) (a := (M 10)) rfl).symm.trans rfl)).trans ((up_id (va_up (va_up (va_up (va_up M 3 (M 3)) 8 (M 8)) 9 (M 9)) 10 (M 10)) (k := 11) (a := (M 11)) rfl).symm.trans rfl)))⟩
  · refine lv_iload_n C.x C.b dX2_textOf_8 rfl (lv_at hl 2 rfl) ?_
    refine r_i2l C (by omega) dX2_textOf_9 ?_
    refine r_lconst C 0 rfl dX2_textOf_10 ?_
    refine r_ldc2 C 5 (by decide) q1253 dX2_textOf_11 ?_
    refine r_callSi (As := [.long (zl w), .long (zl 0), .long (zl 5)]) (rest := []) (cells' := 0) (slots' := 0) C (met_X2_in l E A ad H w 0 5 (show -9223372036854775808 ≤ w ∧ w < 9223372036854775808 from (by omega)) (show -9223372036854775808 ≤ 0 ∧ 0 < 9223372036854775808 from (by omega)) (show -9223372036854775808 ≤ 5 ∧ 5 < 9223372036854775808 from (by omega))) (lw_S q1209 q1210 q88 q1211) hd_X2_in rfl (by decide) rfl hS hl.1 rfl (Nat.le_of_ble_eq_true rfl) dX2_textOf_14 rfl rfl ⟨Nat.le_of_ble_eq_true rfl, Nat.le_of_ble_eq_true rfl⟩ (fun rr H locs hp hS => ?_)
    obtain ⟨hrr, hH⟩ := hp
    have hrr : rr = bI (0 ≤ w ∧ w ≤ 5) := hrr
    subst hrr
    have hX : MH E A ad F M H := by rw [hH]; exact hX
    refine r_if_ne_b (tgt := 44) C dX2_textOf_17 (by decide) (fun c_15 => ?_) (fun c_15 => ?_)
    · exact J44_1 ⟨by assumption, by first | exact Or.inl (by assumption) | exact Or.inr (by assumption)⟩ H locs ls hX hS hl
    · refine lv_iload_n C.x C.b dX2_textOf_20 rfl (lv_at hl 2 rfl) ?_
      refine r_i2l C (by omega) dX2_textOf_21 ?_
      refine r_ldc2 C 10 (by decide) q1254 dX2_textOf_22 ?_
      refine r_bipush C (by decide) dX2_textOf_25 ?_
      refine lv_aload_n C.x C.b dX2_textOf_27 rfl (lv_at hl 0 rfl) ?_
      refine mg_5 C hX dX2_textOf_28 ?_
      refine lv_iload_n C.x C.b dX2_textOf_31 rfl (lv_at hl 1 rfl) ?_
      refine ml_5 C hX (by omega) (M 5) rfl dX2_textOf_32 (fun r32 => ?_)
      refine r_iadd C dX2_textOf_33 ?_
      refine r_i2l C (by omega) dX2_textOf_34 ?_
      refine r_callSi (As := [.long (zl w), .long (zl 10), .long (zl (9 + (M 5 t)))]) (rest := []) (cells' := 0) (slots' := 0) C (met_X2_in l E A ad H w 10 (9 + (M 5 t)) (show -9223372036854775808 ≤ w ∧ w < 9223372036854775808 from (by omega)) (show -9223372036854775808 ≤ 10 ∧ 10 < 9223372036854775808 from (by omega)) (show -9223372036854775808 ≤ (9 + (M 5 t)) ∧ (9 + (M 5 t)) < 9223372036854775808 from (by omega))) (lw_S q1209 q1210 q88 q1211) hd_X2_in rfl (by decide) rfl hS hl.1 rfl (Nat.le_of_ble_eq_true rfl) dX2_textOf_35 rfl rfl ⟨Nat.le_of_ble_eq_true rfl, Nat.le_of_ble_eq_true rfl⟩ (fun rr H locs hp hS => ?_)
      obtain ⟨hrr, hH⟩ := hp
      have hrr : rr = bI (10 ≤ w ∧ w ≤ (9 + (M 5 t))) := hrr
      subst hrr
      have hX : MH E A ad F M H := by rw [hH]; exact hX
      refine r_if_ne_b (tgt := 44) C dX2_textOf_38 (by decide) (fun c_16 => ?_) (fun c_16 => ?_)
      · exact J44_1 ⟨by assumption, by first | exact Or.inl (by assumption) | exact Or.inr (by assumption)⟩ H locs ls hX hS hl
      · refine r_bipush C (by decide) dX2_textOf_41 ?_
        exact r_iret C hS (Nat.le_of_ble_eq_true rfl) (Nat.le_of_ble_eq_true rfl) dX2_textOf_43 ⟨(F 7), (M 3), (M 8), (M 9), (M 10), (M 11), (fun q => by first | exact absurd q.1 (by assumption) | exact q.2.elim (fun z => absurd z (by assumption)) (fun z => absurd z (by assumption))), (Eq.symm (sel_f (fun q => by first | exact absurd q.1 (by assumption) | exact q.2.elim (fun z => absurd z (by assumption)) (fun z => absurd z (by assumption))))), (hX.to ((up_id F (k := 7) (a := (F 7)) rfl).symm.trans rfl) ((((((up_id M (k := 3) (a := (M 3)) rfl).symm.trans rfl).trans ((up_id (va_up M 3 (M 3)) (k := 8) (a := (M 8)) rfl).symm.trans rfl)).trans ((up_id (va_up (va_up M 3 (M 3)) 8 (M 8)) (k := 9) (a := (M 9)) rfl).symm.trans rfl)).trans ((up_id (va_up (va_up (va_up M 3 (M 3)) 8 (M 8)) 9 (M 9)) (k := 10) (a := (M 10)) rfl).symm.trans rfl)).trans ((up_id (va_up (va_up (va_up (va_up M 3 (M 3)) 8 (M 8)) 9 (M 9)) 10 (M 10)) (k := 11) (a := (M 11)) rfl).symm.trans rfl)))⟩

theorem hd_X2_edgeSum : yX2_edgeSum.cls = RX2 ∧ yX2_edgeSum.cls ≠ "java/lang/invoke/MethodHandle" ∧ yX2_edgeSum.cls ≠ "java/lang/invoke/VarHandle" ∧ (parseMethodDescriptor yX2_edgeSum.desc).map (fun d => d.parameters.length) = some 1 := by decide +kernel
abbrev rm_X2_edgeSum : Room := { frames := 3, cells := 0, slots := 0, locals := 73 }
set_option maxHeartbeats 8000000 in
theorem met_X2_edgeSum (l : Launch) (E : us_E) (A : Nat → Prop) (ad : Nat → Nat) (F : Nat → Int) (M : Nat → Int → Int) (last : Prop) : cMet l yX2_edgeSum cX2_edgeSum 4 (some .int) rm_X2_edgeSum A E [.ref (ad 63), .int (zi (bI last))] (fun H => MH E A ad F M H) (qi A (fun r H => ∃ f7 : Int, ∃ m3 : Int → Int, ∃ m8 : Int → Int, ∃ m9 : Int → Int, ∃ m10 : Int → Int, ∃ m11 : Int → Int, ∃ m12 : Int → Int, SgOK (F 0) (M 1) (F 2) m3 ∧ (0 ≤ sqs (edgeS m3 (mtc (M 6)) (M 5) (F 4) last) ∧ sqs (edgeS m3 (mtc (M 6)) (M 5) (F 4) last) ≤ 279936) ∧ (r = sqs (edgeS m3 (mtc (M 6)) (M 5) (F 4) last)) ∧ MH E A ad (va_up F 7 f7) (va_up (va_up (va_up (va_up (va_up (va_up M 3 m3) 8 m8) 9 m9) 10 m10) 11 m11) 12 m12) H)) := by
  refine cMet.of (by decide) (Nat.le_of_ble_eq_true rfl) (fun p e s m args below meth c C hnm hX hS ls hl => ?_)
  have C : Cx p s m args meth c A RX2 cX2_edgeSum 4 (some .int) E := C
  have hX : MH E A ad F M s.heap := hX
  have hl : lv_has ls 4 [(0, .ref (ad 63)), (1, .int (zi (bI last)))] := hl
  generalize hH : s.heap = H at hX
  have hS : va_S A s.heap H [] := by rw [← hH]; exact hS
  generalize hlocs : ([] : List Loc) = locs at hS ⊢
  have rF0 : 0 ≤ F 0 ∧ F 0 ≤ 24 := hX.2.1 0 (0, 24) rfl
  have rF2 : 0 ≤ F 2 ∧ F 2 ≤ 12 := hX.2.1 2 (0, 12) rfl
  have rF4 : 0 ≤ F 4 ∧ F 4 ≤ 8 := hX.2.1 4 (0, 8) rfl
  have rF7 : 0 ≤ F 7 ∧ F 7 ≤ 104 := hX.2.1 7 (0, 104) rfl
  have h24 : ∀ t, 0 ≤ M 5 t ∧ M 5 t ≤ 24 := fun t => hX.2.2 5 (0, 24) rfl t
  have hcl : ∀ q, -2 ≤ M 6 q ∧ M 6 q ≤ 23 := fun q => hX.2.2 6 (-2, 23) rfl q
  refine lv_aload_n C.x C.b dX2_edgeSum_0 rfl (lv_at hl 0 rfl) ?_
  refine r_callVv (As := []) (rest := []) (cells' := 0) (slots' := 0) C (met_X2_findWords l E A ad F M) (lw_V q1255 q1257 qs46 q88 q1258) hd_X2_findWords rfl (by decide) (m_recv C hX) hX hS hl.1 rfl (Nat.le_of_ble_eq_true rfl) dX2_edgeSum_1 rfl rfl ⟨Nat.le_of_ble_eq_true rfl, Nat.le_of_ble_eq_true rfl⟩ (fun H locs hp hS => ?_)
  obtain ⟨wn, sg, w8, w9, w10, w11, hsg, hwk, hwr, hX⟩ := hp
  have hsg : SgOK ((F 0)) ((M 1)) ((F 2)) sg := hsg
  have hwk : wn = wk (mtc ((M 6))) ((M 5)) ((F 4)) 0 := hwk
  have hwr : WR (mtc ((M 6))) ((M 5)) w8 w9 w10 w11 ((F 4)) 0 := hwr
  have hX : MH E A ad (va_up F 7 wn) (va_up (va_up (va_up (va_up (va_up M 3 sg) 8 w8) 9 w9) 10 w10) 11 w11) H := hX.to rfl ((congrArg (fun z => va_up z 11 w11) ((congrArg (fun z => va_up z 10 w10) ((congrArg (fun z => va_up z 9 w9) ((congrArg (fun z => va_up z 8 w8) rfl).trans rfl)).trans rfl)).trans rfl)).trans rfl)
  have hwkr := wk_r (tc := (mtc (M 6))) h24 rF4.1 (i := 0) (by omega)
  refine r_const C dX2_edgeSum_4 ?_
  refine lv_istore_n (lv' := [(2, .int (zi 0)), (0, .ref (ad 63)), (1, .int (zi (bI last)))]) C.x C.b dX2_edgeSum_5 rfl hl (by decide) rfl (fun ls hl => ?_)
  have L6 : ∀ (fu : Nat) (v2 : Int) (m12 : Int → Int) (h2 : 0 ≤ v2 ∧ v2 ≤ 24) (h0 : ∀ j : Int, 0 ≤ j → j < v2 → m12 j = 0) (hm : Int.toNat (24 - v2) < fu) (H : Heap) (locs : List Loc) (ls : Array Slot) (hX : MH E A ad (va_up F 7 wn) (va_up (va_up (va_up (va_up (va_up (va_up M 3 sg) 8 w8) 9 w9) 10 w10) 11 w11) 12 m12) H) (hS : va_S A s.heap H locs) (hl : lv_has ls 4 [(0, .ref (ad 63)), (1, .int (zi (bI last))), (2, .int (zi v2))]), W p l e rm_X2_edgeSum s m args below meth c H locs 0 0 (MQ below (qi A (fun r H => ∃ f7 : Int, ∃ m3 : Int → Int, ∃ m8 : Int → Int, ∃ m9 : Int → Int, ∃ m10 : Int → Int, ∃ m11 : Int → Int, ∃ m12 : Int → Int, SgOK (F 0) (M 1) (F 2) m3 ∧ (0 ≤ sqs (edgeS m3 (mtc (M 6)) (M 5) (F 4) last) ∧ sqs (edgeS m3 (mtc (M 6)) (M 5) (F 4) last) ≤ 279936) ∧ (r = sqs (edgeS m3 (mtc (M 6)) (M 5) (F 4) last)) ∧ MH E A ad (va_up F 7 f7) (va_up (va_up (va_up (va_up (va_up (va_up M 3 m3) 8 m8) 9 m9) 10 m10) 11 m11) 12 m12) H)) args s (rm_X2_edgeSum).cells (rm_X2_edgeSum).slots A) (F0 m 6 ls []) := by
    intro fu
    induction fu with
    | zero => intro v2 m12 h2 h0 hm; exact absurd hm (Nat.not_lt_zero _)
    | succ fu ih6 =>
      intro v2 m12 h2 h0 hm H locs ls hX hS hl
      refine lv_iload_n C.x C.b dX2_edgeSum_6 rfl (lv_at hl 2 rfl) ?_
      refine r_bipush C (by decide) dX2_edgeSum_7 ?_
      refine r_icmp_ge (tgt := 25) C (by omega) (by decide) dX2_edgeSum_9 (by decide) (fun c_1 => ?_) (fun c_1 => ?_)
      · refine r_const C dX2_edgeSum_25 ?_
        refine lv_istore_n (lv' := [(2, .int (zi 0)), (0, .ref (ad 63)), (1, .int (zi (bI last)))]) C.x C.b dX2_edgeSum_26 rfl hl (by decide) rfl (fun ls hl => ?_)
        have L27 : ∀ (fu : Nat) (v2 : Int) (m12 : Int → Int) (h2 : 0 ≤ v2 ∧ v2 ≤ wn) (he : ∀ k : Int, 0 ≤ k → k < 24 → m12 k = isum (fun w => bI (w11 w = 1 ∧ sa sg (M 6 (24 * w8 w + (w9 w + sel last (w10 w - 1) 0))) = k)) v2) (hm : Int.toNat (wn - v2) < fu) (H : Heap) (locs : List Loc) (ls : Array Slot) (hX : MH E A ad (va_up F 7 wn) (va_up (va_up (va_up (va_up (va_up (va_up M 3 sg) 8 w8) 9 w9) 10 w10) 11 w11) 12 m12) H) (hS : va_S A s.heap H locs) (hl : lv_has ls 4 [(0, .ref (ad 63)), (1, .int (zi (bI last))), (2, .int (zi v2))]), W p l e rm_X2_edgeSum s m args below meth c H locs 0 0 (MQ below (qi A (fun r H => ∃ f7 : Int, ∃ m3 : Int → Int, ∃ m8 : Int → Int, ∃ m9 : Int → Int, ∃ m10 : Int → Int, ∃ m11 : Int → Int, ∃ m12 : Int → Int, SgOK (F 0) (M 1) (F 2) m3 ∧ (0 ≤ sqs (edgeS m3 (mtc (M 6)) (M 5) (F 4) last) ∧ sqs (edgeS m3 (mtc (M 6)) (M 5) (F 4) last) ≤ 279936) ∧ (r = sqs (edgeS m3 (mtc (M 6)) (M 5) (F 4) last)) ∧ MH E A ad (va_up F 7 f7) (va_up (va_up (va_up (va_up (va_up (va_up M 3 m3) 8 m8) 9 m9) 10 m10) 11 m11) 12 m12) H)) args s (rm_X2_edgeSum).cells (rm_X2_edgeSum).slots A) (F0 m 27 ls []) := by
          intro fu
          induction fu with
          | zero => intro v2 m12 h2 he hm; exact absurd hm (Nat.not_lt_zero _)
          | succ fu ih27 =>
            intro v2 m12 h2 he hm H locs ls hX hS hl
            refine lv_iload_n C.x C.b dX2_edgeSum_27 rfl (lv_at hl 2 rfl) ?_
            refine lv_aload_n C.x C.b dX2_edgeSum_28 rfl (lv_at hl 0 rfl) ?_
            refine mg_7 C hX wn rfl dX2_edgeSum_29 (fun r29 => ?_)
            refine r_icmp_ge (tgt := 80) C (by omega) (by omega) dX2_edgeSum_32 (by decide) (fun c_2 => ?_) (fun c_2 => ?_)
            · have hed : ∀ k : Int, 0 ≤ k → k < 24 → m12 k = edgeS sg (mtc (M 6)) (M 5) (F 4) last k := by
                intro k a b
                rw [he k a b, show v2 = wk (mtc (M 6)) (M 5) (F 4) 0 by omega]
                exact wk_sum (fun a => (h24 a).1) rF4.1 (Int.le_refl 0) (Or.inr rfl) (fun a b h1 h2 h3 h4 h5 => by
                  obtain ⟨q1, q2, q3, q4⟩ := hwr a b h1 h2 h3 h4 h5
                  rw [q1, q2, q3, q4]
                  rfl)
              refine r_const C dX2_edgeSum_80 ?_
              refine lv_istore_n (lv' := [(2, .int (zi 0)), (0, .ref (ad 63)), (1, .int (zi (bI last)))]) C.x C.b dX2_edgeSum_81 rfl hl (by decide) rfl (fun ls hl => ?_)
              refine r_const C dX2_edgeSum_82 ?_
              refine lv_istore_n (lv' := [(3, .int (zi 0)), (2, .int (zi 0)), (0, .ref (ad 63)), (1, .int (zi (bI last)))]) C.x C.b dX2_edgeSum_83 rfl hl (by decide) rfl (fun ls hl => ?_)
              have L84 : ∀ (fu : Nat) (v2 : Int) (v3 : Int) (h3 : 0 ≤ v3 ∧ v3 ≤ 24) (hq : v2 = isum (fun k => m12 k * m12 k) v3) (hm : Int.toNat (24 - v3) < fu) (H : Heap) (locs : List Loc) (ls : Array Slot) (hX : MH E A ad (va_up F 7 wn) (va_up (va_up (va_up (va_up (va_up (va_up M 3 sg) 8 w8) 9 w9) 10 w10) 11 w11) 12 m12) H) (hS : va_S A s.heap H locs) (hl : lv_has ls 4 [(0, .ref (ad 63)), (1, .int (zi (bI last))), (2, .int (zi v2)), (3, .int (zi v3))]), W p l e rm_X2_edgeSum s m args below meth c H locs 0 0 (MQ below (qi A (fun r H => ∃ f7 : Int, ∃ m3 : Int → Int, ∃ m8 : Int → Int, ∃ m9 : Int → Int, ∃ m10 : Int → Int, ∃ m11 : Int → Int, ∃ m12 : Int → Int, SgOK (F 0) (M 1) (F 2) m3 ∧ (0 ≤ sqs (edgeS m3 (mtc (M 6)) (M 5) (F 4) last) ∧ sqs (edgeS m3 (mtc (M 6)) (M 5) (F 4) last) ≤ 279936) ∧ (r = sqs (edgeS m3 (mtc (M 6)) (M 5) (F 4) last)) ∧ MH E A ad (va_up F 7 f7) (va_up (va_up (va_up (va_up (va_up (va_up M 3 m3) 8 m8) 9 m9) 10 m10) 11 m11) 12 m12) H)) args s (rm_X2_edgeSum).cells (rm_X2_edgeSum).slots A) (F0 m 84 ls []) := by
                intro fu
                induction fu with
                | zero => intro v2 v3 h3 hq hm; exact absurd hm (Nat.not_lt_zero _)
                | succ fu ih84 =>
                  intro v2 v3 h3 hq hm H locs ls hX hS hl
                  refine lv_iload_n C.x C.b dX2_edgeSum_84 rfl (lv_at hl 3 rfl) ?_
                  refine r_bipush C (by decide) dX2_edgeSum_85 ?_
                  refine r_icmp_ge (tgt := 112) C (by omega) (by decide) dX2_edgeSum_87 (by decide) (fun c_3 => ?_) (fun c_3 => ?_)
                  · refine lv_iload_n C.x C.b dX2_edgeSum_112 rfl (lv_at hl 2 rfl) ?_
                    have hfin : v2 = sqs (edgeS sg (mtc (M 6)) (M 5) (F 4) last) := by
                      rw [hq, show v3 = 24 by omega]
                      exact isum_congr (fun k a b => by rw [hed k a b])
                    exact r_iret C hS (Nat.le_of_ble_eq_true rfl) (Nat.le_of_ble_eq_true rfl) dX2_edgeSum_113 ⟨wn, sg, w8, w9, w10, w11, m12, (by first | rfl | assumption | exact (sel_t (by omega)).symm | exact (sel_f (by omega)).symm | omega), (by first | (rw [← hfin]; exact hfr) | exact sqs_r (fun k => edgeS_r h24 rF4)), hfin, hX⟩
                  · refine lv_iload_n C.x C.b dX2_edgeSum_90 rfl (lv_at hl 2 rfl) ?_
                    refine lv_aload_n C.x C.b dX2_edgeSum_91 rfl (lv_at hl 0 rfl) ?_
                    refine mg_12 C hX dX2_edgeSum_92 ?_
                    refine lv_iload_n C.x C.b dX2_edgeSum_95 rfl (lv_at hl 3 rfl) ?_
                    refine ml_12 C hX (by omega) m12 rfl dX2_edgeSum_96 ?_
                    refine lv_aload_n C.x C.b dX2_edgeSum_97 rfl (lv_at hl 0 rfl) ?_
                    refine mg_12 C hX dX2_edgeSum_98 ?_
                    refine lv_iload_n C.x C.b dX2_edgeSum_101 rfl (lv_at hl 3 rfl) ?_
                    refine ml_12 C hX (by omega) m12 rfl dX2_edgeSum_102 ?_
                    refine r_imul C dX2_edgeSum_103 ?_
                    refine r_iadd C dX2_edgeSum_104 ?_
                    refine lv_istore_n (lv' := [(2, .int (zi (v2 + ((m12 v3) * (m12 v3))))), (0, .ref (ad 63)), (1, .int (zi (bI last))), (3, .int (zi v3))]) C.x C.b dX2_edgeSum_105 rfl hl (by decide) rfl (fun ls hl => ?_)
                    refine r_iinc (lv' := [(3, .int (zi (v3 + 1))), (2, .int (zi (v2 + ((m12 v3) * (m12 v3))))), (0, .ref (ad 63)), (1, .int (zi (bI last)))]) C dX2_edgeSum_106 hl (k := 3) rfl (by decide) rfl (fun ls hl => ?_)
                    refine lv_goto (tgt := 84) C.x C.b dX2_edgeSum_109 (by decide) ?_
                    exact ih84 (v2 + ((m12 v3) * (m12 v3))) (v3 + 1) (by omega) (isum_st (by omega) hq rfl) (by omega) H locs ls hX hS (lv_sub hl [2, 3, 1, 0] rfl)
              exact L84 _ 0 0 (by omega) rfl (Nat.lt_succ_self _) H locs ls hX hS (lv_sub hl [2, 3, 1, 0] rfl)
            · refine lv_aload_n C.x C.b dX2_edgeSum_35 rfl (lv_at hl 0 rfl) ?_
              refine mg_11 C hX dX2_edgeSum_36 ?_
              refine lv_iload_n C.x C.b dX2_edgeSum_39 rfl (lv_at hl 2 rfl) ?_
              refine ml_11 C hX (by omega) w11 rfl dX2_edgeSum_40 (fun r40 => ?_)
              refine r_if_eq (tgt := 74) C (by omega) dX2_edgeSum_41 (by decide) (fun c_4 => ?_) (fun c_4 => ?_)
              · refine r_iinc (lv' := [(2, .int (zi (v2 + 1))), (0, .ref (ad 63)), (1, .int (zi (bI last)))]) C dX2_edgeSum_74 hl (k := 2) rfl (by decide) rfl (fun ls hl => ?_)
                refine lv_goto (tgt := 27) C.x C.b dX2_edgeSum_77 (by decide) ?_
                exact ih27 (v2 + 1) m12 (by omega) (by first | exact (fun k a b => by rw [isum_s h2.1, ← he k a b, bI_f (fun z => absurd z.1 (by omega)), Int.add_zero]) | exact hst) (by omega) H locs ls hX hS (lv_sub hl [1, 2, 0] rfl)
              · have r11 : 0 ≤ w11 v2 ∧ w11 v2 ≤ 1 := hX.2.2 11 (0, 1) rfl _
                obtain ⟨wa, wb_, hw1, hw2, hw3, hw4, hw5, hw6, hw7, hw8, hw9, hw10, hw11, hw12⟩ := hwr.at (fun a => (h24 a).1) rF4.1 (w := v2) (by omega) (by omega)
                have hwh := hw10.1 (by omega)
                have hcw : ∀ j, wb_ ≤ j → j < we (mtc (M 6)) (M 5) wa wb_ → 0 ≤ (mtc (M 6)) wa j := fun j a b => by
                  have q1 := hwh.2 j a b
                  have q2 := (we_E (tc := (mtc (M 6))) (tl := (M 5)) (t := wa) (i := wb_) (by omega)).2.2.1 j a b
                  have q3 : -2 ≤ (mtc (M 6)) wa j := (hcl _).1
                  omega
                have h24a := h24 wa
                have hsl : 0 ≤ sel last (w10 v2 - 1) 0 ∧ sel last (w10 v2 - 1) 0 ≤ we (mtc (M 6)) (M 5) wa wb_ - wb_ - 1 := sel_rg (fun _ => by omega) (fun _ => by omega)
                refine lv_aload_n C.x C.b dX2_edgeSum_44 rfl (lv_at hl 0 rfl) ?_
                refine mg_12 C hX dX2_edgeSum_45 ?_
                refine lv_aload_n C.x C.b dX2_edgeSum_48 rfl (lv_at hl 0 rfl) ?_
                refine lv_iload_n C.x C.b dX2_edgeSum_49 rfl (lv_at hl 2 rfl) ?_
                refine lv_iload_n C.x C.b dX2_edgeSum_50 rfl (lv_at hl 1 rfl) ?_
                have J66_5 : ∀ (t3 : Int) (ht3 : t3 = sel last ((w10 v2) - 1) 0) (H : Heap) (locs : List Loc) (ls : Array Slot) (hX : MH E A ad (va_up F 7 wn) (va_up (va_up (va_up (va_up (va_up (va_up M 3 sg) 8 w8) 9 w9) 10 w10) 11 w11) 12 m12) H) (hS : va_S A s.heap H locs) (hl : lv_has ls 4 [(0, .ref (ad 63)), (1, .int (zi (bI last))), (2, .int (zi v2))]), W p l e rm_X2_edgeSum s m args below meth c H locs 0 0 (MQ below (qi A (fun r H => ∃ f7 : Int, ∃ m3 : Int → Int, ∃ m8 : Int → Int, ∃ m9 : Int → Int, ∃ m10 : Int → Int, ∃ m11 : Int → Int, ∃ m12 : Int → Int, SgOK (F 0) (M 1) (F 2) m3 ∧ (0 ≤ sqs (edgeS m3 (mtc (M 6)) (M 5) (F 4) last) ∧ sqs (edgeS m3 (mtc (M 6)) (M 5) (F 4) last) ≤ 279936) ∧ (r = sqs (edgeS m3 (mtc (M 6)) (M 5) (F 4) last)) ∧ MH E A ad (va_up F 7 f7) (va_up (va_up (va_up (va_up (va_up (va_up M 3 m3) 8 m8) 9 m9) 10 m10) 11 m11) 12 m12) H)) args s (rm_X2_edgeSum).cells (rm_X2_edgeSum).slots A) (F0 m 66 ls [.int (zi t3), .int (zi v2), .ref (ad 63), .ref (ad 12)]) := by
                  intro t3 ht3 H locs ls hX hS hl
                  subst ht3
                  refine r_callVi (As := [.int (zi v2), .int (zi (sel last ((w10 v2) - 1) 0))]) (rest := [.ref (ad 12)]) (cells' := 0) (slots' := 0) C (met_X2_wordAt l E A ad (va_up F 7 wn) (va_up (va_up (va_up (va_up (va_up (va_up M 3 sg) 8 w8) 9 w9) 10 w10) 11 w11) 12 m12) v2 (sel last ((w10 v2) - 1) 0) (show 0 ≤ v2 ∧ v2 < 104 from (by omega)) (show 0 ≤ w9 v2 + (sel last ((w10 v2) - 1) 0) ∧ w9 v2 + (sel last ((w10 v2) - 1) 0) < 24 ∧ -100 ≤ (sel last ((w10 v2) - 1) 0) from (by omega))) (lw_V q1301 q1303 qs53 q88 q1304) hd_X2_wordAt rfl (by decide) (m_recv C hX) hX hS hl.1 rfl (Nat.le_of_ble_eq_true rfl) dX2_edgeSum_66 rfl rfl ⟨Nat.le_of_ble_eq_true rfl, Nat.le_of_ble_eq_true rfl⟩ (fun rr H locs hp hS => ?_)
                  obtain ⟨hat, hrr, hX⟩ := hp
                  have hrr : rr = sa (sg) ((M 6) (24 * w8 v2 + (w9 v2 + (sel last ((w10 v2) - 1) 0)))) := hrr
                  subst hrr
                  have hat : -2 ≤ sa (sg) ((M 6) (24 * w8 v2 + (w9 v2 + (sel last ((w10 v2) - 1) 0)))) ∧ sa (sg) ((M 6) (24 * w8 v2 + (w9 v2 + (sel last ((w10 v2) - 1) 0)))) ≤ 23 := hat
                  have hcp : 0 ≤ M 6 (24 * w8 v2 + (w9 v2 + sel last (w10 v2 - 1) 0)) := by
                    have z := hcw (wb_ + sel last (w10 v2 - 1) 0) (by omega) (by omega)
                    rw [hw7, hw8]
                    exact z
                  have hsn := (sa_n (sg := sg) (c := M 6 (24 * w8 v2 + (w9 v2 + sel last (w10 v2 - 1) 0))) (hX.2.2 3 (0, 23) rfl _).1)
                  have hst : ∀ k : Int, 0 ≤ k → k < 24 → fup m12 (sa sg (M 6 (24 * w8 v2 + (w9 v2 + sel last (w10 v2 - 1) 0)))) (m12 (sa sg (M 6 (24 * w8 v2 + (w9 v2 + sel last (w10 v2 - 1) 0)))) + 1) k = isum (fun w => bI (w11 w = 1 ∧ sa sg (M 6 (24 * w8 w + (w9 w + sel last (w10 w - 1) 0))) = k)) (v2 + 1) := by
                    intro k a b
                    rw [isum_s h2.1]
                    by_cases e : k = sa sg (M 6 (24 * w8 v2 + (w9 v2 + sel last (w10 v2 - 1) 0)))
                    · rw [e] at a b ⊢
                      rw [fup_s, he _ a b, bI_t ⟨by omega, rfl⟩]
                    · rw [fup_n _ _ e, he k a b, bI_f (fun z => e z.2.symm), Int.add_zero]
                  refine lv_dup2_11 C.x C.b dX2_edgeSum_69 rfl rfl ?_
                  refine ml_12 C hX (by omega) m12 rfl dX2_edgeSum_70 ?_
                  refine r_const C dX2_edgeSum_71 ?_
                  refine r_iadd C dX2_edgeSum_72 ?_
                  refine ms_12 C hX hS (by omega) m12 rfl (M' := (va_up (va_up (va_up (va_up (va_up (va_up M 3 sg) 8 w8) 9 w9) 10 w10) 11 w11) 12 (fup m12 (sa (sg) ((M 6) (24 * w8 v2 + (w9 v2 + (sel last ((w10 v2) - 1) 0))))) ((m12 (sa (sg) ((M 6) (24 * w8 v2 + (w9 v2 + (sel last ((w10 v2) - 1) 0)))))) + 1)))) (up_up _ _ _ _) dX2_edgeSum_73 (fun H locs hX hS => ?_)
                  refine r_iinc (lv' := [(2, .int (zi (v2 + 1))), (0, .ref (ad 63)), (1, .int (zi (bI last)))]) C dX2_edgeSum_74 hl (k := 2) rfl (by decide) rfl (fun ls hl => ?_)
                  refine lv_goto (tgt := 27) C.x C.b dX2_edgeSum_77 (by decide) ?_
                  exact ih27 (v2 + 1) (fup m12 (sa (sg) ((M 6) (24 * w8 v2 + (w9 v2 + (sel last ((w10 v2) - 1) 0))))) ((m12 (sa (sg) ((M 6) (24 * w8 v2 + (w9 v2 + (sel last ((w10 v2) - 1) 0)))))) + 1)) (by omega) (by first | exact (fun k a b => by rw [isum_s h2.1, ← he k a b, bI_f (fun z => absurd z.1 (by omega)), Int.add_zero]) | exact hst) (by omega) H locs ls hX hS (lv_sub hl [1, 2, 0] rfl)
                refine r_if_eq_b (tgt := 65) C dX2_edgeSum_51 (by decide) (fun c_6 => ?_) (fun c_6 => ?_)
                · refine r_const C dX2_edgeSum_65 ?_
                  exact J66_5 0 ((sel_f c_6).symm) H locs ls hX hS hl
                · refine lv_aload_n C.x C.b dX2_edgeSum_54 rfl (lv_at hl 0 rfl) ?_
                  refine mg_10 C hX dX2_edgeSum_55 ?_
                  refine lv_iload_n C.x C.b dX2_edgeSum_58 rfl (lv_at hl 2 rfl) ?_
                  refine ml_10 C hX (by omega) w10 rfl dX2_edgeSum_59 (fun r59 => ?_)
                  refine r_const C dX2_edgeSum_60 ?_
                  refine r_isub C dX2_edgeSum_61 ?_
                  refine lv_goto (tgt := 66) C.x C.b dX2_edgeSum_62 (by decide) ?_
                  exact J66_5 ((w10 v2) - 1) ((sel_t c_6).symm) H locs ls hX hS hl
        exact L27 _ 0 m12 (by omega) (fun k a b => h0 k a (by omega)) (Nat.lt_succ_self _) H locs ls hX hS (lv_sub hl [1, 2, 0] rfl)
      · refine lv_aload_n C.x C.b dX2_edgeSum_12 rfl (lv_at hl 0 rfl) ?_
        refine mg_12 C hX dX2_edgeSum_13 ?_
        refine lv_iload_n C.x C.b dX2_edgeSum_16 rfl (lv_at hl 2 rfl) ?_
        refine r_const C dX2_edgeSum_17 ?_
        refine ms_12 C hX hS (by omega) m12 rfl (M' := (va_up (va_up (va_up (va_up (va_up (va_up M 3 sg) 8 w8) 9 w9) 10 w10) 11 w11) 12 (fup m12 v2 0))) (up_up _ _ _ _) dX2_edgeSum_18 (fun H locs hX hS => ?_)
        refine r_iinc (lv' := [(2, .int (zi (v2 + 1))), (0, .ref (ad 63)), (1, .int (zi (bI last)))]) C dX2_edgeSum_19 hl (k := 2) rfl (by decide) rfl (fun ls hl => ?_)
        refine lv_goto (tgt := 6) C.x C.b dX2_edgeSum_22 (by decide) ?_
        exact ih6 (v2 + 1) (fup m12 v2 0) (by omega) (fup_st (P := fun j x => x = 0) h0 rfl) (by omega) H locs ls hX hS (lv_sub hl [1, 2, 0] rfl)
  exact L6 _ 0 (M 12) (by omega) (fun j a b => absurd a (by omega)) (Nat.lt_succ_self _) H locs ls (hX.to rfl ((up_id (va_up (va_up (va_up (va_up (va_up M 3 sg) 8 w8) 9 w9) 10 w10) 11 w11) (k := 12) (a := (M 12)) rfl).symm.trans rfl)) hS (lv_sub hl [1, 2, 0] rfl)

theorem hd_X2_runs : yX2_runs.cls = RX2 ∧ yX2_runs.cls ≠ "java/lang/invoke/MethodHandle" ∧ yX2_runs.cls ≠ "java/lang/invoke/VarHandle" ∧ (parseMethodDescriptor yX2_runs.desc).map (fun d => d.parameters.length) = some 1 := by decide +kernel
abbrev rm_X2_runs : Room := { frames := 4, cells := 0, slots := 0, locals := 96 }
set_option maxHeartbeats 8000000 in
theorem met_X2_runs (l : Launch) (E : us_E) (A : Nat → Prop) (ad : Nat → Nat) (F : Nat → Int) (M : Nat → Int → Int) (w : Int) (hw : -2147483648 ≤ w ∧ w < 2147483648) : cMet l yX2_runs cX2_runs 4 (some .int) rm_X2_runs A E [.ref (ad 63), .int (zi w)] (fun H => MH E A ad F M H) (qi A (fun r H => ∃ f7 : Int, ∃ m3 : Int → Int, ∃ m8 : Int → Int, ∃ m9 : Int → Int, ∃ m10 : Int → Int, ∃ m11 : Int → Int, ∃ m12 : Int → Int, ((0 ≤ w ∧ w ≤ 2) → SgOK (F 0) (M 1) (F 2) m3 ∧ ∃ s1, SgOK (F 0) (M 1) (F 2) s1 ∧ r = runS w (sqs (edgeS s1 (mtc (M 6)) (M 5) (F 4) False)) (sqs (edgeS m3 (mtc (M 6)) (M 5) (F 4) True))) ∧ (¬ (0 ≤ w ∧ w ≤ 2) → r = -10) ∧ MH E A ad (va_up F 7 f7) (va_up (va_up (va_up (va_up (va_up (va_up M 3 m3) 8 m8) 9 m9) 10 m10) 11 m11) 12 m12) H)) := by
  refine cMet.of (by decide) (Nat.le_of_ble_eq_true rfl) (fun p e s m args below meth c C hnm hX hS ls hl => ?_)
  have C : Cx p s m args meth c A RX2 cX2_runs 4 (some .int) E := C
  have hX : MH E A ad F M s.heap := hX
  have hl : lv_has ls 4 [(0, .ref (ad 63)), (1, .int (zi w))] := hl
  generalize hH : s.heap = H at hX
  have hS : va_S A s.heap H [] := by rw [← hH]; exact hS
  generalize hlocs : ([] : List Loc) = locs at hS ⊢
  have rF0 : 0 ≤ F 0 ∧ F 0 ≤ 24 := hX.2.1 0 (0, 24) rfl
  have rF2 : 0 ≤ F 2 ∧ F 2 ≤ 12 := hX.2.1 2 (0, 12) rfl
  have rF4 : 0 ≤ F 4 ∧ F 4 ≤ 8 := hX.2.1 4 (0, 8) rfl
  have rF7 : 0 ≤ F 7 ∧ F 7 ≤ 104 := hX.2.1 7 (0, 104) rfl
  refine lv_iload_n C.x C.b dX2_runs_0 rfl (lv_at hl 1 rfl) ?_
  refine r_i2l C (by omega) dX2_runs_1 ?_
  refine r_lconst C 0 rfl dX2_runs_2 ?_
  refine r_ldc2 C 2 (by decide) q1292 dX2_runs_3 ?_
  refine r_callSi (As := [.long (zl w), .long (zl 0), .long (zl 2)]) (rest := []) (cells' := 0) (slots' := 0) C (met_X2_in l E A ad H w 0 2 (show -9223372036854775808 ≤ w ∧ w < 9223372036854775808 from (by omega)) (show -9223372036854775808 ≤ 0 ∧ 0 < 9223372036854775808 from (by omega)) (show -9223372036854775808 ≤ 2 ∧ 2 < 9223372036854775808 from (by omega))) (lw_S q1209 q1210 q88 q1211) hd_X2_in rfl (by decide) rfl hS hl.1 rfl (Nat.le_of_ble_eq_true rfl) dX2_runs_6 rfl rfl ⟨Nat.le_of_ble_eq_true rfl, Nat.le_of_ble_eq_true rfl⟩ (fun rr H locs hp hS => ?_)
  obtain ⟨hrr, hH⟩ := hp
  have hrr : rr = bI (0 ≤ w ∧ w ≤ 2) := hrr
  subst hrr
  have hX : MH E A ad F M H := by rw [hH]; exact hX
  refine r_if_ne_b (tgt := 15) C dX2_runs_9 (by decide) (fun c_1 => ?_) (fun c_1 => ?_)
  · refine lv_aload_n C.x C.b dX2_runs_15 rfl (lv_at hl 0 rfl) ?_
    refine r_const C dX2_runs_16 ?_
    refine r_callVi (As := [.int (zi (bI False))]) (rest := []) (cells' := 0) (slots' := 0) C (met_X2_edgeSum l E A ad F M False) (lw_V q1297 q1299 qs52 q88 q1300) hd_X2_edgeSum rfl (by decide) (m_recv C hX) hX hS hl.1 (by simp only [bI_T, bI_F]; rfl) (Nat.le_of_ble_eq_true rfl) dX2_runs_17 rfl rfl ⟨Nat.le_of_ble_eq_true rfl, Nat.le_of_ble_eq_true rfl⟩ (fun rr H locs hp hS => ?_)
    obtain ⟨f7_2, s1, m8_3, m9_4, m10_5, m11_6, m12_7, hg1, hes, hrr, hX⟩ := hp
    have hrr : rr = sqs (edgeS s1 (mtc ((M 6))) ((M 5)) ((F 4)) False) := hrr
    subst hrr
    have hg1 : SgOK ((F 0)) ((M 1)) ((F 2)) s1 := hg1
    have hes : 0 ≤ sqs (edgeS s1 (mtc ((M 6))) ((M 5)) ((F 4)) False) ∧ sqs (edgeS s1 (mtc ((M 6))) ((M 5)) ((F 4)) False) ≤ 279936 := hes
    have hX : MH E A ad (va_up F 7 f7_2) (va_up (va_up (va_up (va_up (va_up (va_up M 3 s1) 8 m8_3) 9 m9_4) 10 m10_5) 11 m11_6) 12 m12_7) H := hX.to rfl ((congrArg (fun z => va_up z 12 m12_7) ((congrArg (fun z => va_up z 11 m11_6) ((congrArg (fun z => va_up z 10 m10_5) ((congrArg (fun z => va_up z 9 m9_4) ((congrArg (fun z => va_up z 8 m8_3) rfl).trans rfl)).trans rfl)).trans rfl)).trans rfl)).trans rfl)
    refine lv_istore_n (lv' := [(2, .int (zi (sqs (edgeS s1 (mtc ((M 6))) ((M 5)) ((F 4)) False)))), (0, .ref (ad 63)), (1, .int (zi w))]) C.x C.b dX2_runs_20 rfl hl (by decide) rfl (fun ls hl => ?_)
    refine lv_aload_n C.x C.b dX2_runs_21 rfl (lv_at hl 1 rfl) ?_
    refine r_const C dX2_runs_22 ?_
    refine r_callVi (As := [.int (zi (bI True))]) (rest := []) (cells' := 0) (slots' := 0) C (met_X2_edgeSum l E A ad (va_up F 7 f7_2) (va_up (va_up (va_up (va_up (va_up (va_up M 3 s1) 8 m8_3) 9 m9_4) 10 m10_5) 11 m11_6) 12 m12_7) True) (lw_V q1297 q1299 qs52 q88 q1300) hd_X2_edgeSum rfl (by decide) (m_recv C hX) hX hS hl.1 (by simp only [bI_T, bI_F]; rfl) (Nat.le_of_ble_eq_true rfl) dX2_runs_23 rfl rfl ⟨Nat.le_of_ble_eq_true rfl, Nat.le_of_ble_eq_true rfl⟩ (fun rr H locs hp hS => ?_)
    obtain ⟨f7_8, s2, m8_9, m9_10, m10_11, m11_12, m12_13, hg2, hes, hrr, hX⟩ := hp
    have hrr : rr = sqs (edgeS s2 (mtc ((M 6))) ((M 5)) ((F 4)) True) := hrr
    subst hrr
    have hg2 : SgOK ((F 0)) ((M 1)) ((F 2)) s2 := hg2
    have hes : 0 ≤ sqs (edgeS s2 (mtc ((M 6))) ((M 5)) ((F 4)) True) ∧ sqs (edgeS s2 (mtc ((M 6))) ((M 5)) ((F 4)) True) ≤ 279936 := hes
    have hX : MH E A ad (va_up F 7 f7_8) (va_up (va_up (va_up (va_up (va_up (va_up M 3 s2) 8 m8_9) 9 m9_10) 10 m10_11) 11 m11_12) 12 m12_13) H := hX.to (up_up _ _ _ _) ((congrArg (fun z => va_up z 12 m12_13) ((congrArg (fun z => va_up z 11 m11_12) ((congrArg (fun z => va_up z 10 m10_11) ((congrArg (fun z => va_up z 9 m9_10) ((congrArg (fun z => va_up z 8 m8_9) (up_in (by decide) (up_in (by decide) (up_in (by decide) (up_in (by decide) (up_in (by decide) (up_up _ _ _ _))))))).trans (up_in (by decide) (up_in (by decide) (up_in (by decide) (up_in (by decide) (up_up _ _ _ _))))))).trans (up_in (by decide) (up_in (by decide) (up_in (by decide) (up_up _ _ _ _)))))).trans (up_in (by decide) (up_in (by decide) (up_up _ _ _ _))))).trans (up_in (by decide) (up_up _ _ _ _)))).trans (up_up _ _ _ _))
    refine lv_istore_n (lv' := [(3, .int (zi (sqs (edgeS s2 (mtc ((M 6))) ((M 5)) ((F 4)) True)))), (2, .int (zi (sqs (edgeS s1 (mtc ((M 6))) ((M 5)) ((F 4)) False)))), (0, .ref (ad 63)), (1, .int (zi w))]) C.x C.b dX2_runs_26 rfl hl (by decide) rfl (fun ls hl => ?_)
    refine lv_iload_n C.x C.b dX2_runs_27 rfl (lv_at hl 3 rfl) ?_
    refine r_const C dX2_runs_28 ?_
    refine r_icmp_ne (tgt := 36) C (by omega) (by decide) dX2_runs_29 (by decide) (fun c_14 => ?_) (fun c_14 => ?_)
    · refine lv_iload_n C.x C.b dX2_runs_36 rfl (lv_at hl 3 rfl) ?_
      refine r_const C dX2_runs_37 ?_
      refine r_icmp_ne (tgt := 45) C (by omega) (by decide) dX2_runs_38 (by decide) (fun c_15 => ?_) (fun c_15 => ?_)
      · refine lv_iload_n C.x C.b dX2_runs_45 rfl (lv_at hl 0 rfl) ?_
        refine lv_iload_n C.x C.b dX2_runs_46 rfl (lv_at hl 1 rfl) ?_
        refine r_icmp_le (tgt := 54) C (by omega) (by omega) dX2_runs_47 (by decide) (fun c_16 => ?_) (fun c_16 => ?_)
        · refine lv_iload_n C.x C.b dX2_runs_54 rfl (lv_at hl 0 rfl) ?_
          refine lv_iload_n C.x C.b dX2_runs_55 rfl (lv_at hl 1 rfl) ?_
          refine r_icmp_ge (tgt := 63) C (by omega) (by omega) dX2_runs_56 (by decide) (fun c_17 => ?_) (fun c_17 => ?_)
          · refine r_const C dX2_runs_63 ?_
            exact r_iret C hS (Nat.le_of_ble_eq_true rfl) (Nat.le_of_ble_eq_true rfl) dX2_runs_64 ⟨f7_8, s2, m8_9, m9_10, m10_11, m11_12, m12_13, (fun _ => ⟨hg2, s1, hg1, by unfold runS; first | (rw [if_pos (by omega)]; done) | (rw [if_neg (by omega), if_pos (by omega)]; done) | (rw [if_neg (by omega), if_neg (by omega), if_pos (by omega)]; done) | (rw [if_neg (by omega), if_neg (by omega), if_neg (by omega), if_pos (by omega)]; done) | (rw [if_neg (by omega), if_neg (by omega), if_neg (by omega), if_neg (by omega)]; done)⟩), (fun q => absurd (by assumption) q), hX⟩
          · refine r_const C dX2_runs_59 ?_
            refine lv_goto (tgt := 64) C.x C.b dX2_runs_60 (by decide) ?_
            exact r_iret C hS (Nat.le_of_ble_eq_true rfl) (Nat.le_of_ble_eq_true rfl) dX2_runs_64 ⟨f7_8, s2, m8_9, m9_10, m10_11, m11_12, m12_13, (fun _ => ⟨hg2, s1, hg1, by unfold runS; first | (rw [if_pos (by omega)]; done) | (rw [if_neg (by omega), if_pos (by omega)]; done) | (rw [if_neg (by omega), if_neg (by omega), if_pos (by omega)]; done) | (rw [if_neg (by omega), if_neg (by omega), if_neg (by omega), if_pos (by omega)]; done) | (rw [if_neg (by omega), if_neg (by omega), if_neg (by omega), if_neg (by omega)]; done)⟩), (fun q => absurd (by assumption) q), hX⟩
        · refine r_const C dX2_runs_50 ?_
          refine lv_goto (tgt := 64) C.x C.b dX2_runs_51 (by decide) ?_
          exact r_iret C hS (Nat.le_of_ble_eq_true rfl) (Nat.le_of_ble_eq_true rfl) dX2_runs_64 ⟨f7_8, s2, m8_9, m9_10, m10_11, m11_12, m12_13, (fun _ => ⟨hg2, s1, hg1, by unfold runS; first | (rw [if_pos (by omega)]; done) | (rw [if_neg (by omega), if_pos (by omega)]; done) | (rw [if_neg (by omega), if_neg (by omega), if_pos (by omega)]; done) | (rw [if_neg (by omega), if_neg (by omega), if_neg (by omega), if_pos (by omega)]; done) | (rw [if_neg (by omega), if_neg (by omega), if_neg (by omega), if_neg (by omega)]; done)⟩), (fun q => absurd (by assumption) q), hX⟩
      · refine lv_iload_n C.x C.b dX2_runs_41 rfl (lv_at hl 0 rfl) ?_
        refine lv_goto (tgt := 64) C.x C.b dX2_runs_42 (by decide) ?_
        exact r_iret C hS (Nat.le_of_ble_eq_true rfl) (Nat.le_of_ble_eq_true rfl) dX2_runs_64 ⟨f7_8, s2, m8_9, m9_10, m10_11, m11_12, m12_13, (fun _ => ⟨hg2, s1, hg1, by unfold runS; first | (rw [if_pos (by omega)]; done) | (rw [if_neg (by omega), if_pos (by omega)]; done) | (rw [if_neg (by omega), if_neg (by omega), if_pos (by omega)]; done) | (rw [if_neg (by omega), if_neg (by omega), if_neg (by omega), if_pos (by omega)]; done) | (rw [if_neg (by omega), if_neg (by omega), if_neg (by omega), if_neg (by omega)]; done)⟩), (fun q => absurd (by assumption) q), hX⟩
    · refine lv_iload_n C.x C.b dX2_runs_32 rfl (lv_at hl 1 rfl) ?_
      refine lv_goto (tgt := 64) C.x C.b dX2_runs_33 (by decide) ?_
      exact r_iret C hS (Nat.le_of_ble_eq_true rfl) (Nat.le_of_ble_eq_true rfl) dX2_runs_64 ⟨f7_8, s2, m8_9, m9_10, m10_11, m11_12, m12_13, (fun _ => ⟨hg2, s1, hg1, by unfold runS; first | (rw [if_pos (by omega)]; done) | (rw [if_neg (by omega), if_pos (by omega)]; done) | (rw [if_neg (by omega), if_neg (by omega), if_pos (by omega)]; done) | (rw [if_neg (by omega), if_neg (by omega), if_neg (by omega), if_pos (by omega)]; done) | (rw [if_neg (by omega), if_neg (by omega), if_neg (by omega), if_neg (by omega)]; done)⟩), (fun q => absurd (by assumption) q), hX⟩
  · refine r_bipush C (by decide) dX2_runs_12 ?_
    exact r_iret C hS (Nat.le_of_ble_eq_true rfl) (Nat.le_of_ble_eq_true rfl) dX2_runs_14 ⟨(F 7), (M 3), (M 8), (M 9), (M 10), (M 11), (M 12), (fun q => absurd q (by assumption)), (fun _ => rfl), (hX.to ((up_id F (k := 7) (a := (F 7)) rfl).symm.trans rfl) (((((((up_id M (k := 3) (a := (M 3)) rfl).symm.trans rfl).trans ((up_id (va_up M 3 (M 3)) (k := 8) (a := (M 8)) rfl).symm.trans rfl)).trans ((up_id (va_up (va_up M 3 (M 3)) 8 (M 8)) (k := 9) (a := (M 9)) rfl).symm.trans rfl)).trans ((up_id (va_up (va_up (va_up M 3 (M 3)) 8 (M 8)) 9 (M 9)) (k := 10) (a := (M 10)) rfl).symm.trans rfl)).trans ((up_id (va_up (va_up (va_up (va_up M 3 (M 3)) 8 (M 8)) 9 (M 9)) 10 (M 10)) (k := 11) (a := (M 11)) rfl).symm.trans rfl)).trans ((up_id (va_up (va_up (va_up (va_up (va_up M 3 (M 3)) 8 (M 8)) 9 (M 9)) 10 (M 10)) 11 (M 11)) (k := 12) (a := (M 12)) rfl).symm.trans rfl)))⟩
