set_option maxRecDepth 100000

theorem hd_X2_findTable : yX2_findTable.cls = RX2 ∧ yX2_findTable.cls ≠ "java/lang/invoke/MethodHandle" ∧ yX2_findTable.cls ≠ "java/lang/invoke/VarHandle" ∧ (parseMethodDescriptor yX2_findTable.desc).map (fun d => d.parameters.length) = some 0 := by decide +kernel
abbrev rm_X2_findTable : Room := { frames := 3, cells := 0, slots := 0, locals := 73 }
set_option maxHeartbeats 8000000 in
theorem met_X2_findTable (l : Launch) (E : us_E) (A : Nat → Prop) (ad : Nat → Nat) (F : Nat → Int) (M : Nat → Int → Int) : cMet l yX2_findTable cX2_findTable 5 none rm_X2_findTable A E [.ref (ad 63)] (fun H => MH E A ad F M H) (qv A (fun H => ∃ f7 : Int, ∃ f33 : Int, ∃ m3 : Int → Int, ∃ m8 : Int → Int, ∃ m9 : Int → Int, ∃ m10 : Int → Int, ∃ m11 : Int → Int, ∃ m34 : Int → Int, ∃ m35 : Int → Int, SgOK (F 0) (M 1) (F 2) m3 ∧ (f7 = wk (mtc (M 6)) (M 5) (F 4) 0) ∧ WR (mtc (M 6)) (M 5) m8 m9 m10 m11 (F 4) 0 ∧ (f33 = tnum (F 0) m3 (cnt m3 (mtc (M 6)) (M 5) (F 4))) ∧ (∀ j : Int, 0 ≤ j → j < f33 → m34 j = tb (F 0) m3 (cnt m3 (mtc (M 6)) (M 5) (F 4)) j) ∧ (∀ s : Int, 0 ≤ s → s < 24 → m35 s = tsp (F 0) m3 (cnt m3 (mtc (M 6)) (M 5) (F 4)) f33 s) ∧ MH E A ad (va_up (va_up F 7 f7) 33 f33) (va_up (va_up (va_up (va_up (va_up (va_up (va_up M 3 m3) 8 m8) 9 m9) 10 m10) 11 m11) 34 m34) 35 m35) H)) := by
  refine cMet.of (by decide) (Nat.le_of_ble_eq_true rfl) (fun p e s m args below meth c C hnm hX hS ls hl => ?_)
  have C : Cx p s m args meth c A RX2 cX2_findTable 5 none E := C
  have hX : MH E A ad F M s.heap := hX
  have hl : lv_has ls 5 [(0, .ref (ad 63))] := hl
  generalize hH : s.heap = H at hX
  have hS : va_S A s.heap H [] := by rw [← hH]; exact hS
  generalize hlocs : ([] : List Loc) = locs at hS ⊢
  have rF0 : 0 ≤ F 0 ∧ F 0 ≤ 24 := hX.2.1 0 (0, 24) rfl
  have rF2 : 0 ≤ F 2 ∧ F 2 ≤ 12 := hX.2.1 2 (0, 12) rfl
  have rF4 : 0 ≤ F 4 ∧ F 4 ≤ 8 := hX.2.1 4 (0, 8) rfl
  have rF7 : 0 ≤ F 7 ∧ F 7 ≤ 104 := hX.2.1 7 (0, 104) rfl
  have rF33 : 0 ≤ F 33 ∧ F 33 ≤ 6 := hX.2.1 33 (0, 6) rfl
  have h24 : ∀ t, 0 ≤ M 5 t ∧ M 5 t ≤ 24 := fun t => hX.2.2 5 (0, 24) rfl t
  have hcl : ∀ q, -2 ≤ M 6 q ∧ M 6 q ≤ 23 := fun q => hX.2.2 6 (-2, 23) rfl q
  refine lv_aload_n C.x C.b dX2_findTable_0 rfl (lv_at hl 0 rfl) ?_
  refine r_callVv (As := []) (rest := []) (cells' := 0) (slots' := 0) C (met_X2_findWords l E A ad F M) (lw_V q1255 q1257 qs46 q88 q1258) hd_X2_findWords rfl (by decide) (m_recv C hX) hX hS hl.1 rfl (Nat.le_of_ble_eq_true rfl) dX2_findTable_1 rfl rfl ⟨Nat.le_of_ble_eq_true rfl, Nat.le_of_ble_eq_true rfl⟩ (fun H locs hp hS => ?_)
  obtain ⟨wn, sg, w8, w9, w10, w11, hsg, hwk, hwr, hX⟩ := hp
  have hsg : SgOK ((F 0)) ((M 1)) ((F 2)) sg := hsg
  have hwk : wn = wk (mtc ((M 6))) ((M 5)) ((F 4)) 0 := hwk
  have hwr : WR (mtc ((M 6))) ((M 5)) w8 w9 w10 w11 ((F 4)) 0 := hwr
  have hX : MH E A ad (va_up F 7 wn) (va_up (va_up (va_up (va_up (va_up M 3 sg) 8 w8) 9 w9) 10 w10) 11 w11) H := hX.to rfl ((congrArg (fun z => va_up z 11 w11) ((congrArg (fun z => va_up z 10 w10) ((congrArg (fun z => va_up z 9 w9) ((congrArg (fun z => va_up z 8 w8) rfl).trans rfl)).trans rfl)).trans rfl)).trans rfl)
  refine lv_aload_n C.x C.b dX2_findTable_4 rfl (lv_at hl 0 rfl) ?_
  refine r_const C dX2_findTable_5 ?_
  refine mp_33 C hX hS (by omega) (F' := (va_up (va_up F 7 wn) 33 0)) rfl dX2_findTable_6 (fun H locs hX hS => ?_)
  refine r_const C dX2_findTable_9 ?_
  refine lv_istore_n (lv' := [(1, .int (zi 0)), (0, .ref (ad 63))]) C.x C.b dX2_findTable_10 rfl hl (by decide) rfl (fun ls hl => ?_)
  have L11 : ∀ (fu : Nat) (v1 : Int) (m35 : Int → Int) (h1 : 0 ≤ v1 ∧ v1 ≤ 24) (h0 : ∀ j : Int, 0 ≤ j → j < v1 → m35 j = -4) (hm : Int.toNat (24 - v1) < fu) (H : Heap) (locs : List Loc) (ls : Array Slot) (hX : MH E A ad (va_up (va_up F 7 wn) 33 0) (va_up (va_up (va_up (va_up (va_up (va_up M 3 sg) 8 w8) 9 w9) 10 w10) 11 w11) 35 m35) H) (hS : va_S A s.heap H locs) (hl : lv_has ls 5 [(0, .ref (ad 63)), (1, .int (zi v1))]), W p l e rm_X2_findTable s m args below meth c H locs 0 0 (MQ below (qv A (fun H => ∃ f7 : Int, ∃ f33 : Int, ∃ m3 : Int → Int, ∃ m8 : Int → Int, ∃ m9 : Int → Int, ∃ m10 : Int → Int, ∃ m11 : Int → Int, ∃ m34 : Int → Int, ∃ m35 : Int → Int, SgOK (F 0) (M 1) (F 2) m3 ∧ (f7 = wk (mtc (M 6)) (M 5) (F 4) 0) ∧ WR (mtc (M 6)) (M 5) m8 m9 m10 m11 (F 4) 0 ∧ (f33 = tnum (F 0) m3 (cnt m3 (mtc (M 6)) (M 5) (F 4))) ∧ (∀ j : Int, 0 ≤ j → j < f33 → m34 j = tb (F 0) m3 (cnt m3 (mtc (M 6)) (M 5) (F 4)) j) ∧ (∀ s : Int, 0 ≤ s → s < 24 → m35 s = tsp (F 0) m3 (cnt m3 (mtc (M 6)) (M 5) (F 4)) f33 s) ∧ MH E A ad (va_up (va_up F 7 f7) 33 f33) (va_up (va_up (va_up (va_up (va_up (va_up (va_up M 3 m3) 8 m8) 9 m9) 10 m10) 11 m11) 34 m34) 35 m35) H)) args s (rm_X2_findTable).cells (rm_X2_findTable).slots A) (F0 m 11 ls []) := by
    intro fu
    induction fu with
    | zero => intro v1 m35 h1 h0 hm; exact absurd hm (Nat.not_lt_zero _)
    | succ fu ih11 =>
      intro v1 m35 h1 h0 hm H locs ls hX hS hl
      refine lv_iload_n C.x C.b dX2_findTable_11 rfl (lv_at hl 1 rfl) ?_
      refine r_bipush C (by decide) dX2_findTable_12 ?_
      refine r_icmp_ge (tgt := 31) C (by omega) (by decide) dX2_findTable_14 (by decide) (fun c_1 => ?_) (fun c_1 => ?_)
      · refine r_const C dX2_findTable_31 ?_
        refine lv_istore_n (lv' := [(1, .int (zi 1)), (0, .ref (ad 63))]) C.x C.b dX2_findTable_32 rfl hl (by decide) rfl (fun ls hl => ?_)
        have L33 : ∀ (fu : Nat) (v1 : Prop) (xv1 : Int) (hv1 : xv1 = bI v1) (f33 : Int) (m34 : Int → Int) (m35 : Int → Int) (hk : 0 ≤ f33 ∧ f33 ≤ 6) (hs : ∀ s : Int, 0 ≤ s → s < 24 → m35 s = tsp (F 0) sg (cnt sg (mtc (M 6)) (M 5) (F 4)) f33 s) (ht : ∀ j : Int, 0 ≤ j → j < f33 → m34 j = tb (F 0) sg (cnt sg (mtc (M 6)) (M 5) (F 4)) j ∧ ¬ tb (F 0) sg (cnt sg (mtc (M 6)) (M 5) (F 4)) j = -4) (ho : ¬ v1 → tb (F 0) sg (cnt sg (mtc (M 6)) (M 5) (F 4)) f33 = -4) (hm : Int.toNat (12 - 2 * f33 + bI v1) < fu) (H : Heap) (locs : List Loc) (ls : Array Slot) (hX : MH E A ad (va_up (va_up F 7 wn) 33 f33) (va_up (va_up (va_up (va_up (va_up (va_up (va_up M 3 sg) 8 w8) 9 w9) 10 w10) 11 w11) 34 m34) 35 m35) H) (hS : va_S A s.heap H locs) (hl : lv_has ls 5 [(0, .ref (ad 63)), (1, .int (zi xv1))]), W p l e rm_X2_findTable s m args below meth c H locs 0 0 (MQ below (qv A (fun H => ∃ f7 : Int, ∃ f33 : Int, ∃ m3 : Int → Int, ∃ m8 : Int → Int, ∃ m9 : Int → Int, ∃ m10 : Int → Int, ∃ m11 : Int → Int, ∃ m34 : Int → Int, ∃ m35 : Int → Int, SgOK (F 0) (M 1) (F 2) m3 ∧ (f7 = wk (mtc (M 6)) (M 5) (F 4) 0) ∧ WR (mtc (M 6)) (M 5) m8 m9 m10 m11 (F 4) 0 ∧ (f33 = tnum (F 0) m3 (cnt m3 (mtc (M 6)) (M 5) (F 4))) ∧ (∀ j : Int, 0 ≤ j → j < f33 → m34 j = tb (F 0) m3 (cnt m3 (mtc (M 6)) (M 5) (F 4)) j) ∧ (∀ s : Int, 0 ≤ s → s < 24 → m35 s = tsp (F 0) m3 (cnt m3 (mtc (M 6)) (M 5) (F 4)) f33 s) ∧ MH E A ad (va_up (va_up F 7 f7) 33 f33) (va_up (va_up (va_up (va_up (va_up (va_up (va_up M 3 m3) 8 m8) 9 m9) 10 m10) 11 m11) 34 m34) 35 m35) H)) args s (rm_X2_findTable).cells (rm_X2_findTable).slots A) (F0 m 33 ls []) := by
          intro fu
          induction fu with
          | zero => intro v1 xv1 hv1 f33 m34 m35 hk hs ht ho hm; exact absurd hm (Nat.not_lt_zero _)
          | succ fu ih33 =>
            intro v1 xv1 hv1 f33 m34 m35 hk hs ht ho hm H locs ls hX hS hl
            subst hv1
            refine lv_iload_n C.x C.b dX2_findTable_33 rfl (lv_at hl 1 rfl) ?_
            refine r_if_eq_b (tgt := 180) C dX2_findTable_34 (by decide) (fun c_2 => ?_) (fun c_2 => ?_)
            · have hen : tnum (F 0) sg (cnt sg (mtc (M 6)) (M 5) (F 4)) = f33 := tnum_e hk.1 hk.2 (fun j a b => (ht j a b).2) (by first | exact Or.inr (ho (by assumption)) | exact Or.inl (by omega))
              exact r_vret C hS (Nat.le_of_ble_eq_true rfl) (Nat.le_of_ble_eq_true rfl) dX2_findTable_180 ⟨wn, f33, sg, w8, w9, w10, w11, m34, m35, hsg, hwk, hwr, hen.symm, (fun j a b => (ht j a b).1), hs, hX⟩
            · have hm33 := hm
              refine lv_aload_n C.x C.b dX2_findTable_37 rfl (lv_at hl 0 rfl) ?_
              refine mg_33 C hX f33 rfl dX2_findTable_38 (fun r38 => ?_)
              refine r_bipush C (by decide) dX2_findTable_41 ?_
              refine r_icmp_ge (tgt := 180) C (by omega) (by decide) dX2_findTable_43 (by decide) (fun c_3 => ?_) (fun c_3 => ?_)
              · have hen : tnum (F 0) sg (cnt sg (mtc (M 6)) (M 5) (F 4)) = f33 := tnum_e hk.1 hk.2 (fun j a b => (ht j a b).2) (by first | exact Or.inr (ho (by assumption)) | exact Or.inl (by omega))
                exact r_vret C hS (Nat.le_of_ble_eq_true rfl) (Nat.le_of_ble_eq_true rfl) dX2_findTable_180 ⟨wn, f33, sg, w8, w9, w10, w11, m34, m35, hsg, hwk, hwr, hen.symm, (fun j a b => (ht j a b).1), hs, hX⟩
              · refine r_bipush C (by decide) dX2_findTable_46 ?_
                refine lv_istore_n (lv' := [(2, .int (zi (-4))), (0, .ref (ad 63)), (1, .int (zi (bI v1)))]) C.x C.b dX2_findTable_48 rfl hl (by decide) rfl (fun ls hl => ?_)
                refine r_const C dX2_findTable_49 ?_
                refine lv_istore_n (lv' := [(3, .int (zi 0)), (2, .int (zi (-4))), (0, .ref (ad 63)), (1, .int (zi (bI v1)))]) C.x C.b dX2_findTable_50 rfl hl (by decide) rfl (fun ls hl => ?_)
                have L51 : ∀ (fu : Nat) (v2 : Int) (v3 : Int) (h3 : 0 ≤ v3 ∧ v3 ≤ F 0) (hb : v2 = tbest sg (cnt sg (mtc (M 6)) (M 5) (F 4)) m35 v3) (hm : Int.toNat (F 0 - v3) < fu) (H : Heap) (locs : List Loc) (ls : Array Slot) (hX : MH E A ad (va_up (va_up F 7 wn) 33 f33) (va_up (va_up (va_up (va_up (va_up (va_up (va_up M 3 sg) 8 w8) 9 w9) 10 w10) 11 w11) 34 m34) 35 m35) H) (hS : va_S A s.heap H locs) (hl : lv_has ls 5 [(0, .ref (ad 63)), (1, .int (zi (bI v1))), (2, .int (zi v2)), (3, .int (zi v3))]), W p l e rm_X2_findTable s m args below meth c H locs 0 0 (MQ below (qv A (fun H => ∃ f7 : Int, ∃ f33 : Int, ∃ m3 : Int → Int, ∃ m8 : Int → Int, ∃ m9 : Int → Int, ∃ m10 : Int → Int, ∃ m11 : Int → Int, ∃ m34 : Int → Int, ∃ m35 : Int → Int, SgOK (F 0) (M 1) (F 2) m3 ∧ (f7 = wk (mtc (M 6)) (M 5) (F 4) 0) ∧ WR (mtc (M 6)) (M 5) m8 m9 m10 m11 (F 4) 0 ∧ (f33 = tnum (F 0) m3 (cnt m3 (mtc (M 6)) (M 5) (F 4))) ∧ (∀ j : Int, 0 ≤ j → j < f33 → m34 j = tb (F 0) m3 (cnt m3 (mtc (M 6)) (M 5) (F 4)) j) ∧ (∀ s : Int, 0 ≤ s → s < 24 → m35 s = tsp (F 0) m3 (cnt m3 (mtc (M 6)) (M 5) (F 4)) f33 s) ∧ MH E A ad (va_up (va_up F 7 f7) 33 f33) (va_up (va_up (va_up (va_up (va_up (va_up (va_up M 3 m3) 8 m8) 9 m9) 10 m10) 11 m11) 34 m34) 35 m35) H)) args s (rm_X2_findTable).cells (rm_X2_findTable).slots A) (F0 m 51 ls []) := by
                  intro fu
                  induction fu with
                  | zero => intro v2 v3 h3 hb hm; exact absurd hm (Nat.not_lt_zero _)
                  | succ fu ih51 =>
                    intro v2 v3 h3 hb hm H locs ls hX hS hl
                    refine lv_iload_n C.x C.b dX2_findTable_51 rfl (lv_at hl 3 rfl) ?_
                    refine lv_aload_n C.x C.b dX2_findTable_52 rfl (lv_at hl 0 rfl) ?_
                    have hbr := tbest_r (sg := sg) (ct := (cnt sg (mtc (M 6)) (M 5) (F 4))) (sp := m35) h3.1
                    rw [← hb] at hbr
                    refine mg_0 C hX (F 0) rfl dX2_findTable_53 (fun _ => ?_)
                    refine r_icmp_ge (tgt := 131) C (by omega) (by omega) dX2_findTable_56 (by decide) (fun c_4 => ?_) (fun c_4 => ?_)
                    · have htb : v2 = tb (F 0) sg (cnt sg (mtc (M 6)) (M 5) (F 4)) f33 := by
                        rw [hb, show v3 = F 0 by omega]
                        exact tbest_congr rF0.1 (fun s a b => ⟨Iff.rfl, rfl, hs s a (by omega)⟩)
                      refine lv_iload_n C.x C.b dX2_findTable_131 rfl (lv_at hl 2 rfl) ?_
                      refine r_bipush C (by decide) dX2_findTable_132 ?_
                      have J142_5 : ∀ (t0 : Int) (ht0 : t0 = bI (¬ (v2 = (-4)))) (H : Heap) (locs : List Loc) (ls : Array Slot) (hX : MH E A ad (va_up (va_up F 7 wn) 33 f33) (va_up (va_up (va_up (va_up (va_up (va_up (va_up M 3 sg) 8 w8) 9 w9) 10 w10) 11 w11) 34 m34) 35 m35) H) (hS : va_S A s.heap H locs) (hl : lv_has ls 5 [(0, .ref (ad 63)), (1, .int (zi (bI v1))), (2, .int (zi v2)), (3, .int (zi v3))]), W p l e rm_X2_findTable s m args below meth c H locs 0 0 (MQ below (qv A (fun H => ∃ f7 : Int, ∃ f33 : Int, ∃ m3 : Int → Int, ∃ m8 : Int → Int, ∃ m9 : Int → Int, ∃ m10 : Int → Int, ∃ m11 : Int → Int, ∃ m34 : Int → Int, ∃ m35 : Int → Int, SgOK (F 0) (M 1) (F 2) m3 ∧ (f7 = wk (mtc (M 6)) (M 5) (F 4) 0) ∧ WR (mtc (M 6)) (M 5) m8 m9 m10 m11 (F 4) 0 ∧ (f33 = tnum (F 0) m3 (cnt m3 (mtc (M 6)) (M 5) (F 4))) ∧ (∀ j : Int, 0 ≤ j → j < f33 → m34 j = tb (F 0) m3 (cnt m3 (mtc (M 6)) (M 5) (F 4)) j) ∧ (∀ s : Int, 0 ≤ s → s < 24 → m35 s = tsp (F 0) m3 (cnt m3 (mtc (M 6)) (M 5) (F 4)) f33 s) ∧ MH E A ad (va_up (va_up F 7 f7) 33 f33) (va_up (va_up (va_up (va_up (va_up (va_up (va_up M 3 m3) 8 m8) 9 m9) 10 m10) 11 m11) 34 m34) 35 m35) H)) args s (rm_X2_findTable).cells (rm_X2_findTable).slots A) (F0 m 142 ls [.int (zi t0)]) := by
                        intro t0 ht0 H locs ls hX hS hl
                        subst ht0
                        refine lv_istore_n (lv' := [(1, .int (zi (bI (¬ (v2 = (-4)))))), (0, .ref (ad 63)), (2, .int (zi v2)), (3, .int (zi v3))]) C.x C.b dX2_findTable_142 rfl hl (by decide) rfl (fun ls hl => ?_)
                        have hno : v2 = -4 → tb (F 0) sg (cnt sg (mtc (M 6)) (M 5) (F 4)) f33 = -4 := fun q => htb ▸ q
                        refine lv_iload_n C.x C.b dX2_findTable_143 rfl (lv_at hl 0 rfl) ?_
                        refine r_if_eq_b (tgt := 177) C dX2_findTable_144 (by decide) (fun c_6 => ?_) (fun c_6 => ?_)
                        · have hst1 : ¬ v2 = -4 → ∀ s : Int, 0 ≤ s → s < 24 → fup m35 v2 f33 s = tsp (F 0) sg (cnt sg (mtc (M 6)) (M 5) (F 4)) (f33 + 1) s := by
                            intro q s a b
                            rw [tsp_s hk.1, sel_f (htb ▸ q), ← htb]
                            by_cases e : s = v2
                            · rw [e, fup_s, fup_s]
                            · rw [fup_n _ _ e, fup_n _ _ e]; exact hs s a b
                          have hst2 : ¬ v2 = -4 → ∀ j : Int, 0 ≤ j → j < f33 + 1 → fup m34 f33 v2 j = tb (F 0) sg (cnt sg (mtc (M 6)) (M 5) (F 4)) j ∧ ¬ tb (F 0) sg (cnt sg (mtc (M 6)) (M 5) (F 4)) j = -4 := fun q => fup_st (P := fun j x => x = tb (F 0) sg (cnt sg (mtc (M 6)) (M 5) (F 4)) j ∧ ¬ tb (F 0) sg (cnt sg (mtc (M 6)) (M 5) (F 4)) j = -4) ht ⟨htb, htb ▸ q⟩
                          refine lv_goto (tgt := 33) C.x C.b dX2_findTable_177 (by decide) ?_
                          exact ih33 (¬ (v2 = (-4))) (bI (¬ (v2 = (-4)))) rfl f33 m34 m35 (by omega) (by first | exact hs | exact hst1 (by assumption)) (by first | exact ht | exact hst2 (by assumption)) (fun q => by first | exact hno (Classical.not_not.mp q) | exact absurd (by assumption) q) (by first | (rw [bI_t (by assumption)] at hm33; rw [bI_f (by assumption)]; omega) | (rw [bI_t (by assumption)] at hm33; rw [bI_t (by assumption)]; omega)) H locs ls hX hS (lv_sub hl [1, 0] rfl)
                        · refine lv_aload_n C.x C.b dX2_findTable_147 rfl (lv_at hl 1 rfl) ?_
                          refine mg_34 C hX dX2_findTable_148 ?_
                          refine lv_aload_n C.x C.b dX2_findTable_151 rfl (lv_at hl 1 rfl) ?_
                          refine mg_33 C hX f33 rfl dX2_findTable_152 (fun _ => ?_)
                          refine lv_iload_n C.x C.b dX2_findTable_155 rfl (lv_at hl 2 rfl) ?_
                          refine ms_34 C hX hS (by omega) (by omega) m34 rfl (M' := (va_up (va_up (va_up (va_up (va_up (va_up (va_up M 3 sg) 8 w8) 9 w9) 10 w10) 11 w11) 34 (fup m34 f33 v2)) 35 m35)) (up_in (by decide) (up_up _ _ _ _)) dX2_findTable_156 (fun H locs hX hS => ?_)
                          refine lv_aload_n C.x C.b dX2_findTable_157 rfl (lv_at hl 1 rfl) ?_
                          refine mg_35 C hX dX2_findTable_158 ?_
                          refine lv_iload_n C.x C.b dX2_findTable_161 rfl (lv_at hl 2 rfl) ?_
                          refine lv_aload_n C.x C.b dX2_findTable_162 rfl (lv_at hl 1 rfl) ?_
                          refine mg_33 C hX f33 rfl dX2_findTable_163 (fun _ => ?_)
                          refine ms_35 C hX hS (by omega) (by omega) m35 rfl (M' := (va_up (va_up (va_up (va_up (va_up (va_up (va_up M 3 sg) 8 w8) 9 w9) 10 w10) 11 w11) 34 (fup m34 f33 v2)) 35 (fup m35 v2 f33))) (up_up _ _ _ _) dX2_findTable_166 (fun H locs hX hS => ?_)
                          refine lv_aload_n C.x C.b dX2_findTable_167 rfl (lv_at hl 1 rfl) ?_
                          refine lv_dup C.x C.b dX2_findTable_168 rfl ?_
                          refine mg_33 C hX f33 rfl dX2_findTable_169 (fun _ => ?_)
                          refine r_const C dX2_findTable_172 ?_
                          refine r_iadd C dX2_findTable_173 ?_
                          refine mp_33 C hX hS (by omega) (F' := (va_up (va_up F 7 wn) 33 (f33 + 1))) (up_up _ _ _ _) dX2_findTable_174 (fun H locs hX hS => ?_)
                          have hst1 : ¬ v2 = -4 → ∀ s : Int, 0 ≤ s → s < 24 → fup m35 v2 f33 s = tsp (F 0) sg (cnt sg (mtc (M 6)) (M 5) (F 4)) (f33 + 1) s := by
                            intro q s a b
                            rw [tsp_s hk.1, sel_f (htb ▸ q), ← htb]
                            by_cases e : s = v2
                            · rw [e, fup_s, fup_s]
                            · rw [fup_n _ _ e, fup_n _ _ e]; exact hs s a b
                          have hst2 : ¬ v2 = -4 → ∀ j : Int, 0 ≤ j → j < f33 + 1 → fup m34 f33 v2 j = tb (F 0) sg (cnt sg (mtc (M 6)) (M 5) (F 4)) j ∧ ¬ tb (F 0) sg (cnt sg (mtc (M 6)) (M 5) (F 4)) j = -4 := fun q => fup_st (P := fun j x => x = tb (F 0) sg (cnt sg (mtc (M 6)) (M 5) (F 4)) j ∧ ¬ tb (F 0) sg (cnt sg (mtc (M 6)) (M 5) (F 4)) j = -4) ht ⟨htb, htb ▸ q⟩
                          refine lv_goto (tgt := 33) C.x C.b dX2_findTable_177 (by decide) ?_
                          exact ih33 (¬ (v2 = (-4))) (bI (¬ (v2 = (-4)))) rfl (f33 + 1) (fup m34 f33 v2) (fup m35 v2 f33) (by omega) (by first | exact hs | exact hst1 (by assumption)) (by first | exact ht | exact hst2 (by assumption)) (fun q => by first | exact hno (Classical.not_not.mp q) | exact absurd (by assumption) q) (by first | (rw [bI_t (by assumption)] at hm33; rw [bI_f (by assumption)]; omega) | (rw [bI_t (by assumption)] at hm33; rw [bI_t (by assumption)]; omega)) H locs ls hX hS (lv_sub hl [1, 0] rfl)
                      refine r_icmp_eq (tgt := 141) C (by omega) (by decide) dX2_findTable_134 (by decide) (fun c_7 => ?_) (fun c_7 => ?_)
                      · refine r_const C dX2_findTable_141 ?_
                        exact J142_5 0 ((bI_f (fun q => q c_7)).symm) H locs ls hX hS hl
                      · refine r_const C dX2_findTable_137 ?_
                        refine lv_goto (tgt := 142) C.x C.b dX2_findTable_138 (by decide) ?_
                        exact J142_5 1 ((bI_t c_7).symm) H locs ls hX hS hl
                    · refine lv_aload_n C.x C.b dX2_findTable_59 rfl (lv_at hl 0 rfl) ?_
                      refine mg_3 C hX dX2_findTable_60 ?_
                      refine lv_iload_n C.x C.b dX2_findTable_63 rfl (lv_at hl 3 rfl) ?_
                      refine ml_3 C hX (by omega) sg rfl dX2_findTable_64 (fun r64 => ?_)
                      refine lv_iload_n C.x C.b dX2_findTable_65 rfl (lv_at hl 3 rfl) ?_
                      have J93_8 : ∀ (t0 : Int) (ht0 : t0 = bI (((sg v3) = v3) ∧ (((m35 v3) = (-4)) ∧ (0 < (cnt (sg) (mtc ((M 6))) ((M 5)) ((F 4)) v3))))) (H : Heap) (locs : List Loc) (ls : Array Slot) (hX : MH E A ad (va_up (va_up F 7 wn) 33 f33) (va_up (va_up (va_up (va_up (va_up (va_up (va_up M 3 sg) 8 w8) 9 w9) 10 w10) 11 w11) 34 m34) 35 m35) H) (hS : va_S A s.heap H locs) (hl : lv_has ls 5 [(0, .ref (ad 63)), (1, .int (zi (bI v1))), (2, .int (zi v2)), (3, .int (zi v3))]), W p l e rm_X2_findTable s m args below meth c H locs 0 0 (MQ below (qv A (fun H => ∃ f7 : Int, ∃ f33 : Int, ∃ m3 : Int → Int, ∃ m8 : Int → Int, ∃ m9 : Int → Int, ∃ m10 : Int → Int, ∃ m11 : Int → Int, ∃ m34 : Int → Int, ∃ m35 : Int → Int, SgOK (F 0) (M 1) (F 2) m3 ∧ (f7 = wk (mtc (M 6)) (M 5) (F 4) 0) ∧ WR (mtc (M 6)) (M 5) m8 m9 m10 m11 (F 4) 0 ∧ (f33 = tnum (F 0) m3 (cnt m3 (mtc (M 6)) (M 5) (F 4))) ∧ (∀ j : Int, 0 ≤ j → j < f33 → m34 j = tb (F 0) m3 (cnt m3 (mtc (M 6)) (M 5) (F 4)) j) ∧ (∀ s : Int, 0 ≤ s → s < 24 → m35 s = tsp (F 0) m3 (cnt m3 (mtc (M 6)) (M 5) (F 4)) f33 s) ∧ MH E A ad (va_up (va_up F 7 f7) 33 f33) (va_up (va_up (va_up (va_up (va_up (va_up (va_up M 3 m3) 8 m8) 9 m9) 10 m10) 11 m11) 34 m34) 35 m35) H)) args s (rm_X2_findTable).cells (rm_X2_findTable).slots A) (F0 m 93 ls [.int (zi t0)]) := by
                        intro t0 ht0 H locs ls hX hS hl
                        subst ht0
                        refine lv_istore (lv' := [(4, .int (zi (bI (((sg v3) = v3) ∧ (((m35 v3) = (-4)) ∧ (0 < (cnt (sg) (mtc ((M 6))) ((M 5)) ((F 4)) v3))))))), (0, .ref (ad 63)), (1, .int (zi (bI v1))), (2, .int (zi v2)), (3, .int (zi v3))]) C.x C.b dX2_findTable_93 hl (by decide) rfl (fun ls hl => ?_)
                        refine lv_iload C.x C.b dX2_findTable_95 (lv_at hl 0 rfl) ?_
                        have J124_9 : ∀ (t0 : Int) (ht0 : t0 = sel (((sg v3) = v3) ∧ (((m35 v3) = (-4)) ∧ (0 < (cnt (sg) (mtc ((M 6))) ((M 5)) ((F 4)) v3)))) (sel (v2 = (-4)) v3 (sel ((cnt (sg) (mtc ((M 6))) ((M 5)) ((F 4)) v2) < (cnt (sg) (mtc ((M 6))) ((M 5)) ((F 4)) v3)) v3 v2)) v2) (H : Heap) (locs : List Loc) (ls : Array Slot) (hX : MH E A ad (va_up (va_up F 7 wn) 33 f33) (va_up (va_up (va_up (va_up (va_up (va_up (va_up M 3 sg) 8 w8) 9 w9) 10 w10) 11 w11) 34 m34) 35 m35) H) (hS : va_S A s.heap H locs) (hl : lv_has ls 5 [(4, .int (zi (bI (((sg v3) = v3) ∧ (((m35 v3) = (-4)) ∧ (0 < (cnt (sg) (mtc ((M 6))) ((M 5)) ((F 4)) v3))))))), (0, .ref (ad 63)), (1, .int (zi (bI v1))), (2, .int (zi v2)), (3, .int (zi v3))]), W p l e rm_X2_findTable s m args below meth c H locs 0 0 (MQ below (qv A (fun H => ∃ f7 : Int, ∃ f33 : Int, ∃ m3 : Int → Int, ∃ m8 : Int → Int, ∃ m9 : Int → Int, ∃ m10 : Int → Int, ∃ m11 : Int → Int, ∃ m34 : Int → Int, ∃ m35 : Int → Int, SgOK (F 0) (M 1) (F 2) m3 ∧ (f7 = wk (mtc (M 6)) (M 5) (F 4) 0) ∧ WR (mtc (M 6)) (M 5) m8 m9 m10 m11 (F 4) 0 ∧ (f33 = tnum (F 0) m3 (cnt m3 (mtc (M 6)) (M 5) (F 4))) ∧ (∀ j : Int, 0 ≤ j → j < f33 → m34 j = tb (F 0) m3 (cnt m3 (mtc (M 6)) (M 5) (F 4)) j) ∧ (∀ s : Int, 0 ≤ s → s < 24 → m35 s = tsp (F 0) m3 (cnt m3 (mtc (M 6)) (M 5) (F 4)) f33 s) ∧ MH E A ad (va_up (va_up F 7 f7) 33 f33) (va_up (va_up (va_up (va_up (va_up (va_up (va_up M 3 m3) 8 m8) 9 m9) 10 m10) 11 m11) 34 m34) 35 m35) H)) args s (rm_X2_findTable).cells (rm_X2_findTable).slots A) (F0 m 124 ls [.int (zi t0)]) := by
                          intro t0 ht0 H locs ls hX hS hl
                          subst ht0
                          refine lv_istore_n (lv' := [(2, .int (zi (sel (((sg v3) = v3) ∧ (((m35 v3) = (-4)) ∧ (0 < (cnt (sg) (mtc ((M 6))) ((M 5)) ((F 4)) v3)))) (sel (v2 = (-4)) v3 (sel ((cnt (sg) (mtc ((M 6))) ((M 5)) ((F 4)) v2) < (cnt (sg) (mtc ((M 6))) ((M 5)) ((F 4)) v3)) v3 v2)) v2))), (4, .int (zi (bI (((sg v3) = v3) ∧ (((m35 v3) = (-4)) ∧ (0 < (cnt (sg) (mtc ((M 6))) ((M 5)) ((F 4)) v3))))))), (0, .ref (ad 63)), (1, .int (zi (bI v1))), (3, .int (zi v3))]) C.x C.b dX2_findTable_124 rfl hl (by decide) rfl (fun ls hl => ?_)
                          refine r_iinc (lv' := [(3, .int (zi (v3 + 1))), (2, .int (zi (sel (((sg v3) = v3) ∧ (((m35 v3) = (-4)) ∧ (0 < (cnt (sg) (mtc ((M 6))) ((M 5)) ((F 4)) v3)))) (sel (v2 = (-4)) v3 (sel ((cnt (sg) (mtc ((M 6))) ((M 5)) ((F 4)) v2) < (cnt (sg) (mtc ((M 6))) ((M 5)) ((F 4)) v3)) v3 v2)) v2))), (4, .int (zi (bI (((sg v3) = v3) ∧ (((m35 v3) = (-4)) ∧ (0 < (cnt (sg) (mtc ((M 6))) ((M 5)) ((F 4)) v3))))))), (0, .ref (ad 63)), (1, .int (zi (bI v1)))]) C dX2_findTable_125 hl (k := 4) rfl (by decide) rfl (fun ls hl => ?_)
                          refine lv_goto (tgt := 51) C.x C.b dX2_findTable_128 (by decide) ?_
                          exact ih51 (sel (((sg v3) = v3) ∧ (((m35 v3) = (-4)) ∧ (0 < (cnt (sg) (mtc ((M 6))) ((M 5)) ((F 4)) v3)))) (sel (v2 = (-4)) v3 (sel ((cnt (sg) (mtc ((M 6))) ((M 5)) ((F 4)) v2) < (cnt (sg) (mtc ((M 6))) ((M 5)) ((F 4)) v3)) v3 v2)) v2) (v3 + 1) (by omega) (by rw [hb]; exact (tbest_s h3.1).symm) (by omega) H locs ls hX hS (lv_sub hl [3, 4, 1, 0] rfl)
                        refine r_if_eq_b (tgt := 123) C dX2_findTable_97 (by decide) (fun c_10 => ?_) (fun c_10 => ?_)
                        · refine lv_iload_n C.x C.b dX2_findTable_123 rfl (lv_at hl 3 rfl) ?_
                          exact J124_9 v2 ((sel_f c_10).symm) H locs ls hX hS hl
                        · refine lv_iload_n C.x C.b dX2_findTable_100 rfl (lv_at hl 3 rfl) ?_
                          refine r_bipush C (by decide) dX2_findTable_101 ?_
                          refine r_icmp_eq (tgt := 119) C (by omega) (by decide) dX2_findTable_103 (by decide) (fun c_11 => ?_) (fun c_11 => ?_)
                          · refine lv_iload_n C.x C.b dX2_findTable_119 rfl (lv_at hl 4 rfl) ?_
                            refine lv_goto (tgt := 124) C.x C.b dX2_findTable_120 (by decide) ?_
                            exact J124_9 v3 (((sel_t c_10).trans (sel_t c_11)).symm) H locs ls hX hS hl
                          · refine lv_aload_n C.x C.b dX2_findTable_106 rfl (lv_at hl 1 rfl) ?_
                            refine lv_iload_n C.x C.b dX2_findTable_107 rfl (lv_at hl 4 rfl) ?_
                            refine r_callVi (As := [.int (zi v3)]) (rest := []) (cells' := 0) (slots' := 0) C (met_X2_countOf l E A ad (va_up (va_up F 7 wn) 33 f33) (va_up (va_up (va_up (va_up (va_up (va_up (va_up M 3 sg) 8 w8) 9 w9) 10 w10) 11 w11) 34 m34) 35 m35) v3 (show -2147483648 ≤ v3 ∧ v3 < 2147483648 from (by omega))) (lw_V q1271 q1273 qs49 q88 q1274) hd_X2_countOf rfl (by decide) (m_recv C hX) hX hS hl.1 rfl (Nat.le_of_ble_eq_true rfl) dX2_findTable_108 rfl rfl ⟨Nat.le_of_ble_eq_true rfl, Nat.le_of_ble_eq_true rfl⟩ (fun rr H locs hp hS => ?_)
                            obtain ⟨hcn, hrr, hX⟩ := hp
                            have hrr : rr = cnt (sg) (mtc ((M 6))) ((M 5)) ((F 4)) v3 := hrr
                            subst hrr
                            have hcn : 0 ≤ cnt (sg) (mtc ((M 6))) ((M 5)) ((F 4)) v3 ∧ cnt (sg) (mtc ((M 6))) ((M 5)) ((F 4)) v3 ≤ 192 := hcn
                            refine lv_aload_n C.x C.b dX2_findTable_111 rfl (lv_at hl 1 rfl) ?_
                            refine lv_iload_n C.x C.b dX2_findTable_112 rfl (lv_at hl 3 rfl) ?_
                            refine r_callVi (As := [.int (zi v2)]) (rest := [.int (zi (cnt (sg) (mtc ((M 6))) ((M 5)) ((F 4)) v3))]) (cells' := 0) (slots' := 0) C (met_X2_countOf l E A ad (va_up (va_up F 7 wn) 33 f33) (va_up (va_up (va_up (va_up (va_up (va_up (va_up M 3 sg) 8 w8) 9 w9) 10 w10) 11 w11) 34 m34) 35 m35) v2 (show -2147483648 ≤ v2 ∧ v2 < 2147483648 from (by omega))) (lw_V q1271 q1273 qs49 q88 q1274) hd_X2_countOf rfl (by decide) (m_recv C hX) hX hS hl.1 rfl (Nat.le_of_ble_eq_true rfl) dX2_findTable_113 rfl rfl ⟨Nat.le_of_ble_eq_true rfl, Nat.le_of_ble_eq_true rfl⟩ (fun rr H locs hp hS => ?_)
                            obtain ⟨hcn, hrr, hX⟩ := hp
                            have hrr : rr = cnt (sg) (mtc ((M 6))) ((M 5)) ((F 4)) v2 := hrr
                            subst hrr
                            have hcn : 0 ≤ cnt (sg) (mtc ((M 6))) ((M 5)) ((F 4)) v2 ∧ cnt (sg) (mtc ((M 6))) ((M 5)) ((F 4)) v2 ≤ 192 := hcn
                            refine r_icmp_le (tgt := 123) C (by omega) (by omega) dX2_findTable_116 (by decide) (fun c_12 => ?_) (fun c_12 => ?_)
                            · refine lv_iload_n C.x C.b dX2_findTable_123 rfl (lv_at hl 3 rfl) ?_
                              exact J124_9 v2 (((sel_t c_10).trans ((sel_f c_11).trans (sel_f c_12))).symm) H locs ls hX hS hl
                            · refine lv_iload_n C.x C.b dX2_findTable_119 rfl (lv_at hl 4 rfl) ?_
                              refine lv_goto (tgt := 124) C.x C.b dX2_findTable_120 (by decide) ?_
                              exact J124_9 v3 (((sel_t c_10).trans ((sel_f c_11).trans (sel_t c_12))).symm) H locs ls hX hS hl
                      refine r_icmp_ne (tgt := 92) C (by omega) (by omega) dX2_findTable_66 (by decide) (fun c_13 => ?_) (fun c_13 => ?_)
                      · refine r_const C dX2_findTable_92 ?_
                        exact J93_8 0 ((bI_f (fun q => c_13 q.1)).symm) H locs ls hX hS hl
                      · refine lv_aload_n C.x C.b dX2_findTable_69 rfl (lv_at hl 0 rfl) ?_
                        refine mg_35 C hX dX2_findTable_70 ?_
                        refine lv_iload_n C.x C.b dX2_findTable_73 rfl (lv_at hl 3 rfl) ?_
                        refine ml_35 C hX (by omega) m35 rfl dX2_findTable_74 (fun r74 => ?_)
                        refine r_bipush C (by decide) dX2_findTable_75 ?_
                        refine r_icmp_ne (tgt := 92) C (by omega) (by decide) dX2_findTable_77 (by decide) (fun c_14 => ?_) (fun c_14 => ?_)
                        · refine r_const C dX2_findTable_92 ?_
                          exact J93_8 0 ((bI_f (fun q => (fun q => c_14 q.1) q.2)).symm) H locs ls hX hS hl
                        · refine lv_aload_n C.x C.b dX2_findTable_80 rfl (lv_at hl 0 rfl) ?_
                          refine lv_iload_n C.x C.b dX2_findTable_81 rfl (lv_at hl 3 rfl) ?_
                          refine r_callVi (As := [.int (zi v3)]) (rest := []) (cells' := 0) (slots' := 0) C (met_X2_countOf l E A ad (va_up (va_up F 7 wn) 33 f33) (va_up (va_up (va_up (va_up (va_up (va_up (va_up M 3 sg) 8 w8) 9 w9) 10 w10) 11 w11) 34 m34) 35 m35) v3 (show -2147483648 ≤ v3 ∧ v3 < 2147483648 from (by omega))) (lw_V q1271 q1273 qs49 q88 q1274) hd_X2_countOf rfl (by decide) (m_recv C hX) hX hS hl.1 rfl (Nat.le_of_ble_eq_true rfl) dX2_findTable_82 rfl rfl ⟨Nat.le_of_ble_eq_true rfl, Nat.le_of_ble_eq_true rfl⟩ (fun rr H locs hp hS => ?_)
                          obtain ⟨hcn, hrr, hX⟩ := hp
                          have hrr : rr = cnt (sg) (mtc ((M 6))) ((M 5)) ((F 4)) v3 := hrr
                          subst hrr
                          have hcn : 0 ≤ cnt (sg) (mtc ((M 6))) ((M 5)) ((F 4)) v3 ∧ cnt (sg) (mtc ((M 6))) ((M 5)) ((F 4)) v3 ≤ 192 := hcn
                          refine r_if_le (tgt := 92) C (by omega) dX2_findTable_85 (by decide) (fun c_15 => ?_) (fun c_15 => ?_)
                          · refine r_const C dX2_findTable_92 ?_
                            exact J93_8 0 ((bI_f (fun q => (fun q => c_15 q.2) q.2)).symm) H locs ls hX hS hl
                          · refine r_const C dX2_findTable_88 ?_
                            refine lv_goto (tgt := 93) C.x C.b dX2_findTable_89 (by decide) ?_
                            exact J93_8 1 ((bI_t ⟨c_13, ⟨c_14, c_15⟩⟩).symm) H locs ls hX hS hl
                exact L51 _ (-4) 0 (by omega) rfl (Nat.lt_succ_self _) H locs ls hX hS (lv_sub hl [2, 3, 1, 0] rfl)
        exact L33 _ True 1 bI_T.symm 0 (M 34) m35 (by omega) (fun s a b => h0 s a (by omega)) (fun j a b => absurd a (by omega)) (fun q => absurd trivial q) (Nat.lt_succ_self _) H locs ls (hX.to rfl ((up_id (va_up (va_up (va_up (va_up (va_up (va_up M 3 sg) 8 w8) 9 w9) 10 w10) 11 w11) 35 m35) (k := 34) (a := (M 34)) rfl).symm.trans (up_in (by decide) rfl))) hS (lv_sub hl [1, 0] rfl)
      · refine lv_aload_n C.x C.b dX2_findTable_17 rfl (lv_at hl 0 rfl) ?_
        refine mg_35 C hX dX2_findTable_18 ?_
        refine lv_iload_n C.x C.b dX2_findTable_21 rfl (lv_at hl 1 rfl) ?_
        refine r_bipush C (by decide) dX2_findTable_22 ?_
        refine ms_35 C hX hS (by omega) (by omega) m35 rfl (M' := (va_up (va_up (va_up (va_up (va_up (va_up M 3 sg) 8 w8) 9 w9) 10 w10) 11 w11) 35 (fup m35 v1 (-4)))) (up_up _ _ _ _) dX2_findTable_24 (fun H locs hX hS => ?_)
        refine r_iinc (lv' := [(1, .int (zi (v1 + 1))), (0, .ref (ad 63))]) C dX2_findTable_25 hl (k := 1) rfl (by decide) rfl (fun ls hl => ?_)
        refine lv_goto (tgt := 11) C.x C.b dX2_findTable_28 (by decide) ?_
        exact ih11 (v1 + 1) (fup m35 v1 (-4)) (by omega) (fup_st (P := fun j x => x = -4) h0 rfl) (by omega) H locs ls hX hS (lv_sub hl [1, 0] rfl)
  exact L11 _ 0 (M 35) (by omega) (fun j a b => absurd a (by omega)) (Nat.lt_succ_self _) H locs ls (hX.to rfl ((up_id (va_up (va_up (va_up (va_up (va_up M 3 sg) 8 w8) 9 w9) 10 w10) 11 w11) (k := 35) (a := (M 35)) rfl).symm.trans rfl)) hS (lv_sub hl [1, 0] rfl)

theorem hd_X2_tabled : yX2_tabled.cls = RX2 ∧ yX2_tabled.cls ≠ "java/lang/invoke/MethodHandle" ∧ yX2_tabled.cls ≠ "java/lang/invoke/VarHandle" ∧ (parseMethodDescriptor yX2_tabled.desc).map (fun d => d.parameters.length) = some 1 := by decide +kernel
abbrev rm_X2_tabled : Room := { frames := 4, cells := 0, slots := 0, locals := 97 }
set_option maxHeartbeats 8000000 in
theorem met_X2_tabled (l : Launch) (E : us_E) (A : Nat → Prop) (ad : Nat → Nat) (F : Nat → Int) (M : Nat → Int → Int) (i : Int) (hi : -2147483648 ≤ i ∧ i < 2147483648) : cMet l yX2_tabled cX2_tabled 2 (some .int) rm_X2_tabled A E [.ref (ad 63), .int (zi i)] (fun H => MH E A ad F M H) (qi A (fun r H => ∃ f7 : Int, ∃ f33 : Int, ∃ m3 : Int → Int, ∃ m8 : Int → Int, ∃ m9 : Int → Int, ∃ m10 : Int → Int, ∃ m11 : Int → Int, ∃ m34 : Int → Int, ∃ m35 : Int → Int, ((0 ≤ i ∧ i ≤ 5) → SgOK (F 0) (M 1) (F 2) m3 ∧ r = sel (i < tnum (F 0) m3 (cnt m3 (mtc (M 6)) (M 5) (F 4))) (tb (F 0) m3 (cnt m3 (mtc (M 6)) (M 5) (F 4)) i) (-4)) ∧ (¬ (0 ≤ i ∧ i ≤ 5) → r = -1) ∧ MH E A ad (va_up (va_up F 7 f7) 33 f33) (va_up (va_up (va_up (va_up (va_up (va_up (va_up M 3 m3) 8 m8) 9 m9) 10 m10) 11 m11) 34 m34) 35 m35) H)) := by
  refine cMet.of (by decide) (Nat.le_of_ble_eq_true rfl) (fun p e s m args below meth c C hnm hX hS ls hl => ?_)
  have C : Cx p s m args meth c A RX2 cX2_tabled 2 (some .int) E := C
  have hX : MH E A ad F M s.heap := hX
  have hl : lv_has ls 2 [(0, .ref (ad 63)), (1, .int (zi i))] := hl
  generalize hH : s.heap = H at hX
  have hS : va_S A s.heap H [] := by rw [← hH]; exact hS
  generalize hlocs : ([] : List Loc) = locs at hS ⊢
  have rF0 : 0 ≤ F 0 ∧ F 0 ≤ 24 := hX.2.1 0 (0, 24) rfl
  have rF2 : 0 ≤ F 2 ∧ F 2 ≤ 12 := hX.2.1 2 (0, 12) rfl
  have rF4 : 0 ≤ F 4 ∧ F 4 ≤ 8 := hX.2.1 4 (0, 8) rfl
  have rF7 : 0 ≤ F 7 ∧ F 7 ≤ 104 := hX.2.1 7 (0, 104) rfl
  have rF33 : 0 ≤ F 33 ∧ F 33 ≤ 6 := hX.2.1 33 (0, 6) rfl
  refine lv_iload_n C.x C.b dX2_tabled_0 rfl (lv_at hl 1 rfl) ?_
  refine r_i2l C (by omega) dX2_tabled_1 ?_
  refine r_lconst C 0 rfl dX2_tabled_2 ?_
  refine r_ldc2 C 5 (by decide) q1253 dX2_tabled_3 ?_
  refine r_callSi (As := [.long (zl i), .long (zl 0), .long (zl 5)]) (rest := []) (cells' := 0) (slots' := 0) C (met_X2_in l E A ad H i 0 5 (show -9223372036854775808 ≤ i ∧ i < 9223372036854775808 from (by omega)) (show -9223372036854775808 ≤ 0 ∧ 0 < 9223372036854775808 from (by omega)) (show -9223372036854775808 ≤ 5 ∧ 5 < 9223372036854775808 from (by omega))) (lw_S q1209 q1210 q88 q1211) hd_X2_in rfl (by decide) rfl hS hl.1 rfl (Nat.le_of_ble_eq_true rfl) dX2_tabled_6 rfl rfl ⟨Nat.le_of_ble_eq_true rfl, Nat.le_of_ble_eq_true rfl⟩ (fun rr H locs hp hS => ?_)
  obtain ⟨hrr, hH⟩ := hp
  have hrr : rr = bI (0 ≤ i ∧ i ≤ 5) := hrr
  subst hrr
  have hX : MH E A ad F M H := by rw [hH]; exact hX
  refine r_if_ne_b (tgt := 14) C dX2_tabled_9 (by decide) (fun c_1 => ?_) (fun c_1 => ?_)
  · refine lv_aload_n C.x C.b dX2_tabled_14 rfl (lv_at hl 0 rfl) ?_
    refine r_callVv (As := []) (rest := []) (cells' := 0) (slots' := 0) C (met_X2_findTable l E A ad F M) (lw_V q1413 q1415 qs67 q88 q1416) hd_X2_findTable rfl (by decide) (m_recv C hX) hX hS hl.1 rfl (Nat.le_of_ble_eq_true rfl) dX2_tabled_15 rfl rfl ⟨Nat.le_of_ble_eq_true rfl, Nat.le_of_ble_eq_true rfl⟩ (fun H locs hp hS => ?_)
    obtain ⟨f7_2, tk, sg, m8_3, m9_4, m10_5, m11_6, tt, m35_7, hsg, hwk, hwr, htn, htb, hts_, hX⟩ := hp
    have hsg : SgOK ((F 0)) ((M 1)) ((F 2)) sg := hsg
    have hwk : f7_2 = wk (mtc ((M 6))) ((M 5)) ((F 4)) 0 := hwk
    have hwr : WR (mtc ((M 6))) ((M 5)) m8_3 m9_4 m10_5 m11_6 ((F 4)) 0 := hwr
    have htn : tk = tnum ((F 0)) sg (cnt sg (mtc ((M 6))) ((M 5)) ((F 4))) := htn
    have htb : ∀ j : Int, 0 ≤ j → j < tk → tt j = tb ((F 0)) sg (cnt sg (mtc ((M 6))) ((M 5)) ((F 4))) j := htb
    have hts_ : ∀ s : Int, 0 ≤ s → s < 24 → m35_7 s = tsp ((F 0)) sg (cnt sg (mtc ((M 6))) ((M 5)) ((F 4))) tk s := hts_
    have hX : MH E A ad (va_up (va_up F 7 f7_2) 33 tk) (va_up (va_up (va_up (va_up (va_up (va_up (va_up M 3 sg) 8 m8_3) 9 m9_4) 10 m10_5) 11 m11_6) 34 tt) 35 m35_7) H := hX.to ((congrArg (fun z => va_up z 33 tk) rfl).trans rfl) ((congrArg (fun z => va_up z 35 m35_7) ((congrArg (fun z => va_up z 34 tt) ((congrArg (fun z => va_up z 11 m11_6) ((congrArg (fun z => va_up z 10 m10_5) ((congrArg (fun z => va_up z 9 m9_4) ((congrArg (fun z => va_up z 8 m8_3) rfl).trans rfl)).trans rfl)).trans rfl)).trans rfl)).trans rfl)).trans rfl)
    refine lv_iload_n C.x C.b dX2_tabled_18 rfl (lv_at hl 1 rfl) ?_
    refine lv_aload_n C.x C.b dX2_tabled_19 rfl (lv_at hl 0 rfl) ?_
    refine mg_33 C hX tk rfl dX2_tabled_20 (fun r20 => ?_)
    refine r_icmp_ge (tgt := 35) C (by omega) (by omega) dX2_tabled_23 (by decide) (fun c_8 => ?_) (fun c_8 => ?_)
    · refine r_bipush C (by decide) dX2_tabled_35 ?_
      exact r_iret C hS (Nat.le_of_ble_eq_true rfl) (Nat.le_of_ble_eq_true rfl) dX2_tabled_37 ⟨f7_2, tk, sg, m8_3, m9_4, m10_5, m11_6, tt, m35_7, (fun _ => ⟨hsg, by first | (rw [sel_t (by omega)]; exact htb i (by omega) (by omega)) | rw [sel_f (by omega)]⟩), (fun q => absurd (by assumption) q), hX⟩
    · refine lv_aload_n C.x C.b dX2_tabled_26 rfl (lv_at hl 0 rfl) ?_
      refine mg_34 C hX dX2_tabled_27 ?_
      refine lv_iload_n C.x C.b dX2_tabled_30 rfl (lv_at hl 1 rfl) ?_
      refine ml_34 C hX (by omega) tt rfl dX2_tabled_31 (fun r31 => ?_)
      refine lv_goto (tgt := 37) C.x C.b dX2_tabled_32 (by decide) ?_
      exact r_iret C hS (Nat.le_of_ble_eq_true rfl) (Nat.le_of_ble_eq_true rfl) dX2_tabled_37 ⟨f7_2, tk, sg, m8_3, m9_4, m10_5, m11_6, tt, m35_7, (fun _ => ⟨hsg, by first | (rw [sel_t (by omega)]; exact htb i (by omega) (by omega)) | rw [sel_f (by omega)]⟩), (fun q => absurd (by assumption) q), hX⟩
  · refine r_const C dX2_tabled_12 ?_
    exact r_iret C hS (Nat.le_of_ble_eq_true rfl) (Nat.le_of_ble_eq_true rfl) dX2_tabled_13 ⟨(F 7), (F 33), (M 3), (M 8), (M 9), (M 10), (M 11), (M 34), (M 35), (fun q => absurd q (by assumption)), (fun _ => rfl), (hX.to (((up_id F (k := 7) (a := (F 7)) rfl).symm.trans rfl).trans ((up_id (va_up F 7 (F 7)) (k := 33) (a := (F 33)) rfl).symm.trans rfl)) ((((((((up_id M (k := 3) (a := (M 3)) rfl).symm.trans rfl).trans ((up_id (va_up M 3 (M 3)) (k := 8) (a := (M 8)) rfl).symm.trans rfl)).trans ((up_id (va_up (va_up M 3 (M 3)) 8 (M 8)) (k := 9) (a := (M 9)) rfl).symm.trans rfl)).trans ((up_id (va_up (va_up (va_up M 3 (M 3)) 8 (M 8)) 9 (M 9)) (k := 10) (a := (M 10)) rfl).symm.trans rfl)).trans ((up_id (va_up (va_up (va_up (va_up M 3 (M 3)) 8 (M 8)) 9 (M 9)) 10 (M 10)) (k := 11) (a := (M 11)) rfl).symm.trans rfl)).trans ((up_id (va_up (va_up (va_up (va_up (va_up M 3 (M 3)) 8 (M 8)) 9 (M 9)) 10 (M 10)) 11 (M 11)) (k := 34) (a := (M 34)) rfl).symm.trans rfl)).trans ((up_id (va_up (va_up (va_up (va_up (va_up (va_up M 3 (M 3)) 8 (M 8)) 9 (M 9)) 10 (M 10)) 11 (M 11)) 34 (M 34)) (k := 35) (a := (M 35)) rfl).symm.trans rfl)))⟩

theorem hd_X2_findTongue : yX2_findTongue.cls = RX2 ∧ yX2_findTongue.cls ≠ "java/lang/invoke/MethodHandle" ∧ yX2_findTongue.cls ≠ "java/lang/invoke/VarHandle" ∧ (parseMethodDescriptor yX2_findTongue.desc).map (fun d => d.parameters.length) = some 0 := by decide +kernel
abbrev rm_X2_findTongue : Room := { frames := 0, cells := 0, slots := 0, locals := 0 }
set_option maxHeartbeats 8000000 in
theorem met_X2_findTongue (l : Launch) (E : us_E) (A : Nat → Prop) (ad : Nat → Nat) (F : Nat → Int) (M : Nat → Int → Int) : cMet l yX2_findTongue cX2_findTongue 2 none rm_X2_findTongue A E [.ref (ad 63)] (fun H => MH E A ad F M H) (qv A (fun H => ∃ m39 : Int → Int, (∀ a b : Int, 0 ≤ a → a < 7 → 0 ≤ b → b < 4096 → (m39 (4096 * a + b) = 1 ↔ Tw (F 30) (M 31) (M 32) a b)) ∧ MH E A ad F (va_up M 39 m39) H)) := by
  refine cMet.of (by decide) (Nat.le_of_ble_eq_true rfl) (fun p e s m args below meth c C hnm hX hS ls hl => ?_)
  have C : Cx p s m args meth c A RX2 cX2_findTongue 2 none E := C
  have hX : MH E A ad F M s.heap := hX
  have hl : lv_has ls 2 [(0, .ref (ad 63))] := hl
  generalize hH : s.heap = H at hX
  have hS : va_S A s.heap H [] := by rw [← hH]; exact hS
  generalize hlocs : ([] : List Loc) = locs at hS ⊢
  have rF30 : 0 ≤ F 30 ∧ F 30 ≤ 12 := hX.2.1 30 (0, 12) rfl
  refine r_const C dX2_findTongue_0 ?_
  refine lv_istore_n (lv' := [(1, .int (zi 0)), (0, .ref (ad 63))]) C.x C.b dX2_findTongue_1 rfl hl (by decide) rfl (fun ls hl => ?_)
  have L2 : ∀ (fu : Nat) (v1 : Int) (m39 : Int → Int) (h1 : 0 ≤ v1 ∧ v1 ≤ 28672) (h0 : ∀ j : Int, 0 ≤ j → j < v1 → m39 j = 0) (hm : Int.toNat (28672 - v1) < fu) (H : Heap) (locs : List Loc) (ls : Array Slot) (hX : MH E A ad F (va_up M 39 m39) H) (hS : va_S A s.heap H locs) (hl : lv_has ls 2 [(0, .ref (ad 63)), (1, .int (zi v1))]), W p l e rm_X2_findTongue s m args below meth c H locs 0 0 (MQ below (qv A (fun H => ∃ m39 : Int → Int, (∀ a b : Int, 0 ≤ a → a < 7 → 0 ≤ b → b < 4096 → (m39 (4096 * a + b) = 1 ↔ Tw (F 30) (M 31) (M 32) a b)) ∧ MH E A ad F (va_up M 39 m39) H)) args s (rm_X2_findTongue).cells (rm_X2_findTongue).slots A) (F0 m 2 ls []) := by
    intro fu
    induction fu with
    | zero => intro v1 m39 h1 h0 hm; exact absurd hm (Nat.not_lt_zero _)
    | succ fu ih2 =>
      intro v1 m39 h1 h0 hm H locs ls hX hS hl
      refine lv_iload_n C.x C.b dX2_findTongue_2 rfl (lv_at hl 1 rfl) ?_
      refine r_sipush C (by decide) dX2_findTongue_3 ?_
      refine r_icmp_ge (tgt := 22) C (by omega) (by decide) dX2_findTongue_6 (by decide) (fun c_1 => ?_) (fun c_1 => ?_)
      · refine r_const C dX2_findTongue_22 ?_
        refine lv_istore_n (lv' := [(1, .int (zi 0)), (0, .ref (ad 63))]) C.x C.b dX2_findTongue_23 rfl hl (by decide) rfl (fun ls hl => ?_)
        have L24 : ∀ (fu : Nat) (v1 : Int) (m39 : Int → Int) (h1 : 0 ≤ v1 ∧ v1 ≤ F 30) (htw : ∀ a b : Int, 0 ≤ a → a < 7 → 0 ≤ b → b < 4096 → (m39 (4096 * a + b) = 1 ↔ Tw v1 (M 31) (M 32) a b)) (hm : Int.toNat (F 30 - v1) < fu) (H : Heap) (locs : List Loc) (ls : Array Slot) (hX : MH E A ad F (va_up M 39 m39) H) (hS : va_S A s.heap H locs) (hl : lv_has ls 2 [(0, .ref (ad 63)), (1, .int (zi v1))]), W p l e rm_X2_findTongue s m args below meth c H locs 0 0 (MQ below (qv A (fun H => ∃ m39 : Int → Int, (∀ a b : Int, 0 ≤ a → a < 7 → 0 ≤ b → b < 4096 → (m39 (4096 * a + b) = 1 ↔ Tw (F 30) (M 31) (M 32) a b)) ∧ MH E A ad F (va_up M 39 m39) H)) args s (rm_X2_findTongue).cells (rm_X2_findTongue).slots A) (F0 m 24 ls []) := by
          intro fu
          induction fu with
          | zero => intro v1 m39 h1 htw hm; exact absurd hm (Nat.not_lt_zero _)
          | succ fu ih24 =>
            intro v1 m39 h1 htw hm H locs ls hX hS hl
            refine lv_iload_n C.x C.b dX2_findTongue_24 rfl (lv_at hl 1 rfl) ?_
            refine lv_aload_n C.x C.b dX2_findTongue_25 rfl (lv_at hl 0 rfl) ?_
            refine mg_30 C hX (F 30) rfl dX2_findTongue_26 (fun _ => ?_)
            refine r_icmp_ge (tgt := 61) C (by omega) (by omega) dX2_findTongue_29 (by decide) (fun c_2 => ?_) (fun c_2 => ?_)
            · exact r_vret C hS (Nat.le_of_ble_eq_true rfl) (Nat.le_of_ble_eq_true rfl) dX2_findTongue_61 ⟨m39, (by rw [← show v1 = F 30 by omega]; exact htw), hX⟩
            · refine lv_aload_n C.x C.b dX2_findTongue_32 rfl (lv_at hl 0 rfl) ?_
              refine mg_39 C hX dX2_findTongue_33 ?_
              refine r_sipush C (by decide) dX2_findTongue_36 ?_
              refine lv_aload_n C.x C.b dX2_findTongue_39 rfl (lv_at hl 0 rfl) ?_
              refine mg_31 C hX dX2_findTongue_40 ?_
              refine lv_iload_n C.x C.b dX2_findTongue_43 rfl (lv_at hl 1 rfl) ?_
              refine ml_31 C hX (by omega) (M 31) rfl dX2_findTongue_44 (fun r44 => ?_)
              refine r_imul C dX2_findTongue_45 ?_
              refine lv_aload_n C.x C.b dX2_findTongue_46 rfl (lv_at hl 0 rfl) ?_
              refine mg_32 C hX dX2_findTongue_47 ?_
              refine lv_iload_n C.x C.b dX2_findTongue_50 rfl (lv_at hl 1 rfl) ?_
              refine ml_32 C hX (by omega) (M 32) rfl dX2_findTongue_51 (fun r51 => ?_)
              refine r_iadd C dX2_findTongue_52 ?_
              refine r_const C dX2_findTongue_53 ?_
              refine ms_39 C hX hS (by omega) (by omega) m39 rfl (M' := (va_up M 39 (fup m39 ((4096 * (M 31 v1)) + (M 32 v1)) 1))) (up_up _ _ _ _) dX2_findTongue_54 (fun H locs hX hS => ?_)
              have hst : ∀ a b : Int, 0 ≤ a → a < 7 → 0 ≤ b → b < 4096 → (fup m39 (4096 * M 31 v1 + M 32 v1) 1 (4096 * a + b) = 1 ↔ Tw (v1 + 1) (M 31) (M 32) a b) := by
                intro a b q1 q2 q3 q4
                by_cases e : M 31 v1 = a ∧ M 32 v1 = b
                · rw [← e.1, ← e.2, fup_s]
                  exact ⟨fun _ => ⟨v1, h1.1, by omega, rfl, rfl⟩, fun _ => rfl⟩
                · rw [fup_n _ _ (fun z => e ⟨by omega, by omega⟩), htw a b q1 q2 q3 q4]
                  constructor
                  · rintro ⟨w, z1, z2, z3⟩; exact ⟨w, z1, by omega, z3⟩
                  · rintro ⟨w, z1, z2, z3⟩
                    by_cases y : w = v1
                    · rw [y] at z3; exact absurd z3 e
                    · exact ⟨w, z1, by omega, z3⟩
              refine r_iinc (lv' := [(1, .int (zi (v1 + 1))), (0, .ref (ad 63))]) C dX2_findTongue_55 hl (k := 1) rfl (by decide) rfl (fun ls hl => ?_)
              refine lv_goto (tgt := 24) C.x C.b dX2_findTongue_58 (by decide) ?_
              exact ih24 (v1 + 1) (fup m39 ((4096 * (M 31 v1)) + (M 32 v1)) 1) (by omega) hst (by omega) H locs ls hX hS (lv_sub hl [1, 0] rfl)
        exact L24 _ 0 m39 (by omega) (fun a b h1 h2 h3 h4 => by rw [h0 _ (by omega) (by omega)]; exact ⟨fun q => absurd q (by omega), fun ⟨w, q1, q2, _⟩ => absurd q1 (by omega)⟩) (Nat.lt_succ_self _) H locs ls hX hS (lv_sub hl [1, 0] rfl)
      · refine lv_aload_n C.x C.b dX2_findTongue_9 rfl (lv_at hl 0 rfl) ?_
        refine mg_39 C hX dX2_findTongue_10 ?_
        refine lv_iload_n C.x C.b dX2_findTongue_13 rfl (lv_at hl 1 rfl) ?_
        refine r_const C dX2_findTongue_14 ?_
        refine ms_39 C hX hS (by omega) (by omega) m39 rfl (M' := (va_up M 39 (fup m39 v1 0))) (up_up _ _ _ _) dX2_findTongue_15 (fun H locs hX hS => ?_)
        refine r_iinc (lv' := [(1, .int (zi (v1 + 1))), (0, .ref (ad 63))]) C dX2_findTongue_16 hl (k := 1) rfl (by decide) rfl (fun ls hl => ?_)
        refine lv_goto (tgt := 2) C.x C.b dX2_findTongue_19 (by decide) ?_
        exact ih2 (v1 + 1) (fup m39 v1 0) (by omega) (fup_st (P := fun j x => x = 0) h0 rfl) (by omega) H locs ls hX hS (lv_sub hl [1, 0] rfl)
  exact L2 _ 0 (M 39) (by omega) (fun j a b => absurd a (by omega)) (Nat.lt_succ_self _) H locs ls (hX.to rfl ((up_id M (k := 39) (a := (M 39)) rfl).symm.trans rfl)) hS (lv_sub hl [1, 0] rfl)
