set_option maxRecDepth 100000

theorem hd_X2_findBest : yX2_findBest.cls = RX2 ∧ yX2_findBest.cls ≠ "java/lang/invoke/MethodHandle" ∧ yX2_findBest.cls ≠ "java/lang/invoke/VarHandle" ∧ (parseMethodDescriptor yX2_findBest.desc).map (fun d => d.parameters.length) = some 1 := by decide +kernel
abbrev rm_X2_findBest : Room := { frames := 4, cells := 0, slots := 0, locals := 97 }
set_option maxHeartbeats 8000000 in
theorem met_X2_findBest (l : Launch) (E : us_E) (A : Nat → Prop) (ad : Nat → Nat) (F : Nat → Int) (M : Nat → Int → Int) (t : Int) (hv : 0 ≤ t ∧ t < 2147483648) : cMet l yX2_findBest cX2_findBest 5 none rm_X2_findBest A E [.ref (ad 63), .int (zi t)] (fun H => MH E A ad F M H) (qv A (fun H => ∃ f7 : Int, ∃ f33 : Int, ∃ f36 : Int, ∃ f40 : Int, ∃ f41 : Int, ∃ f42 : Int, ∃ m3 : Int → Int, ∃ m8 : Int → Int, ∃ m9 : Int → Int, ∃ m10 : Int → Int, ∃ m11 : Int → Int, ∃ m34 : Int → Int, ∃ m35 : Int → Int, ∃ m37 : Int → Int, ∃ m38 : Int → Int, ∃ m39 : Int → Int, SgOK (F 0) (M 1) (F 2) m3 ∧ (f7 = wk (mtc (M 6)) (M 5) (F 4) 0) ∧ WR (mtc (M 6)) (M 5) m8 m9 m10 m11 (F 4) 0 ∧ (f33 = tnum (F 0) m3 (cnt m3 (mtc (M 6)) (M 5) (F 4))) ∧ (∀ j : Int, 0 ≤ j → j < f33 → m34 j = tb (F 0) m3 (cnt m3 (mtc (M 6)) (M 5) (F 4)) j) ∧ (∀ s : Int, 0 ≤ s → s < 24 → m35 s = tsp (F 0) m3 (cnt m3 (mtc (M 6)) (M 5) (F 4)) f33 s) ∧ (∀ a b : Int, 0 ≤ a → a < 7 → 0 ≤ b → b < 4096 → (m39 (4096 * a + b) = 1 ↔ Tw (F 30) (M 31) (M 32) a b)) ∧ (f40 = fBt (fun sd => rdS m3 (mtc (M 6)) (M 5) (F 4) (tsp (F 0) m3 (cnt m3 (mtc (M 6)) (M 5) (F 4)) (tnum (F 0) m3 (cnt m3 (mtc (M 6)) (M 5) (F 4)))) (F 30) (M 31) (M 32) t sd) f33) ∧ (f41 = fRt (fun sd => rdS m3 (mtc (M 6)) (M 5) (F 4) (tsp (F 0) m3 (cnt m3 (mtc (M 6)) (M 5) (F 4)) (tnum (F 0) m3 (cnt m3 (mtc (M 6)) (M 5) (F 4)))) (F 30) (M 31) (M 32) t sd) f33) ∧ (f42 = fMt (fun sd => rdS m3 (mtc (M 6)) (M 5) (F 4) (tsp (F 0) m3 (cnt m3 (mtc (M 6)) (M 5) (F 4)) (tnum (F 0) m3 (cnt m3 (mtc (M 6)) (M 5) (F 4)))) (F 30) (M 31) (M 32) t sd) f33) ∧ ((0 ≤ f40 ∧ f40 ≤ 4095) ∧ (0 ≤ f33 ∧ f33 ≤ 6)) ∧ MH E A ad (va_up (va_up (va_up (va_up (va_up (va_up F 7 f7) 33 f33) 36 f36) 40 f40) 41 f41) 42 f42) (va_up (va_up (va_up (va_up (va_up (va_up (va_up (va_up (va_up (va_up M 3 m3) 8 m8) 9 m9) 10 m10) 11 m11) 34 m34) 35 m35) 37 m37) 38 m38) 39 m39) H)) := by
  refine cMet.of (by decide) (Nat.le_of_ble_eq_true rfl) (fun p e s m args below meth c C hnm hX hS ls hl => ?_)
  have C : Cx p s m args meth c A RX2 cX2_findBest 5 none E := C
  have hX : MH E A ad F M s.heap := hX
  have hl : lv_has ls 5 [(0, .ref (ad 63)), (1, .int (zi t))] := hl
  generalize hH : s.heap = H at hX
  have hS : va_S A s.heap H [] := by rw [← hH]; exact hS
  generalize hlocs : ([] : List Loc) = locs at hS ⊢
  have rF0 : 0 ≤ F 0 ∧ F 0 ≤ 24 := hX.2.1 0 (0, 24) rfl
  have rF2 : 0 ≤ F 2 ∧ F 2 ≤ 12 := hX.2.1 2 (0, 12) rfl
  have rF4 : 0 ≤ F 4 ∧ F 4 ≤ 8 := hX.2.1 4 (0, 8) rfl
  have rF7 : 0 ≤ F 7 ∧ F 7 ≤ 104 := hX.2.1 7 (0, 104) rfl
  have rF30 : 0 ≤ F 30 ∧ F 30 ≤ 12 := hX.2.1 30 (0, 12) rfl
  have rF33 : 0 ≤ F 33 ∧ F 33 ≤ 6 := hX.2.1 33 (0, 6) rfl
  have rF36 : 0 ≤ F 36 ∧ F 36 ≤ 104 := hX.2.1 36 (0, 104) rfl
  have rF40 : 0 ≤ F 40 ∧ F 40 ≤ 4095 := hX.2.1 40 (0, 4095) rfl
  have rF41 : -1 ≤ F 41 ∧ F 41 ≤ 104 := hX.2.1 41 (-1, 104) rfl
  have rF42 : 0 ≤ F 42 ∧ F 42 ≤ 4096 := hX.2.1 42 (0, 4096) rfl
  have h24 : ∀ t, 0 ≤ M 5 t ∧ M 5 t ≤ 24 := fun t => hX.2.2 5 (0, 24) rfl t
  have hcl : ∀ q, -2 ≤ M 6 q ∧ M 6 q ≤ 23 := fun q => hX.2.2 6 (-2, 23) rfl q
  refine lv_aload_n C.x C.b dX2_findBest_0 rfl (lv_at hl 0 rfl) ?_
  refine r_callVv (As := []) (rest := []) (cells' := 0) (slots' := 0) C (met_X2_findTable l E A ad F M) (lw_V q1413 q1415 qs67 q88 q1416) hd_X2_findTable rfl (by decide) (m_recv C hX) hX hS hl.1 rfl (Nat.le_of_ble_eq_true rfl) dX2_findBest_1 rfl rfl ⟨Nat.le_of_ble_eq_true rfl, Nat.le_of_ble_eq_true rfl⟩ (fun H locs hp hS => ?_)
  obtain ⟨wn, tn, sg, w8, w9, w10, w11, tt, sp, hsg, hwk, hwr, htn, htb, hts_, hX⟩ := hp
  have hsg : SgOK ((F 0)) ((M 1)) ((F 2)) sg := hsg
  have hwk : wn = wk (mtc ((M 6))) ((M 5)) ((F 4)) 0 := hwk
  have hwr : WR (mtc ((M 6))) ((M 5)) w8 w9 w10 w11 ((F 4)) 0 := hwr
  have htn : tn = tnum ((F 0)) sg (cnt sg (mtc ((M 6))) ((M 5)) ((F 4))) := htn
  have htb : ∀ j : Int, 0 ≤ j → j < tn → tt j = tb ((F 0)) sg (cnt sg (mtc ((M 6))) ((M 5)) ((F 4))) j := htb
  have hts_ : ∀ s : Int, 0 ≤ s → s < 24 → sp s = tsp ((F 0)) sg (cnt sg (mtc ((M 6))) ((M 5)) ((F 4))) tn s := hts_
  have hX : MH E A ad (va_up (va_up F 7 wn) 33 tn) (va_up (va_up (va_up (va_up (va_up (va_up (va_up M 3 sg) 8 w8) 9 w9) 10 w10) 11 w11) 34 tt) 35 sp) H := hX.to ((congrArg (fun z => va_up z 33 tn) rfl).trans rfl) ((congrArg (fun z => va_up z 35 sp) ((congrArg (fun z => va_up z 34 tt) ((congrArg (fun z => va_up z 11 w11) ((congrArg (fun z => va_up z 10 w10) ((congrArg (fun z => va_up z 9 w9) ((congrArg (fun z => va_up z 8 w8) rfl).trans rfl)).trans rfl)).trans rfl)).trans rfl)).trans rfl)).trans rfl)
  have htnr := tnum_r (F 0) sg (cnt sg (mtc (M 6)) (M 5) (F 4))
  rw [← htn] at htnr
  have hpt := p2_12 (k := 2 * tn) (by omega)
  refine lv_aload_n C.x C.b dX2_findBest_4 rfl (lv_at hl 0 rfl) ?_
  refine r_callVv (As := []) (rest := []) (cells' := 0) (slots' := 0) C (met_X2_findTongue l E A ad (va_up (va_up F 7 wn) 33 tn) (va_up (va_up (va_up (va_up (va_up (va_up (va_up M 3 sg) 8 w8) 9 w9) 10 w10) 11 w11) 34 tt) 35 sp)) (lw_V q1425 q1427 qs69 q88 q1428) hd_X2_findTongue rfl (by decide) (m_recv C hX) hX hS hl.1 rfl (Nat.le_of_ble_eq_true rfl) dX2_findBest_5 rfl rfl ⟨Nat.le_of_ble_eq_true rfl, Nat.le_of_ble_eq_true rfl⟩ (fun H locs hp hS => ?_)
  obtain ⟨tw, htw, hX⟩ := hp
  have htw : ∀ a b : Int, 0 ≤ a → a < 7 → 0 ≤ b → b < 4096 → (tw (4096 * a + b) = 1 ↔ Tw ((F 30)) ((M 31)) ((M 32)) a b) := htw
  have hX : MH E A ad (va_up (va_up F 7 wn) 33 tn) (va_up (va_up (va_up (va_up (va_up (va_up (va_up (va_up M 3 sg) 8 w8) 9 w9) 10 w10) 11 w11) 34 tt) 35 sp) 39 tw) H := hX.to rfl rfl
  refine lv_aload_n C.x C.b dX2_findBest_8 rfl (lv_at hl 0 rfl) ?_
  refine lv_iload_n C.x C.b dX2_findBest_9 rfl (lv_at hl 1 rfl) ?_
  refine r_callVv (As := [.int (zi t)]) (rest := []) (cells' := 0) (slots' := 0) C (met_X2_findReadable l E A ad (va_up (va_up F 7 wn) 33 tn) (va_up (va_up (va_up (va_up (va_up (va_up (va_up (va_up M 3 sg) 8 w8) 9 w9) 10 w10) 11 w11) 34 tt) 35 sp) 39 tw) t (show 0 ≤ t ∧ t < 2147483648 from (by omega)) (show wn = wk (mtc ((M 6))) ((M 5)) ((F 4)) 0 from (by omega)) (show WR (mtc ((M 6))) ((M 5)) (w8) (w9) (w10) (w11) ((F 4)) 0 from (by omega)) (show ∀ s : Int, 0 ≤ s → s < 24 → sp s = -4 ∨ 0 ≤ sp s from (fun s a b => by rw [hts_ s a b]; exact (tsp_r rF0.1 htnr.1 s).imp id (fun z => z.1)))) (lw_V q1429 q1431 qs70 q88 q1432) hd_X2_findReadable rfl (by decide) (m_recv C hX) hX hS hl.1 rfl (Nat.le_of_ble_eq_true rfl) dX2_findBest_10 rfl rfl ⟨Nat.le_of_ble_eq_true rfl, Nat.le_of_ble_eq_true rfl⟩ (fun H locs hp hS => ?_)
  obtain ⟨rn, rm, rp, hlr, hX⟩ := hp
  have hlr : LR (Rd (sg) ((M 6)) (w8) (w9) (w10) (w11) (sp) t) (Rq (sg) ((M 6)) (w8) (w9) (sp)) (w10) (wn) rn rm rp := hlr
  have hX : MH E A ad (va_up (va_up (va_up F 7 wn) 33 tn) 36 rn) (va_up (va_up (va_up (va_up (va_up (va_up (va_up (va_up (va_up (va_up M 3 sg) 8 w8) 9 w9) 10 w10) 11 w11) 34 tt) 35 sp) 37 rm) 38 rp) 39 tw) H := hX.to rfl ((congrArg (fun z => va_up z 38 rp) (up_in (by decide) rfl)).trans (up_in (by decide) rfl))
  have hsa0 : ∀ a b : Int, 0 ≤ (mtc (M 6)) a b → 0 ≤ sa sg ((mtc (M 6)) a b) ∧ sa sg ((mtc (M 6)) a b) < 24 := fun a b q => by
    unfold sa
    rw [sel_f (by omega)]
    have z : 0 ≤ sg ((mtc (M 6)) a b) ∧ sg ((mtc (M 6)) a b) ≤ 23 := hX.2.2 3 (0, 23) rfl _
    exact ⟨z.1, by omega⟩
  have hrd : ∀ s : Int, rbS rm rp tw s rn = rdS sg (mtc (M 6)) (M 5) (F 4) (tsp (F 0) sg (cnt sg (mtc (M 6)) (M 5) (F 4)) (tnum (F 0) sg (cnt sg (mtc (M 6)) (M 5) (F 4)))) (F 30) (M 31) (M 32) t (snd s) := fun s => (rb_rd (fun a => (h24 a).1) rF4.1 hwk hwr hlr htw).trans (rdS_cg LkC.rf rF4.1 (fun a b => (hcl _).1) (fun a b q1 q2 q3 q4 q5 => by rw [← htn]; exact hts_ _ (hsa0 a b q5).1 (hsa0 a b q5).2) (fun _ _ => Iff.rfl))
  refine lv_aload_n C.x C.b dX2_findBest_13 rfl (lv_at hl 0 rfl) ?_
  refine r_const C dX2_findBest_14 ?_
  refine mp_41 C hX hS (by omega) (F' := (va_up (va_up (va_up (va_up F 7 wn) 33 tn) 36 rn) 41 (-1))) rfl dX2_findBest_15 (fun H locs hX hS => ?_)
  refine lv_aload_n C.x C.b dX2_findBest_18 rfl (lv_at hl 0 rfl) ?_
  refine r_const C dX2_findBest_19 ?_
  refine mp_42 C hX hS (by omega) (F' := (va_up (va_up (va_up (va_up (va_up F 7 wn) 33 tn) 36 rn) 41 (-1)) 42 0)) rfl dX2_findBest_20 (fun H locs hX hS => ?_)
  refine r_const C dX2_findBest_23 ?_
  refine lv_istore_n (lv' := [(2, .int (zi 0)), (0, .ref (ad 63)), (1, .int (zi t))]) C.x C.b dX2_findBest_24 rfl hl (by decide) rfl (fun ls hl => ?_)
  have L25 : ∀ (fu : Nat) (v2 : Int) (f40 : Int) (f41 : Int) (f42 : Int) (h2 : 0 ≤ v2 ∧ v2 ≤ 1 * 2 ^ (2 * tn).toNat) (hr : f41 = bR (fun k => rbS rm rp tw (rowS (snd k) tn) rn) v2) (hb40 : 0 < v2 → f40 = bB (fun k => rbS rm rp tw (rowS (snd k) tn) rn) (fun k => rowS (snd k) tn) v2) (hm42 : f42 = bM (fun k => rbS rm rp tw (rowS (snd k) tn) rn) v2) (h40 : 0 ≤ f40 ∧ f40 ≤ 4095) (hm : Int.toNat (1 * 2 ^ (2 * tn).toNat - v2) < fu) (H : Heap) (locs : List Loc) (ls : Array Slot) (hX : MH E A ad (va_up (va_up (va_up (va_up (va_up (va_up F 7 wn) 33 tn) 36 rn) 40 f40) 41 f41) 42 f42) (va_up (va_up (va_up (va_up (va_up (va_up (va_up (va_up (va_up (va_up M 3 sg) 8 w8) 9 w9) 10 w10) 11 w11) 34 tt) 35 sp) 37 rm) 38 rp) 39 tw) H) (hS : va_S A s.heap H locs) (hl : lv_has ls 5 [(0, .ref (ad 63)), (1, .int (zi t)), (2, .int (zi v2))]), W p l e rm_X2_findBest s m args below meth c H locs 0 0 (MQ below (qv A (fun H => ∃ f7 : Int, ∃ f33 : Int, ∃ f36 : Int, ∃ f40 : Int, ∃ f41 : Int, ∃ f42 : Int, ∃ m3 : Int → Int, ∃ m8 : Int → Int, ∃ m9 : Int → Int, ∃ m10 : Int → Int, ∃ m11 : Int → Int, ∃ m34 : Int → Int, ∃ m35 : Int → Int, ∃ m37 : Int → Int, ∃ m38 : Int → Int, ∃ m39 : Int → Int, SgOK (F 0) (M 1) (F 2) m3 ∧ (f7 = wk (mtc (M 6)) (M 5) (F 4) 0) ∧ WR (mtc (M 6)) (M 5) m8 m9 m10 m11 (F 4) 0 ∧ (f33 = tnum (F 0) m3 (cnt m3 (mtc (M 6)) (M 5) (F 4))) ∧ (∀ j : Int, 0 ≤ j → j < f33 → m34 j = tb (F 0) m3 (cnt m3 (mtc (M 6)) (M 5) (F 4)) j) ∧ (∀ s : Int, 0 ≤ s → s < 24 → m35 s = tsp (F 0) m3 (cnt m3 (mtc (M 6)) (M 5) (F 4)) f33 s) ∧ (∀ a b : Int, 0 ≤ a → a < 7 → 0 ≤ b → b < 4096 → (m39 (4096 * a + b) = 1 ↔ Tw (F 30) (M 31) (M 32) a b)) ∧ (f40 = fBt (fun sd => rdS m3 (mtc (M 6)) (M 5) (F 4) (tsp (F 0) m3 (cnt m3 (mtc (M 6)) (M 5) (F 4)) (tnum (F 0) m3 (cnt m3 (mtc (M 6)) (M 5) (F 4)))) (F 30) (M 31) (M 32) t sd) f33) ∧ (f41 = fRt (fun sd => rdS m3 (mtc (M 6)) (M 5) (F 4) (tsp (F 0) m3 (cnt m3 (mtc (M 6)) (M 5) (F 4)) (tnum (F 0) m3 (cnt m3 (mtc (M 6)) (M 5) (F 4)))) (F 30) (M 31) (M 32) t sd) f33) ∧ (f42 = fMt (fun sd => rdS m3 (mtc (M 6)) (M 5) (F 4) (tsp (F 0) m3 (cnt m3 (mtc (M 6)) (M 5) (F 4)) (tnum (F 0) m3 (cnt m3 (mtc (M 6)) (M 5) (F 4)))) (F 30) (M 31) (M 32) t sd) f33) ∧ ((0 ≤ f40 ∧ f40 ≤ 4095) ∧ (0 ≤ f33 ∧ f33 ≤ 6)) ∧ MH E A ad (va_up (va_up (va_up (va_up (va_up (va_up F 7 f7) 33 f33) 36 f36) 40 f40) 41 f41) 42 f42) (va_up (va_up (va_up (va_up (va_up (va_up (va_up (va_up (va_up (va_up M 3 m3) 8 m8) 9 m9) 10 m10) 11 m11) 34 m34) 35 m35) 37 m37) 38 m38) 39 m39) H)) args s (rm_X2_findBest).cells (rm_X2_findBest).slots A) (F0 m 25 ls []) := by
    intro fu
    induction fu with
    | zero => intro v2 f40 f41 f42 h2 hr hb40 hm42 h40 hm; exact absurd hm (Nat.not_lt_zero _)
    | succ fu ih25 =>
      intro v2 f40 f41 f42 h2 hr hb40 hm42 h40 hm H locs ls hX hS hl
      refine lv_iload_n C.x C.b dX2_findBest_25 rfl (lv_at hl 2 rfl) ?_
      refine r_const C dX2_findBest_26 ?_
      refine r_const C dX2_findBest_27 ?_
      refine lv_aload_n C.x C.b dX2_findBest_28 rfl (lv_at hl 0 rfl) ?_
      refine mg_33 C hX tn rfl dX2_findBest_29 (fun r29 => ?_)
      refine r_imul C dX2_findBest_32 ?_
      refine r_ishl C (by omega) (by omega) rfl dX2_findBest_33 ?_
      refine r_icmp_ge (tgt := 104) C (by omega) (by omega) dX2_findBest_34 (by decide) (fun c_1 => ?_) (fun c_1 => ?_)
      · have e2 : v2 = 1 * 2 ^ (2 * tn).toNat := by omega
        have eg : (fun k => rbS rm rp tw (rowS (snd k) tn) rn) = (fun k => (fun sd => rdS sg (mtc (M 6)) (M 5) (F 4) (tsp (F 0) sg (cnt sg (mtc (M 6)) (M 5) (F 4)) (tnum (F 0) sg (cnt sg (mtc (M 6)) (M 5) (F 4)))) (F 30) (M 31) (M 32) t sd) (snd (rowS (snd k) tn))) := funext (fun k => hrd _)
        rw [eg, e2] at hr hb40 hm42
        exact r_vret C hS (Nat.le_of_ble_eq_true rfl) (Nat.le_of_ble_eq_true rfl) dX2_findBest_104 ⟨wn, tn, rn, f40, f41, f42, sg, w8, w9, w10, w11, tt, sp, rm, rp, tw, hsg, hwk, hwr, htn, htb, hts_, htw, (hb40 (by omega)), hr, hm42, ⟨h40, htnr⟩, hX⟩
      · refine lv_aload_n C.x C.b dX2_findBest_37 rfl (lv_at hl 0 rfl) ?_
        refine lv_iload_n C.x C.b dX2_findBest_38 rfl (lv_at hl 2 rfl) ?_
        refine r_callVi (As := [.int (zi v2)]) (rest := []) (cells' := 0) (slots' := 0) C (met_X2_turned l E A ad (va_up (va_up (va_up (va_up (va_up (va_up F 7 wn) 33 tn) 36 rn) 40 f40) 41 f41) 42 f42) (va_up (va_up (va_up (va_up (va_up (va_up (va_up (va_up (va_up (va_up M 3 sg) 8 w8) 9 w9) 10 w10) 11 w11) 34 tt) 35 sp) 37 rm) 38 rp) 39 tw) v2 (show 0 ≤ v2 ∧ v2 < 2147483648 from (by omega))) (lw_V q1445 q1447 qs73 q88 q1448) hd_X2_turned rfl (by decide) (m_recv C hX) hX hS hl.1 rfl (Nat.le_of_ble_eq_true rfl) dX2_findBest_39 rfl rfl ⟨Nat.le_of_ble_eq_true rfl, Nat.le_of_ble_eq_true rfl⟩ (fun rr H locs hp hS => ?_)
        obtain ⟨htr, hrr, hX⟩ := hp
        have hrr : rr = rowS (snd v2) (tn) := hrr
        subst hrr
        have htr : 0 ≤ rowS (snd v2) (tn) ∧ rowS (snd v2) (tn) ≤ 4095 := htr
        refine lv_istore_n (lv' := [(3, .int (zi (rowS (snd v2) (tn)))), (0, .ref (ad 63)), (1, .int (zi t)), (2, .int (zi v2))]) C.x C.b dX2_findBest_42 rfl hl (by decide) rfl (fun ls hl => ?_)
        refine lv_aload_n C.x C.b dX2_findBest_43 rfl (lv_at hl 1 rfl) ?_
        refine lv_iload_n C.x C.b dX2_findBest_44 rfl (lv_at hl 0 rfl) ?_
        refine r_callVi (As := [.int (zi (rowS (snd v2) (tn)))]) (rest := []) (cells' := 0) (slots' := 0) C (met_X2_readBy l E A ad (va_up (va_up (va_up (va_up (va_up (va_up F 7 wn) 33 tn) 36 rn) 40 f40) 41 f41) 42 f42) (va_up (va_up (va_up (va_up (va_up (va_up (va_up (va_up (va_up (va_up M 3 sg) 8 w8) 9 w9) 10 w10) 11 w11) 34 tt) 35 sp) 37 rm) 38 rp) 39 tw) (rowS (snd v2) (tn)) (show 0 ≤ (rowS (snd v2) (tn)) ∧ (rowS (snd v2) (tn)) < 2147483648 from (by omega))) (lw_V q1433 q1435 qs71 q88 q1436) hd_X2_readBy rfl (by decide) (m_recv C hX) hX hS hl.1 rfl (Nat.le_of_ble_eq_true rfl) dX2_findBest_45 rfl rfl ⟨Nat.le_of_ble_eq_true rfl, Nat.le_of_ble_eq_true rfl⟩ (fun rr H locs hp hS => ?_)
        obtain ⟨hrb, hrr, hX⟩ := hp
        have hrr : rr = rbS (rm) (rp) (tw) (rowS (snd v2) (tn)) (rn) := hrr
        subst hrr
        have hrb : 0 ≤ rbS (rm) (rp) (tw) (rowS (snd v2) (tn)) (rn) ∧ rbS (rm) (rp) (tw) (rowS (snd v2) (tn)) (rn) ≤ 104 := hrb
        refine lv_istore (lv' := [(4, .int (zi (rbS (rm) (rp) (tw) (rowS (snd v2) (tn)) (rn)))), (3, .int (zi (rowS (snd v2) (tn)))), (0, .ref (ad 63)), (1, .int (zi t)), (2, .int (zi v2))]) C.x C.b dX2_findBest_48 hl (by decide) rfl (fun ls hl => ?_)
        have htr0 : rowS (snd v2) tn = (fun k => rowS (snd k) tn) v2 := rfl
        have hgv : rbS rm rp tw (rowS (snd v2) tn) rn = (fun k => rbS rm rp tw (rowS (snd k) tn) rn) v2 := rfl
        have hz0 : 0 ≤ (fun k => rbS rm rp tw (rowS (snd k) tn) rn) v2 := hrb.1
        have hmr := bM_r (g := (fun k => rbS rm rp tw (rowS (snd k) tn) rn)) h2.1
        rw [← hm42] at hmr
        have hb1 := bI_01 (rbS (rm) (rp) (tw) (rowS (snd v2) (tn)) (rn) = f41)
        have hb2 := bI_01 (rbS (rm) (rp) (tw) (rowS (snd v2) (tn)) (rn) = rbS (rm) (rp) (tw) (rowS (snd v2) (tn)) (rn))
        have hup := fun q => bst3_up (tr := (fun k => rowS (snd k) tn)) (b := f40) (m := f42) h2.1 hr hgv htr0 q
        have hno := fun q => bst3_no (tr := (fun k => rowS (snd k) tn)) h2.1 hr hgv hb40 hm42 q hrb.1
        refine lv_iload C.x C.b dX2_findBest_50 (lv_at hl 0 rfl) ?_
        refine lv_aload_n C.x C.b dX2_findBest_52 rfl (lv_at hl 2 rfl) ?_
        refine mg_41 C hX f41 rfl dX2_findBest_53 (fun r53 => ?_)
        refine r_icmp_le (tgt := 75) C (by omega) (by omega) dX2_findBest_56 (by decide) (fun c_2 => ?_) (fun c_2 => ?_)
        · refine lv_aload_n C.x C.b dX2_findBest_75 rfl (lv_at hl 2 rfl) ?_
          refine lv_dup C.x C.b dX2_findBest_76 rfl ?_
          refine mg_42 C hX f42 rfl dX2_findBest_77 (fun r77 => ?_)
          refine lv_iload C.x C.b dX2_findBest_80 (lv_at hl 0 rfl) ?_
          refine lv_aload_n C.x C.b dX2_findBest_82 rfl (lv_at hl 2 rfl) ?_
          refine mg_41 C hX f41 rfl dX2_findBest_83 (fun _ => ?_)
          have J94_3 : ∀ (t2 : Int) (ht2 : t2 = bI ((rbS (rm) (rp) (tw) (rowS (snd v2) (tn)) (rn)) = f41)) (H : Heap) (locs : List Loc) (ls : Array Slot) (hX : MH E A ad (va_up (va_up (va_up (va_up (va_up (va_up F 7 wn) 33 tn) 36 rn) 40 f40) 41 f41) 42 f42) (va_up (va_up (va_up (va_up (va_up (va_up (va_up (va_up (va_up (va_up M 3 sg) 8 w8) 9 w9) 10 w10) 11 w11) 34 tt) 35 sp) 37 rm) 38 rp) 39 tw) H) (hS : va_S A s.heap H locs) (hl : lv_has ls 5 [(4, .int (zi (rbS (rm) (rp) (tw) (rowS (snd v2) (tn)) (rn)))), (3, .int (zi (rowS (snd v2) (tn)))), (0, .ref (ad 63)), (1, .int (zi t)), (2, .int (zi v2))]), W p l e rm_X2_findBest s m args below meth c H locs 0 0 (MQ below (qv A (fun H => ∃ f7 : Int, ∃ f33 : Int, ∃ f36 : Int, ∃ f40 : Int, ∃ f41 : Int, ∃ f42 : Int, ∃ m3 : Int → Int, ∃ m8 : Int → Int, ∃ m9 : Int → Int, ∃ m10 : Int → Int, ∃ m11 : Int → Int, ∃ m34 : Int → Int, ∃ m35 : Int → Int, ∃ m37 : Int → Int, ∃ m38 : Int → Int, ∃ m39 : Int → Int, SgOK (F 0) (M 1) (F 2) m3 ∧ (f7 = wk (mtc (M 6)) (M 5) (F 4) 0) ∧ WR (mtc (M 6)) (M 5) m8 m9 m10 m11 (F 4) 0 ∧ (f33 = tnum (F 0) m3 (cnt m3 (mtc (M 6)) (M 5) (F 4))) ∧ (∀ j : Int, 0 ≤ j → j < f33 → m34 j = tb (F 0) m3 (cnt m3 (mtc (M 6)) (M 5) (F 4)) j) ∧ (∀ s : Int, 0 ≤ s → s < 24 → m35 s = tsp (F 0) m3 (cnt m3 (mtc (M 6)) (M 5) (F 4)) f33 s) ∧ (∀ a b : Int, 0 ≤ a → a < 7 → 0 ≤ b → b < 4096 → (m39 (4096 * a + b) = 1 ↔ Tw (F 30) (M 31) (M 32) a b)) ∧ (f40 = fBt (fun sd => rdS m3 (mtc (M 6)) (M 5) (F 4) (tsp (F 0) m3 (cnt m3 (mtc (M 6)) (M 5) (F 4)) (tnum (F 0) m3 (cnt m3 (mtc (M 6)) (M 5) (F 4)))) (F 30) (M 31) (M 32) t sd) f33) ∧ (f41 = fRt (fun sd => rdS m3 (mtc (M 6)) (M 5) (F 4) (tsp (F 0) m3 (cnt m3 (mtc (M 6)) (M 5) (F 4)) (tnum (F 0) m3 (cnt m3 (mtc (M 6)) (M 5) (F 4)))) (F 30) (M 31) (M 32) t sd) f33) ∧ (f42 = fMt (fun sd => rdS m3 (mtc (M 6)) (M 5) (F 4) (tsp (F 0) m3 (cnt m3 (mtc (M 6)) (M 5) (F 4)) (tnum (F 0) m3 (cnt m3 (mtc (M 6)) (M 5) (F 4)))) (F 30) (M 31) (M 32) t sd) f33) ∧ ((0 ≤ f40 ∧ f40 ≤ 4095) ∧ (0 ≤ f33 ∧ f33 ≤ 6)) ∧ MH E A ad (va_up (va_up (va_up (va_up (va_up (va_up F 7 f7) 33 f33) 36 f36) 40 f40) 41 f41) 42 f42) (va_up (va_up (va_up (va_up (va_up (va_up (va_up (va_up (va_up (va_up M 3 m3) 8 m8) 9 m9) 10 m10) 11 m11) 34 m34) 35 m35) 37 m37) 38 m38) 39 m39) H)) args s (rm_X2_findBest).cells (rm_X2_findBest).slots A) (F0 m 94 ls [.int (zi t2), .int (zi f42), .ref (ad 63)]) := by
            intro t2 ht2 H locs ls hX hS hl
            subst ht2
            refine r_iadd C dX2_findBest_94 ?_
            refine mp_42 C hX hS (by omega) (F' := (va_up (va_up (va_up (va_up (va_up (va_up F 7 wn) 33 tn) 36 rn) 40 f40) 41 f41) 42 (f42 + (bI ((rbS (rm) (rp) (tw) (rowS (snd v2) (tn)) (rn)) = f41))))) (up_up _ _ _ _) dX2_findBest_95 (fun H locs hX hS => ?_)
            refine r_iinc (lv' := [(2, .int (zi (v2 + 1))), (4, .int (zi (rbS (rm) (rp) (tw) (rowS (snd v2) (tn)) (rn)))), (3, .int (zi (rowS (snd v2) (tn)))), (0, .ref (ad 63)), (1, .int (zi t))]) C dX2_findBest_98 hl (k := 4) rfl (by decide) rfl (fun ls hl => ?_)
            refine lv_goto (tgt := 25) C.x C.b dX2_findBest_101 (by decide) ?_
            exact ih25 (v2 + 1) f40 f41 (f42 + (bI ((rbS (rm) (rp) (tw) (rowS (snd v2) (tn)) (rn)) = f41))) (by omega) (by first | exact (hup (by omega)).1 | exact (hno (by omega)).1) (by first | exact (hup (by omega)).2.1 | exact (hno (by omega)).2.1) (by first | exact (hup (by omega)).2.2 | exact (hno (by omega)).2.2) (by omega) (by omega) H locs ls hX hS (lv_sub hl [3, 4, 0] rfl)
          refine r_icmp_ne (tgt := 93) C (by omega) (by omega) dX2_findBest_86 (by decide) (fun c_4 => ?_) (fun c_4 => ?_)
          · refine r_const C dX2_findBest_93 ?_
            exact J94_3 0 ((bI_f c_4).symm) H locs ls hX hS hl
          · refine r_const C dX2_findBest_89 ?_
            refine lv_goto (tgt := 94) C.x C.b dX2_findBest_90 (by decide) ?_
            exact J94_3 1 ((bI_t c_4).symm) H locs ls hX hS hl
        · refine lv_aload_n C.x C.b dX2_findBest_59 rfl (lv_at hl 2 rfl) ?_
          refine lv_iload_n C.x C.b dX2_findBest_60 rfl (lv_at hl 1 rfl) ?_
          refine mp_40 C hX hS (by omega) (F' := (va_up (va_up (va_up (va_up (va_up (va_up F 7 wn) 33 tn) 36 rn) 40 (rowS (snd v2) (tn))) 41 f41) 42 f42)) (up_in (by decide) (up_in (by decide) (up_up _ _ _ _))) dX2_findBest_61 (fun H locs hX hS => ?_)
          refine lv_aload_n C.x C.b dX2_findBest_64 rfl (lv_at hl 2 rfl) ?_
          refine lv_iload C.x C.b dX2_findBest_65 (lv_at hl 0 rfl) ?_
          refine mp_41 C hX hS (by omega) (F' := (va_up (va_up (va_up (va_up (va_up (va_up F 7 wn) 33 tn) 36 rn) 40 (rowS (snd v2) (tn))) 41 (rbS (rm) (rp) (tw) (rowS (snd v2) (tn)) (rn))) 42 f42)) (up_in (by decide) (up_up _ _ _ _)) dX2_findBest_67 (fun H locs hX hS => ?_)
          refine lv_aload_n C.x C.b dX2_findBest_70 rfl (lv_at hl 2 rfl) ?_
          refine r_const C dX2_findBest_71 ?_
          refine mp_42 C hX hS (by omega) (F' := (va_up (va_up (va_up (va_up (va_up (va_up F 7 wn) 33 tn) 36 rn) 40 (rowS (snd v2) (tn))) 41 (rbS (rm) (rp) (tw) (rowS (snd v2) (tn)) (rn))) 42 0)) (up_up _ _ _ _) dX2_findBest_72 (fun H locs hX hS => ?_)
          refine lv_aload_n C.x C.b dX2_findBest_75 rfl (lv_at hl 2 rfl) ?_
          refine lv_dup C.x C.b dX2_findBest_76 rfl ?_
          refine mg_42 C hX 0 rfl dX2_findBest_77 (fun _ => ?_)
          refine lv_iload C.x C.b dX2_findBest_80 (lv_at hl 0 rfl) ?_
          refine lv_aload_n C.x C.b dX2_findBest_82 rfl (lv_at hl 2 rfl) ?_
          refine mg_41 C hX (rbS (rm) (rp) (tw) (rowS (snd v2) (tn)) (rn)) rfl dX2_findBest_83 (fun r83 => ?_)
          have J94_5 : ∀ (t2 : Int) (ht2 : t2 = bI ((rbS (rm) (rp) (tw) (rowS (snd v2) (tn)) (rn)) = (rbS (rm) (rp) (tw) (rowS (snd v2) (tn)) (rn)))) (H : Heap) (locs : List Loc) (ls : Array Slot) (hX : MH E A ad (va_up (va_up (va_up (va_up (va_up (va_up F 7 wn) 33 tn) 36 rn) 40 (rowS (snd v2) (tn))) 41 (rbS (rm) (rp) (tw) (rowS (snd v2) (tn)) (rn))) 42 0) (va_up (va_up (va_up (va_up (va_up (va_up (va_up (va_up (va_up (va_up M 3 sg) 8 w8) 9 w9) 10 w10) 11 w11) 34 tt) 35 sp) 37 rm) 38 rp) 39 tw) H) (hS : va_S A s.heap H locs) (hl : lv_has ls 5 [(4, .int (zi (rbS (rm) (rp) (tw) (rowS (snd v2) (tn)) (rn)))), (3, .int (zi (rowS (snd v2) (tn)))), (0, .ref (ad 63)), (1, .int (zi t)), (2, .int (zi v2))]), W p l e rm_X2_findBest s m args below meth c H locs 0 0 (MQ below (qv A (fun H => ∃ f7 : Int, ∃ f33 : Int, ∃ f36 : Int, ∃ f40 : Int, ∃ f41 : Int, ∃ f42 : Int, ∃ m3 : Int → Int, ∃ m8 : Int → Int, ∃ m9 : Int → Int, ∃ m10 : Int → Int, ∃ m11 : Int → Int, ∃ m34 : Int → Int, ∃ m35 : Int → Int, ∃ m37 : Int → Int, ∃ m38 : Int → Int, ∃ m39 : Int → Int, SgOK (F 0) (M 1) (F 2) m3 ∧ (f7 = wk (mtc (M 6)) (M 5) (F 4) 0) ∧ WR (mtc (M 6)) (M 5) m8 m9 m10 m11 (F 4) 0 ∧ (f33 = tnum (F 0) m3 (cnt m3 (mtc (M 6)) (M 5) (F 4))) ∧ (∀ j : Int, 0 ≤ j → j < f33 → m34 j = tb (F 0) m3 (cnt m3 (mtc (M 6)) (M 5) (F 4)) j) ∧ (∀ s : Int, 0 ≤ s → s < 24 → m35 s = tsp (F 0) m3 (cnt m3 (mtc (M 6)) (M 5) (F 4)) f33 s) ∧ (∀ a b : Int, 0 ≤ a → a < 7 → 0 ≤ b → b < 4096 → (m39 (4096 * a + b) = 1 ↔ Tw (F 30) (M 31) (M 32) a b)) ∧ (f40 = fBt (fun sd => rdS m3 (mtc (M 6)) (M 5) (F 4) (tsp (F 0) m3 (cnt m3 (mtc (M 6)) (M 5) (F 4)) (tnum (F 0) m3 (cnt m3 (mtc (M 6)) (M 5) (F 4)))) (F 30) (M 31) (M 32) t sd) f33) ∧ (f41 = fRt (fun sd => rdS m3 (mtc (M 6)) (M 5) (F 4) (tsp (F 0) m3 (cnt m3 (mtc (M 6)) (M 5) (F 4)) (tnum (F 0) m3 (cnt m3 (mtc (M 6)) (M 5) (F 4)))) (F 30) (M 31) (M 32) t sd) f33) ∧ (f42 = fMt (fun sd => rdS m3 (mtc (M 6)) (M 5) (F 4) (tsp (F 0) m3 (cnt m3 (mtc (M 6)) (M 5) (F 4)) (tnum (F 0) m3 (cnt m3 (mtc (M 6)) (M 5) (F 4)))) (F 30) (M 31) (M 32) t sd) f33) ∧ ((0 ≤ f40 ∧ f40 ≤ 4095) ∧ (0 ≤ f33 ∧ f33 ≤ 6)) ∧ MH E A ad (va_up (va_up (va_up (va_up (va_up (va_up F 7 f7) 33 f33) 36 f36) 40 f40) 41 f41) 42 f42) (va_up (va_up (va_up (va_up (va_up (va_up (va_up (va_up (va_up (va_up M 3 m3) 8 m8) 9 m9) 10 m10) 11 m11) 34 m34) 35 m35) 37 m37) 38 m38) 39 m39) H)) args s (rm_X2_findBest).cells (rm_X2_findBest).slots A) (F0 m 94 ls [.int (zi t2), .int (zi 0), .ref (ad 63)]) := by
            intro t2 ht2 H locs ls hX hS hl
            subst ht2
            refine r_iadd C dX2_findBest_94 ?_
            refine mp_42 C hX hS (by omega) (F' := (va_up (va_up (va_up (va_up (va_up (va_up F 7 wn) 33 tn) 36 rn) 40 (rowS (snd v2) (tn))) 41 (rbS (rm) (rp) (tw) (rowS (snd v2) (tn)) (rn))) 42 (0 + (bI ((rbS (rm) (rp) (tw) (rowS (snd v2) (tn)) (rn)) = (rbS (rm) (rp) (tw) (rowS (snd v2) (tn)) (rn))))))) (up_up _ _ _ _) dX2_findBest_95 (fun H locs hX hS => ?_)
            refine r_iinc (lv' := [(2, .int (zi (v2 + 1))), (4, .int (zi (rbS (rm) (rp) (tw) (rowS (snd v2) (tn)) (rn)))), (3, .int (zi (rowS (snd v2) (tn)))), (0, .ref (ad 63)), (1, .int (zi t))]) C dX2_findBest_98 hl (k := 4) rfl (by decide) rfl (fun ls hl => ?_)
            refine lv_goto (tgt := 25) C.x C.b dX2_findBest_101 (by decide) ?_
            exact ih25 (v2 + 1) (rowS (snd v2) (tn)) (rbS (rm) (rp) (tw) (rowS (snd v2) (tn)) (rn)) (0 + (bI ((rbS (rm) (rp) (tw) (rowS (snd v2) (tn)) (rn)) = (rbS (rm) (rp) (tw) (rowS (snd v2) (tn)) (rn))))) (by omega) (by first | exact (hup (by omega)).1 | exact (hno (by omega)).1) (by first | exact (hup (by omega)).2.1 | exact (hno (by omega)).2.1) (by first | exact (hup (by omega)).2.2 | exact (hno (by omega)).2.2) (by omega) (by omega) H locs ls hX hS (lv_sub hl [3, 4, 0] rfl)
          refine r_icmp_ne (tgt := 93) C (by omega) (by omega) dX2_findBest_86 (by decide) (fun c_6 => ?_) (fun c_6 => ?_)
          · refine r_const C dX2_findBest_93 ?_
            exact J94_5 0 ((bI_f c_6).symm) H locs ls hX hS hl
          · refine r_const C dX2_findBest_89 ?_
            refine lv_goto (tgt := 94) C.x C.b dX2_findBest_90 (by decide) ?_
            exact J94_5 1 ((bI_t c_6).symm) H locs ls hX hS hl
  exact L25 _ 0 (F 40) (-1) 0 (by omega) rfl (fun q => absurd q (by omega)) rfl (by omega) (Nat.lt_succ_self _) H locs ls (hX.to ((up_id (va_up (va_up (va_up (va_up (va_up F 7 wn) 33 tn) 36 rn) 41 (-1)) 42 0) (k := 40) (a := (F 40)) rfl).symm.trans (up_in (by decide) (up_in (by decide) rfl))) rfl) hS (lv_sub hl [1, 2, 0] rfl)

theorem hd_X2_best : yX2_best.cls = RX2 ∧ yX2_best.cls ≠ "java/lang/invoke/MethodHandle" ∧ yX2_best.cls ≠ "java/lang/invoke/VarHandle" ∧ (parseMethodDescriptor yX2_best.desc).map (fun d => d.parameters.length) = some 2 := by decide +kernel
abbrev rm_X2_best : Room := { frames := 5, cells := 0, slots := 0, locals := 121 }
set_option maxHeartbeats 8000000 in
theorem met_X2_best (l : Launch) (E : us_E) (A : Nat → Prop) (ad : Nat → Nat) (F : Nat → Int) (M : Nat → Int → Int) (t : Int) (w : Int) (ht : -2147483648 ≤ t ∧ t < 2147483648) (hw : -2147483648 ≤ w ∧ w < 2147483648) : cMet l yX2_best cX2_best 3 (some .int) rm_X2_best A E [.ref (ad 63), .int (zi t), .int (zi w)] (fun H => MH E A ad F M H) (qi A (fun r H => ∃ f7 : Int, ∃ f33 : Int, ∃ f36 : Int, ∃ f40 : Int, ∃ f41 : Int, ∃ f42 : Int, ∃ m3 : Int → Int, ∃ m8 : Int → Int, ∃ m9 : Int → Int, ∃ m10 : Int → Int, ∃ m11 : Int → Int, ∃ m34 : Int → Int, ∃ m35 : Int → Int, ∃ m37 : Int → Int, ∃ m38 : Int → Int, ∃ m39 : Int → Int, (((0 ≤ t ∧ t ≤ 1 * 2 ^ (F 4).toNat - 1) ∧ (0 ≤ w ∧ w ≤ 2)) → SgOK (F 0) (M 1) (F 2) m3) ∧ (r = sel ((0 ≤ t ∧ t ≤ 1 * 2 ^ (F 4).toNat - 1) ∧ (0 ≤ w ∧ w ≤ 2)) (sel (w = 0) (fBt (fun sd => rdS m3 (mtc (M 6)) (M 5) (F 4) (tsp (F 0) m3 (cnt m3 (mtc (M 6)) (M 5) (F 4)) (tnum (F 0) m3 (cnt m3 (mtc (M 6)) (M 5) (F 4)))) (F 30) (M 31) (M 32) t sd) (tnum (F 0) m3 (cnt m3 (mtc (M 6)) (M 5) (F 4)))) (sel (w = 1) (fRt (fun sd => rdS m3 (mtc (M 6)) (M 5) (F 4) (tsp (F 0) m3 (cnt m3 (mtc (M 6)) (M 5) (F 4)) (tnum (F 0) m3 (cnt m3 (mtc (M 6)) (M 5) (F 4)))) (F 30) (M 31) (M 32) t sd) (tnum (F 0) m3 (cnt m3 (mtc (M 6)) (M 5) (F 4)))) (fMt (fun sd => rdS m3 (mtc (M 6)) (M 5) (F 4) (tsp (F 0) m3 (cnt m3 (mtc (M 6)) (M 5) (F 4)) (tnum (F 0) m3 (cnt m3 (mtc (M 6)) (M 5) (F 4)))) (F 30) (M 31) (M 32) t sd) (tnum (F 0) m3 (cnt m3 (mtc (M 6)) (M 5) (F 4)))))) (-1)) ∧ MH E A ad (va_up (va_up (va_up (va_up (va_up (va_up F 7 f7) 33 f33) 36 f36) 40 f40) 41 f41) 42 f42) (va_up (va_up (va_up (va_up (va_up (va_up (va_up (va_up (va_up (va_up M 3 m3) 8 m8) 9 m9) 10 m10) 11 m11) 34 m34) 35 m35) 37 m37) 38 m38) 39 m39) H)) := by
  refine cMet.of (by decide) (Nat.le_of_ble_eq_true rfl) (fun p e s m args below meth c C hnm hX hS ls hl => ?_)
  have C : Cx p s m args meth c A RX2 cX2_best 3 (some .int) E := C
  have hX : MH E A ad F M s.heap := hX
  have hl : lv_has ls 3 [(0, .ref (ad 63)), (1, .int (zi t)), (2, .int (zi w))] := hl
  generalize hH : s.heap = H at hX
  have hS : va_S A s.heap H [] := by rw [← hH]; exact hS
  generalize hlocs : ([] : List Loc) = locs at hS ⊢
  have rF0 : 0 ≤ F 0 ∧ F 0 ≤ 24 := hX.2.1 0 (0, 24) rfl
  have rF2 : 0 ≤ F 2 ∧ F 2 ≤ 12 := hX.2.1 2 (0, 12) rfl
  have rF4 : 0 ≤ F 4 ∧ F 4 ≤ 8 := hX.2.1 4 (0, 8) rfl
  have rF7 : 0 ≤ F 7 ∧ F 7 ≤ 104 := hX.2.1 7 (0, 104) rfl
  have rF30 : 0 ≤ F 30 ∧ F 30 ≤ 12 := hX.2.1 30 (0, 12) rfl
  have rF40 : 0 ≤ F 40 ∧ F 40 ≤ 4095 := hX.2.1 40 (0, 4095) rfl
  have rF41 : -1 ≤ F 41 ∧ F 41 ≤ 104 := hX.2.1 41 (-1, 104) rfl
  have rF42 : 0 ≤ F 42 ∧ F 42 ≤ 4096 := hX.2.1 42 (0, 4096) rfl
  refine lv_aload_n C.x C.b dX2_best_0 rfl (lv_at hl 0 rfl) ?_
  refine lv_iload_n C.x C.b dX2_best_1 rfl (lv_at hl 1 rfl) ?_
  refine r_callVi (As := [.int (zi t)]) (rest := []) (cells' := 0) (slots' := 0) C (met_X2_areTexts l E A ad F M t (show -2147483648 ≤ t ∧ t < 2147483648 from (by omega))) (lw_V q1421 q1423 qs68 q88 q1424) hd_X2_areTexts rfl (by decide) (m_recv C hX) hX hS hl.1 rfl (Nat.le_of_ble_eq_true rfl) dX2_best_2 rfl rfl ⟨Nat.le_of_ble_eq_true rfl, Nat.le_of_ble_eq_true rfl⟩ (fun rr H locs hp hS => ?_)
  obtain ⟨hrr, hX⟩ := hp
  have hrr : rr = bI (0 ≤ t ∧ t ≤ 1 * 2 ^ ((F 4)).toNat - 1) := hrr
  subst hrr
  refine r_if_eq_b (tgt := 20) C dX2_best_5 (by decide) (fun c_1 => ?_) (fun c_1 => ?_)
  · refine r_const C dX2_best_20 ?_
    exact r_iret C hS (Nat.le_of_ble_eq_true rfl) (Nat.le_of_ble_eq_true rfl) dX2_best_21 ⟨(F 7), (F 33), (F 36), (F 40), (F 41), (F 42), (M 3), (M 8), (M 9), (M 10), (M 11), (M 34), (M 35), (M 37), (M 38), (M 39), (fun q => by first | exact absurd q.1 (by assumption) | exact absurd q.2 (by assumption)), (by first | exact Eq.symm (sel_f (fun q => absurd q.1 (by assumption))) | exact Eq.symm (sel_f (fun q => absurd q.2 (by assumption)))), (hX.to (((((((up_id F (k := 7) (a := (F 7)) rfl).symm.trans rfl).trans ((up_id (va_up F 7 (F 7)) (k := 33) (a := (F 33)) rfl).symm.trans rfl)).trans ((up_id (va_up (va_up F 7 (F 7)) 33 (F 33)) (k := 36) (a := (F 36)) rfl).symm.trans rfl)).trans ((up_id (va_up (va_up (va_up F 7 (F 7)) 33 (F 33)) 36 (F 36)) (k := 40) (a := (F 40)) rfl).symm.trans rfl)).trans ((up_id (va_up (va_up (va_up (va_up F 7 (F 7)) 33 (F 33)) 36 (F 36)) 40 (F 40)) (k := 41) (a := (F 41)) rfl).symm.trans rfl)).trans ((up_id (va_up (va_up (va_up (va_up (va_up F 7 (F 7)) 33 (F 33)) 36 (F 36)) 40 (F 40)) 41 (F 41)) (k := 42) (a := (F 42)) rfl).symm.trans rfl)) (((((((((((up_id M (k := 3) (a := (M 3)) rfl).symm.trans rfl).trans ((up_id (va_up M 3 (M 3)) (k := 8) (a := (M 8)) rfl).symm.trans rfl)).trans ((up_id (va_up (va_up M 3 (M 3)) 8 (M 8)) (k := 9) (a := (M 9)) rfl).symm.trans rfl)).trans ((up_id (va_up (va_up (va_up M 3 (M 3)) 8 (M 8)) 9 (M 9)) (k := 10) (a := (M 10)) rfl).symm.trans rfl)).trans ((up_id (va_up (va_up (va_up (va_up M 3 (M 3)) 8 (M 8)) 9 (M 9)) 10 (M 10)) (k := 11) (a := (M 11)) rfl).symm.trans rfl)).trans ((up_id (va_up (va_up (va_up (va_up (va_up M 3 (M 3)) 8 (M 8)) 9 (M 9)) 10 (M 10)) 11 (M 11)) (k := 34) (a := (M 34)) rfl).symm.trans rfl)).trans ((up_id (va_up (va_up (va_up (va_up (va_up (va_up M 3 (M 3)) 8 (M 8)) 9 (M 9)) 10 (M 10)) 11 (M 11)) 34 (M 34)) (k := 35) (a := (M 35)) rfl).symm.trans rfl)).trans ((up_id (va_up (va_up (va_up (va_up (va_up (va_up (va_up M 3 (M 3)) 8 (M 8)) 9 (M 9)) 10 (M 10)) 11 (M 11)) 34 (M 34)) 35 (M 35)) (k := 37) (a := (M 37)) rfl).symm.trans rfl)).trans ((up_id (va_up (va_up (va_up (va_up (va_up (va_up (va_up (va_up M 3 (M 3)) 8 (M 8)) 9 (M 9)) 10 (M 10)) 11 (M 11)) 34 (M 34)) 35 (M 35)) 37 (M 37)) (k := 38) (a := (M 38)) rfl).symm.trans rfl)).trans ((up_id (va_up (va_up (va_up (va_up (va_up (va_up (va_up (va_up (va_up M 3 (M 3)) 8 (M 8)) 9 (M 9)) 10 (M 10)) 11 (M 11)) 34 (M 34)) 35 (M 35)) 37 (M 37)) 38 (M 38)) (k := 39) (a := (M 39)) rfl).symm.trans rfl)))⟩
  · refine lv_iload_n C.x C.b dX2_best_8 rfl (lv_at hl 2 rfl) ?_
    refine r_i2l C (by omega) dX2_best_9 ?_
    refine r_lconst C 0 rfl dX2_best_10 ?_
    refine r_ldc2 C 2 (by decide) q1292 dX2_best_11 ?_
    refine r_callSi (As := [.long (zl w), .long (zl 0), .long (zl 2)]) (rest := []) (cells' := 0) (slots' := 0) C (met_X2_in l E A ad H w 0 2 (show -9223372036854775808 ≤ w ∧ w < 9223372036854775808 from (by omega)) (show -9223372036854775808 ≤ 0 ∧ 0 < 9223372036854775808 from (by omega)) (show -9223372036854775808 ≤ 2 ∧ 2 < 9223372036854775808 from (by omega))) (lw_S q1209 q1210 q88 q1211) hd_X2_in rfl (by decide) rfl hS hl.1 rfl (Nat.le_of_ble_eq_true rfl) dX2_best_14 rfl rfl ⟨Nat.le_of_ble_eq_true rfl, Nat.le_of_ble_eq_true rfl⟩ (fun rr H locs hp hS => ?_)
    obtain ⟨hrr, hH⟩ := hp
    have hrr : rr = bI (0 ≤ w ∧ w ≤ 2) := hrr
    subst hrr
    have hX : MH E A ad F M H := by rw [hH]; exact hX
    refine r_if_ne_b (tgt := 22) C dX2_best_17 (by decide) (fun c_2 => ?_) (fun c_2 => ?_)
    · have hp12 := p2_12 (k := F 4) (by omega)
      have htt : 0 ≤ t ∧ t ≤ 1 * 2 ^ (F 4).toNat - 1 := by assumption
      refine lv_aload_n C.x C.b dX2_best_22 rfl (lv_at hl 0 rfl) ?_
      refine lv_iload_n C.x C.b dX2_best_23 rfl (lv_at hl 1 rfl) ?_
      refine r_callVv (As := [.int (zi t)]) (rest := []) (cells' := 0) (slots' := 0) C (met_X2_findBest l E A ad F M t (show 0 ≤ t ∧ t < 2147483648 from (by omega))) (lw_V q1441 q1443 qs72 q88 q1444) hd_X2_findBest rfl (by decide) (m_recv C hX) hX hS hl.1 rfl (Nat.le_of_ble_eq_true rfl) dX2_best_24 rfl rfl ⟨Nat.le_of_ble_eq_true rfl, Nat.le_of_ble_eq_true rfl⟩ (fun H locs hp hS => ?_)
      obtain ⟨wn, tn, rn, b0, b1, b2, sg, w8, w9, w10, w11, tt, sp, rm, rp, tw, hsg, hwk, hwr, htn, htb, hts_, htw, hb40, hb41, hb42, hbr, hX⟩ := hp
      have hsg : SgOK ((F 0)) ((M 1)) ((F 2)) sg := hsg
      have hwk : wn = wk (mtc ((M 6))) ((M 5)) ((F 4)) 0 := hwk
      have hwr : WR (mtc ((M 6))) ((M 5)) w8 w9 w10 w11 ((F 4)) 0 := hwr
      have htn : tn = tnum ((F 0)) sg (cnt sg (mtc ((M 6))) ((M 5)) ((F 4))) := htn
      have htb : ∀ j : Int, 0 ≤ j → j < tn → tt j = tb ((F 0)) sg (cnt sg (mtc ((M 6))) ((M 5)) ((F 4))) j := htb
      have hts_ : ∀ s : Int, 0 ≤ s → s < 24 → sp s = tsp ((F 0)) sg (cnt sg (mtc ((M 6))) ((M 5)) ((F 4))) tn s := hts_
      have htw : ∀ a b : Int, 0 ≤ a → a < 7 → 0 ≤ b → b < 4096 → (tw (4096 * a + b) = 1 ↔ Tw ((F 30)) ((M 31)) ((M 32)) a b) := htw
      have hb40 : b0 = fBt (fun sd => rdS sg (mtc ((M 6))) ((M 5)) ((F 4)) (tsp ((F 0)) sg (cnt sg (mtc ((M 6))) ((M 5)) ((F 4))) (tnum ((F 0)) sg (cnt sg (mtc ((M 6))) ((M 5)) ((F 4))))) ((F 30)) ((M 31)) ((M 32)) t sd) tn := hb40
      have hb41 : b1 = fRt (fun sd => rdS sg (mtc ((M 6))) ((M 5)) ((F 4)) (tsp ((F 0)) sg (cnt sg (mtc ((M 6))) ((M 5)) ((F 4))) (tnum ((F 0)) sg (cnt sg (mtc ((M 6))) ((M 5)) ((F 4))))) ((F 30)) ((M 31)) ((M 32)) t sd) tn := hb41
      have hb42 : b2 = fMt (fun sd => rdS sg (mtc ((M 6))) ((M 5)) ((F 4)) (tsp ((F 0)) sg (cnt sg (mtc ((M 6))) ((M 5)) ((F 4))) (tnum ((F 0)) sg (cnt sg (mtc ((M 6))) ((M 5)) ((F 4))))) ((F 30)) ((M 31)) ((M 32)) t sd) tn := hb42
      have hbr : (0 ≤ b0 ∧ b0 ≤ 4095) ∧ (0 ≤ tn ∧ tn ≤ 6) := hbr
      have hX : MH E A ad (va_up (va_up (va_up (va_up (va_up (va_up F 7 wn) 33 tn) 36 rn) 40 b0) 41 b1) 42 b2) (va_up (va_up (va_up (va_up (va_up (va_up (va_up (va_up (va_up (va_up M 3 sg) 8 w8) 9 w9) 10 w10) 11 w11) 34 tt) 35 sp) 37 rm) 38 rp) 39 tw) H := hX.to ((congrArg (fun z => va_up z 42 b2) ((congrArg (fun z => va_up z 41 b1) ((congrArg (fun z => va_up z 40 b0) ((congrArg (fun z => va_up z 36 rn) ((congrArg (fun z => va_up z 33 tn) rfl).trans rfl)).trans rfl)).trans rfl)).trans rfl)).trans rfl) ((congrArg (fun z => va_up z 39 tw) ((congrArg (fun z => va_up z 38 rp) ((congrArg (fun z => va_up z 37 rm) ((congrArg (fun z => va_up z 35 sp) ((congrArg (fun z => va_up z 34 tt) ((congrArg (fun z => va_up z 11 w11) ((congrArg (fun z => va_up z 10 w10) ((congrArg (fun z => va_up z 9 w9) ((congrArg (fun z => va_up z 8 w8) rfl).trans rfl)).trans rfl)).trans rfl)).trans rfl)).trans rfl)).trans rfl)).trans rfl)).trans rfl)).trans rfl)
      refine lv_iload_n C.x C.b dX2_best_27 rfl (lv_at hl 2 rfl) ?_
      refine r_if_ne (tgt := 38) C (by omega) dX2_best_28 (by decide) (fun c_3 => ?_) (fun c_3 => ?_)
      · refine lv_iload_n C.x C.b dX2_best_38 rfl (lv_at hl 2 rfl) ?_
        refine r_const C dX2_best_39 ?_
        refine r_icmp_ne (tgt := 50) C (by omega) (by decide) dX2_best_40 (by decide) (fun c_4 => ?_) (fun c_4 => ?_)
        · refine lv_aload_n C.x C.b dX2_best_50 rfl (lv_at hl 0 rfl) ?_
          refine mg_42 C hX b2 rfl dX2_best_51 (fun r51 => ?_)
          have h0_ := hb40.trans (congrArg (fBt (fun sd => rdS sg (mtc (M 6)) (M 5) (F 4) (tsp (F 0) sg (cnt sg (mtc (M 6)) (M 5) (F 4)) (tnum (F 0) sg (cnt sg (mtc (M 6)) (M 5) (F 4)))) (F 30) (M 31) (M 32) t sd)) htn)
          have h1_ := hb41.trans (congrArg (fRt (fun sd => rdS sg (mtc (M 6)) (M 5) (F 4) (tsp (F 0) sg (cnt sg (mtc (M 6)) (M 5) (F 4)) (tnum (F 0) sg (cnt sg (mtc (M 6)) (M 5) (F 4)))) (F 30) (M 31) (M 32) t sd)) htn)
          have h2_ := hb42.trans (congrArg (fMt (fun sd => rdS sg (mtc (M 6)) (M 5) (F 4) (tsp (F 0) sg (cnt sg (mtc (M 6)) (M 5) (F 4)) (tnum (F 0) sg (cnt sg (mtc (M 6)) (M 5) (F 4)))) (F 30) (M 31) (M 32) t sd)) htn)
          exact r_iret C hS (Nat.le_of_ble_eq_true rfl) (Nat.le_of_ble_eq_true rfl) dX2_best_54 ⟨wn, tn, rn, b0, b1, b2, sg, w8, w9, w10, w11, tt, sp, rm, rp, tw, (fun _ => hsg), (by rw [sel_t (c := (0 ≤ t ∧ t ≤ 1 * 2 ^ (F 4).toNat - 1) ∧ (0 ≤ w ∧ w ≤ 2)) ⟨by assumption, by assumption⟩]; first | (rw [sel_t (by assumption)]; exact h0_) | (rw [sel_f (by assumption), sel_t (by assumption)]; exact h1_) | (rw [sel_f (by assumption), sel_f (by assumption)]; exact h2_)), hX⟩
        · refine lv_aload_n C.x C.b dX2_best_43 rfl (lv_at hl 0 rfl) ?_
          refine mg_41 C hX b1 rfl dX2_best_44 (fun r44 => ?_)
          refine lv_goto (tgt := 54) C.x C.b dX2_best_47 (by decide) ?_
          have h0_ := hb40.trans (congrArg (fBt (fun sd => rdS sg (mtc (M 6)) (M 5) (F 4) (tsp (F 0) sg (cnt sg (mtc (M 6)) (M 5) (F 4)) (tnum (F 0) sg (cnt sg (mtc (M 6)) (M 5) (F 4)))) (F 30) (M 31) (M 32) t sd)) htn)
          have h1_ := hb41.trans (congrArg (fRt (fun sd => rdS sg (mtc (M 6)) (M 5) (F 4) (tsp (F 0) sg (cnt sg (mtc (M 6)) (M 5) (F 4)) (tnum (F 0) sg (cnt sg (mtc (M 6)) (M 5) (F 4)))) (F 30) (M 31) (M 32) t sd)) htn)
          have h2_ := hb42.trans (congrArg (fMt (fun sd => rdS sg (mtc (M 6)) (M 5) (F 4) (tsp (F 0) sg (cnt sg (mtc (M 6)) (M 5) (F 4)) (tnum (F 0) sg (cnt sg (mtc (M 6)) (M 5) (F 4)))) (F 30) (M 31) (M 32) t sd)) htn)
          exact r_iret C hS (Nat.le_of_ble_eq_true rfl) (Nat.le_of_ble_eq_true rfl) dX2_best_54 ⟨wn, tn, rn, b0, b1, b2, sg, w8, w9, w10, w11, tt, sp, rm, rp, tw, (fun _ => hsg), (by rw [sel_t (c := (0 ≤ t ∧ t ≤ 1 * 2 ^ (F 4).toNat - 1) ∧ (0 ≤ w ∧ w ≤ 2)) ⟨by assumption, by assumption⟩]; first | (rw [sel_t (by assumption)]; exact h0_) | (rw [sel_f (by assumption), sel_t (by assumption)]; exact h1_) | (rw [sel_f (by assumption), sel_f (by assumption)]; exact h2_)), hX⟩
      · refine lv_aload_n C.x C.b dX2_best_31 rfl (lv_at hl 0 rfl) ?_
        refine mg_40 C hX b0 rfl dX2_best_32 (fun r32 => ?_)
        refine lv_goto (tgt := 54) C.x C.b dX2_best_35 (by decide) ?_
        have h0_ := hb40.trans (congrArg (fBt (fun sd => rdS sg (mtc (M 6)) (M 5) (F 4) (tsp (F 0) sg (cnt sg (mtc (M 6)) (M 5) (F 4)) (tnum (F 0) sg (cnt sg (mtc (M 6)) (M 5) (F 4)))) (F 30) (M 31) (M 32) t sd)) htn)
        have h1_ := hb41.trans (congrArg (fRt (fun sd => rdS sg (mtc (M 6)) (M 5) (F 4) (tsp (F 0) sg (cnt sg (mtc (M 6)) (M 5) (F 4)) (tnum (F 0) sg (cnt sg (mtc (M 6)) (M 5) (F 4)))) (F 30) (M 31) (M 32) t sd)) htn)
        have h2_ := hb42.trans (congrArg (fMt (fun sd => rdS sg (mtc (M 6)) (M 5) (F 4) (tsp (F 0) sg (cnt sg (mtc (M 6)) (M 5) (F 4)) (tnum (F 0) sg (cnt sg (mtc (M 6)) (M 5) (F 4)))) (F 30) (M 31) (M 32) t sd)) htn)
        exact r_iret C hS (Nat.le_of_ble_eq_true rfl) (Nat.le_of_ble_eq_true rfl) dX2_best_54 ⟨wn, tn, rn, b0, b1, b2, sg, w8, w9, w10, w11, tt, sp, rm, rp, tw, (fun _ => hsg), (by rw [sel_t (c := (0 ≤ t ∧ t ≤ 1 * 2 ^ (F 4).toNat - 1) ∧ (0 ≤ w ∧ w ≤ 2)) ⟨by assumption, by assumption⟩]; first | (rw [sel_t (by assumption)]; exact h0_) | (rw [sel_f (by assumption), sel_t (by assumption)]; exact h1_) | (rw [sel_f (by assumption), sel_f (by assumption)]; exact h2_)), hX⟩
    · refine r_const C dX2_best_20 ?_
      exact r_iret C hS (Nat.le_of_ble_eq_true rfl) (Nat.le_of_ble_eq_true rfl) dX2_best_21 ⟨(F 7), (F 33), (F 36), (F 40), (F 41), (F 42), (M 3), (M 8), (M 9), (M 10), (M 11), (M 34), (M 35), (M 37), (M 38), (M 39), (fun q => by first | exact absurd q.1 (by assumption) | exact absurd q.2 (by assumption)), (by first | exact Eq.symm (sel_f (fun q => absurd q.1 (by assumption))) | exact Eq.symm (sel_f (fun q => absurd q.2 (by assumption)))), (hX.to (((((((up_id F (k := 7) (a := (F 7)) rfl).symm.trans rfl).trans ((up_id (va_up F 7 (F 7)) (k := 33) (a := (F 33)) rfl).symm.trans rfl)).trans ((up_id (va_up (va_up F 7 (F 7)) 33 (F 33)) (k := 36) (a := (F 36)) rfl).symm.trans rfl)).trans ((up_id (va_up (va_up (va_up F 7 (F 7)) 33 (F 33)) 36 (F 36)) (k := 40) (a := (F 40)) rfl).symm.trans rfl)).trans ((up_id (va_up (va_up (va_up (va_up F 7 (F 7)) 33 (F 33)) 36 (F 36)) 40 (F 40)) (k := 41) (a := (F 41)) rfl).symm.trans rfl)).trans ((up_id (va_up (va_up (va_up (va_up (va_up F 7 (F 7)) 33 (F 33)) 36 (F 36)) 40 (F 40)) 41 (F 41)) (k := 42) (a := (F 42)) rfl).symm.trans rfl)) (((((((((((up_id M (k := 3) (a := (M 3)) rfl).symm.trans rfl).trans ((up_id (va_up M 3 (M 3)) (k := 8) (a := (M 8)) rfl).symm.trans rfl)).trans ((up_id (va_up (va_up M 3 (M 3)) 8 (M 8)) (k := 9) (a := (M 9)) rfl).symm.trans rfl)).trans ((up_id (va_up (va_up (va_up M 3 (M 3)) 8 (M 8)) 9 (M 9)) (k := 10) (a := (M 10)) rfl).symm.trans rfl)).trans ((up_id (va_up (va_up (va_up (va_up M 3 (M 3)) 8 (M 8)) 9 (M 9)) 10 (M 10)) (k := 11) (a := (M 11)) rfl).symm.trans rfl)).trans ((up_id (va_up (va_up (va_up (va_up (va_up M 3 (M 3)) 8 (M 8)) 9 (M 9)) 10 (M 10)) 11 (M 11)) (k := 34) (a := (M 34)) rfl).symm.trans rfl)).trans ((up_id (va_up (va_up (va_up (va_up (va_up (va_up M 3 (M 3)) 8 (M 8)) 9 (M 9)) 10 (M 10)) 11 (M 11)) 34 (M 34)) (k := 35) (a := (M 35)) rfl).symm.trans rfl)).trans ((up_id (va_up (va_up (va_up (va_up (va_up (va_up (va_up M 3 (M 3)) 8 (M 8)) 9 (M 9)) 10 (M 10)) 11 (M 11)) 34 (M 34)) 35 (M 35)) (k := 37) (a := (M 37)) rfl).symm.trans rfl)).trans ((up_id (va_up (va_up (va_up (va_up (va_up (va_up (va_up (va_up M 3 (M 3)) 8 (M 8)) 9 (M 9)) 10 (M 10)) 11 (M 11)) 34 (M 34)) 35 (M 35)) 37 (M 37)) (k := 38) (a := (M 38)) rfl).symm.trans rfl)).trans ((up_id (va_up (va_up (va_up (va_up (va_up (va_up (va_up (va_up (va_up M 3 (M 3)) 8 (M 8)) 9 (M 9)) 10 (M 10)) 11 (M 11)) 34 (M 34)) 35 (M 35)) 37 (M 37)) 38 (M 38)) (k := 39) (a := (M 39)) rfl).symm.trans rfl)))⟩

theorem hd_X2_goesOn : yX2_goesOn.cls = RX2 ∧ yX2_goesOn.cls ≠ "java/lang/invoke/MethodHandle" ∧ yX2_goesOn.cls ≠ "java/lang/invoke/VarHandle" ∧ (parseMethodDescriptor yX2_goesOn.desc).map (fun d => d.parameters.length) = some 0 := by decide +kernel
abbrev rm_X2_goesOn : Room := { frames := 0, cells := 0, slots := 0, locals := 0 }
set_option maxHeartbeats 8000000 in
theorem met_X2_goesOn (l : Launch) (E : us_E) (A : Nat → Prop) (ad : Nat → Nat) (F : Nat → Int) (M : Nat → Int → Int) : cMet l yX2_goesOn cX2_goesOn 6 (some .boolean) rm_X2_goesOn A E [.ref (ad 63)] (fun H => MH E A ad F M H) (qi A (fun r H => ∃ m43 : Int → Int, ((r = 1 ∧ GoYes (M 43) (F 33) m43) ∨ (r = 0 ∧ GoNo (M 43) (F 33) ∧ m43 = M 43)) ∧ MH E A ad F (va_up M 43 m43) H)) := by
  refine cMet.of (by decide) (Nat.le_of_ble_eq_true rfl) (fun p e s m args below meth c C hnm hX hS ls hl => ?_)
  have C : Cx p s m args meth c A RX2 cX2_goesOn 6 (some .boolean) E := C
  have hX : MH E A ad F M s.heap := hX
  have hl : lv_has ls 6 [(0, .ref (ad 63))] := hl
  generalize hH : s.heap = H at hX
  have hS : va_S A s.heap H [] := by rw [← hH]; exact hS
  generalize hlocs : ([] : List Loc) = locs at hS ⊢
  have rF33 : 0 ≤ F 33 ∧ F 33 ≤ 6 := hX.2.1 33 (0, 6) rfl
  have h43 : ∀ k, 0 ≤ M 43 k ∧ M 43 k ≤ 5 := fun k => hX.2.2 43 (0, 5) rfl k
  refine lv_aload_n C.x C.b dX2_goesOn_0 rfl (lv_at hl 0 rfl) ?_
  refine mg_33 C hX (F 33) rfl dX2_goesOn_1 (fun _ => ?_)
  refine r_const C dX2_goesOn_4 ?_
  refine r_isub C dX2_goesOn_5 ?_
  refine lv_istore_n (lv' := [(1, .int (zi ((F 33) - 2))), (0, .ref (ad 63))]) C.x C.b dX2_goesOn_6 rfl hl (by decide) rfl (fun ls hl => ?_)
  have L7 : ∀ (fu : Nat) (v1 : Int) (h1 : -2 ≤ v1 ∧ v1 ≤ F 33 - 2) (hd : ∀ k : Int, 0 ≤ k → v1 < k → k + 1 < F 33 → M 43 (k + 1) < M 43 k) (hm : Int.toNat (v1 + 2) < fu) (H : Heap) (locs : List Loc) (ls : Array Slot) (hX : MH E A ad F M H) (hS : va_S A s.heap H locs) (hl : lv_has ls 6 [(0, .ref (ad 63)), (1, .int (zi v1))]), W p l e rm_X2_goesOn s m args below meth c H locs 0 0 (MQ below (qi A (fun r H => ∃ m43 : Int → Int, ((r = 1 ∧ GoYes (M 43) (F 33) m43) ∨ (r = 0 ∧ GoNo (M 43) (F 33) ∧ m43 = M 43)) ∧ MH E A ad F (va_up M 43 m43) H)) args s (rm_X2_goesOn).cells (rm_X2_goesOn).slots A) (F0 m 7 ls []) := by
    intro fu
    induction fu with
    | zero => intro v1 h1 hd hm; exact absurd hm (Nat.not_lt_zero _)
    | succ fu ih7 =>
      intro v1 h1 hd hm H locs ls hX hS hl
      refine lv_iload_n C.x C.b dX2_goesOn_7 rfl (lv_at hl 1 rfl) ?_
      refine r_if_lt (tgt := 34) C (by omega) dX2_goesOn_8 (by decide) (fun c_1 => ?_) (fun c_1 => ?_)
      · refine lv_iload_n C.x C.b dX2_goesOn_34 rfl (lv_at hl 1 rfl) ?_
        refine r_if_ge (tgt := 40) C (by omega) dX2_goesOn_35 (by decide) (fun c_2 => ?_) (fun c_2 => ?_)
        · have hv1 : 0 ≤ v1 ∧ v1 + 1 < F 33 := by omega
          have hle : ¬ M 43 (v1 + 1) < M 43 v1 := by omega
          refine lv_aload_n C.x C.b dX2_goesOn_40 rfl (lv_at hl 0 rfl) ?_
          refine mg_33 C hX (F 33) rfl dX2_goesOn_41 (fun _ => ?_)
          refine r_const C dX2_goesOn_44 ?_
          refine r_isub C dX2_goesOn_45 ?_
          refine lv_istore_n (lv' := [(2, .int (zi ((F 33) - 1))), (0, .ref (ad 63)), (1, .int (zi v1))]) C.x C.b dX2_goesOn_46 rfl hl (by decide) rfl (fun ls hl => ?_)
          have L47 : ∀ (fu : Nat) (v2 : Int) (h2 : v1 ≤ v2 ∧ v2 ≤ F 33 - 1) (he : ∀ k : Int, v2 < k → k < F 33 → M 43 k < M 43 v1) (hm : Int.toNat (v2) < fu) (H : Heap) (locs : List Loc) (ls : Array Slot) (hX : MH E A ad F M H) (hS : va_S A s.heap H locs) (hl : lv_has ls 6 [(0, .ref (ad 63)), (1, .int (zi v1)), (2, .int (zi v2))]), W p l e rm_X2_goesOn s m args below meth c H locs 0 0 (MQ below (qi A (fun r H => ∃ m43 : Int → Int, ((r = 1 ∧ GoYes (M 43) (F 33) m43) ∨ (r = 0 ∧ GoNo (M 43) (F 33) ∧ m43 = M 43)) ∧ MH E A ad F (va_up M 43 m43) H)) args s (rm_X2_goesOn).cells (rm_X2_goesOn).slots A) (F0 m 47 ls []) := by
            intro fu
            induction fu with
            | zero => intro v2 h2 he hm; exact absurd hm (Nat.not_lt_zero _)
            | succ fu ih47 =>
              intro v2 h2 he hm H locs ls hX hS hl
              have h43a := h43 v1
              have h43b := h43 v2
              refine lv_aload_n C.x C.b dX2_goesOn_47 rfl (lv_at hl 0 rfl) ?_
              refine mg_43 C hX dX2_goesOn_48 ?_
              refine lv_iload_n C.x C.b dX2_goesOn_51 rfl (lv_at hl 2 rfl) ?_
              refine ml_43 C hX (by omega) (M 43) rfl dX2_goesOn_52 (fun r52 => ?_)
              refine lv_aload_n C.x C.b dX2_goesOn_53 rfl (lv_at hl 0 rfl) ?_
              refine mg_43 C hX dX2_goesOn_54 ?_
              refine lv_iload_n C.x C.b dX2_goesOn_57 rfl (lv_at hl 1 rfl) ?_
              refine ml_43 C hX (by omega) (M 43) rfl dX2_goesOn_58 (fun r58 => ?_)
              refine r_icmp_ge (tgt := 68) C (by omega) (by omega) dX2_goesOn_59 (by decide) (fun c_3 => ?_) (fun c_3 => ?_)
              · have hnl : ¬ M 43 v2 < M 43 v1 := by omega
                have h43c := h43 (v1 + 1)
                refine lv_aload_n C.x C.b dX2_goesOn_68 rfl (lv_at hl 0 rfl) ?_
                refine mg_43 C hX dX2_goesOn_69 ?_
                refine lv_iload_n C.x C.b dX2_goesOn_72 rfl (lv_at hl 1 rfl) ?_
                refine ml_43 C hX (by omega) (M 43) rfl dX2_goesOn_73 (fun _ => ?_)
                refine lv_istore_n (lv' := [(3, .int (zi (M 43 v1))), (0, .ref (ad 63)), (1, .int (zi v1)), (2, .int (zi v2))]) C.x C.b dX2_goesOn_74 rfl hl (by decide) rfl (fun ls hl => ?_)
                refine lv_aload_n C.x C.b dX2_goesOn_75 rfl (lv_at hl 1 rfl) ?_
                refine mg_43 C hX dX2_goesOn_76 ?_
                refine lv_iload_n C.x C.b dX2_goesOn_79 rfl (lv_at hl 2 rfl) ?_
                refine lv_aload_n C.x C.b dX2_goesOn_80 rfl (lv_at hl 1 rfl) ?_
                refine mg_43 C hX dX2_goesOn_81 ?_
                refine lv_iload_n C.x C.b dX2_goesOn_84 rfl (lv_at hl 3 rfl) ?_
                refine ml_43 C hX (by omega) (M 43) rfl dX2_goesOn_85 (fun _ => ?_)
                refine ms_43 C hX hS (by omega) (by omega) (M 43) rfl (M' := (va_up M 43 (fup (M 43) v1 (M 43 v2)))) rfl dX2_goesOn_86 (fun H locs hX hS => ?_)
                refine lv_aload_n C.x C.b dX2_goesOn_87 rfl (lv_at hl 1 rfl) ?_
                refine mg_43 C hX dX2_goesOn_88 ?_
                refine lv_iload_n C.x C.b dX2_goesOn_91 rfl (lv_at hl 3 rfl) ?_
                refine lv_iload_n C.x C.b dX2_goesOn_92 rfl (lv_at hl 0 rfl) ?_
                refine ms_43 C hX hS (by omega) (by omega) (fup (M 43) v1 (M 43 v2)) rfl (M' := (va_up M 43 (fup (fup (M 43) v1 (M 43 v2)) v2 (M 43 v1)))) (up_up _ _ _ _) dX2_goesOn_93 (fun H locs hX hS => ?_)
                refine lv_iload_n C.x C.b dX2_goesOn_94 rfl (lv_at hl 2 rfl) ?_
                refine r_const C dX2_goesOn_95 ?_
                refine r_iadd C dX2_goesOn_96 ?_
                refine lv_istore (lv' := [(4, .int (zi (v1 + 1))), (3, .int (zi (M 43 v1))), (0, .ref (ad 63)), (1, .int (zi v1)), (2, .int (zi v2))]) C.x C.b dX2_goesOn_97 hl (by decide) rfl (fun ls hl => ?_)
                refine lv_aload_n C.x C.b dX2_goesOn_99 rfl (lv_at hl 2 rfl) ?_
                refine mg_33 C hX (F 33) rfl dX2_goesOn_100 (fun _ => ?_)
                refine r_const C dX2_goesOn_103 ?_
                refine r_isub C dX2_goesOn_104 ?_
                refine lv_istore (lv' := [(5, .int (zi ((F 33) - 1))), (4, .int (zi (v1 + 1))), (3, .int (zi (M 43 v1))), (0, .ref (ad 63)), (1, .int (zi v1)), (2, .int (zi v2))]) C.x C.b dX2_goesOn_105 hl (by decide) rfl (fun ls hl => ?_)
                have L107 : ∀ (fu : Nat) (v3 : Int) (v4 : Int) (v5 : Int) (m43_107 : Int → Int) (h45 : v1 + 1 ≤ v4 ∧ v4 + v5 = F 33 + v1 ∧ v5 < F 33 ∧ v4 ≤ v5 + 2) (hR : Rv (sW (M 43) v1 v2) m43_107 (F 33) v1 v4 v5) (hm : Int.toNat (v5 - v4 + 2) < fu) (H : Heap) (locs : List Loc) (ls : Array Slot) (hX : MH E A ad F (va_up M 43 m43_107) H) (hS : va_S A s.heap H locs) (hl : lv_has ls 6 [(0, .ref (ad 63)), (1, .int (zi v1)), (2, .int (zi v2)), (3, .int (zi v3)), (4, .int (zi v4)), (5, .int (zi v5))]), W p l e rm_X2_goesOn s m args below meth c H locs 0 0 (MQ below (qi A (fun r H => ∃ m43 : Int → Int, ((r = 1 ∧ GoYes (M 43) (F 33) m43) ∨ (r = 0 ∧ GoNo (M 43) (F 33) ∧ m43 = M 43)) ∧ MH E A ad F (va_up M 43 m43) H)) args s (rm_X2_goesOn).cells (rm_X2_goesOn).slots A) (F0 m 107 ls []) := by
                  intro fu
                  induction fu with
                  | zero => intro v3 v4 v5 m43_107 h45 hR hm; exact absurd hm (Nat.not_lt_zero _)
                  | succ fu ih107 =>
                    intro v3 v4 v5 m43_107 h45 hR hm H locs ls hX hS hl
                    refine lv_iload C.x C.b dX2_goesOn_107 (lv_at hl 4 rfl) ?_
                    refine lv_iload C.x C.b dX2_goesOn_109 (lv_at hl 5 rfl) ?_
                    refine r_icmp_ge (tgt := 153) C (by omega) (by omega) dX2_goesOn_111 (by decide) (fun c_4 => ?_) (fun c_4 => ?_)
                    · refine r_const C dX2_goesOn_153 ?_
                      exact r_zret C (by omega) hS (Nat.le_of_ble_eq_true rfl) (Nat.le_of_ble_eq_true rfl) dX2_goesOn_154 ⟨m43_107, (Or.inl ⟨rfl, v1, v2, by omega, by omega, by omega, fun k a b => hd k (by omega) a b, by omega, by omega, by omega, he, fun k a b => hR.fin (by omega) (by omega) a b⟩), hX⟩
                    · have q4 : 0 ≤ m43_107 v4 ∧ m43_107 v4 ≤ 5 := hX.2.2 43 (0, 5) rfl v4
                      have q5 : 0 ≤ m43_107 v5 ∧ m43_107 v5 ≤ 5 := hX.2.2 43 (0, 5) rfl v5
                      refine lv_aload_n C.x C.b dX2_goesOn_114 rfl (lv_at hl 0 rfl) ?_
                      refine mg_43 C hX dX2_goesOn_115 ?_
                      refine lv_iload C.x C.b dX2_goesOn_118 (lv_at hl 4 rfl) ?_
                      refine ml_43 C hX (by omega) m43_107 rfl dX2_goesOn_120 (fun r120 => ?_)
                      refine lv_istore_n (lv' := [(3, .int (zi (m43_107 v4))), (0, .ref (ad 63)), (1, .int (zi v1)), (2, .int (zi v2)), (4, .int (zi v4)), (5, .int (zi v5))]) C.x C.b dX2_goesOn_121 rfl hl (by decide) rfl (fun ls hl => ?_)
                      refine lv_aload_n C.x C.b dX2_goesOn_122 rfl (lv_at hl 1 rfl) ?_
                      refine mg_43 C hX dX2_goesOn_123 ?_
                      refine lv_iload C.x C.b dX2_goesOn_126 (lv_at hl 4 rfl) ?_
                      refine lv_aload_n C.x C.b dX2_goesOn_128 rfl (lv_at hl 1 rfl) ?_
                      refine mg_43 C hX dX2_goesOn_129 ?_
                      refine lv_iload C.x C.b dX2_goesOn_132 (lv_at hl 5 rfl) ?_
                      refine ml_43 C hX (by omega) m43_107 rfl dX2_goesOn_134 (fun r134 => ?_)
                      refine ms_43 C hX hS (by omega) (by omega) m43_107 rfl (M' := (va_up M 43 (fup m43_107 v4 (m43_107 v5)))) (up_up _ _ _ _) dX2_goesOn_135 (fun H locs hX hS => ?_)
                      refine lv_aload_n C.x C.b dX2_goesOn_136 rfl (lv_at hl 1 rfl) ?_
                      refine mg_43 C hX dX2_goesOn_137 ?_
                      refine lv_iload C.x C.b dX2_goesOn_140 (lv_at hl 5 rfl) ?_
                      refine lv_iload_n C.x C.b dX2_goesOn_142 rfl (lv_at hl 0 rfl) ?_
                      refine ms_43 C hX hS (by omega) (by omega) (fup m43_107 v4 (m43_107 v5)) rfl (M' := (va_up M 43 (fup (fup m43_107 v4 (m43_107 v5)) v5 (m43_107 v4)))) (up_up _ _ _ _) dX2_goesOn_143 (fun H locs hX hS => ?_)
                      refine r_iinc (lv' := [(4, .int (zi (v4 + 1))), (3, .int (zi (m43_107 v4))), (0, .ref (ad 63)), (1, .int (zi v1)), (2, .int (zi v2)), (5, .int (zi v5))]) C dX2_goesOn_144 hl (k := 4) rfl (by decide) rfl (fun ls hl => ?_)
                      refine r_iinc (lv' := [(5, .int (zi (v5 + (-1)))), (4, .int (zi (v4 + 1))), (3, .int (zi (m43_107 v4))), (0, .ref (ad 63)), (1, .int (zi v1)), (2, .int (zi v2))]) C dX2_goesOn_147 hl (k := 5) rfl (by decide) rfl (fun ls hl => ?_)
                      refine lv_goto (tgt := 107) C.x C.b dX2_goesOn_150 (by decide) ?_
                      exact ih107 (m43_107 v4) (v4 + 1) (v5 + (-1)) (fup (fup m43_107 v4 (m43_107 v5)) v5 (m43_107 v4)) (by omega) (hR.st (by omega) (by omega) (by omega) (by omega) (by omega)) (by omega) H locs ls hX hS (lv_sub hl [3, 4, 5, 2, 1, 0] rfl)
                exact L107 _ (M 43 v1) (v1 + 1) ((F 33) - 1) (fup (fup (M 43) v1 (M 43 v2)) v2 (M 43 v1)) (by omega) (fun k a b => ⟨fun z => absurd z (by omega), fun _ => rfl⟩) (Nat.lt_succ_self _) H locs ls hX hS (lv_sub hl [3, 4, 5, 2, 1, 0] rfl)
              · have hlt : M 43 v2 < M 43 v1 := by omega
                have hne : ¬ v2 = v1 := fun z => (by rw [z] at hlt; omega)
                refine r_iinc (lv' := [(2, .int (zi (v2 + (-1)))), (0, .ref (ad 63)), (1, .int (zi v1))]) C dX2_goesOn_62 hl (k := 2) rfl (by decide) rfl (fun ls hl => ?_)
                refine lv_goto (tgt := 47) C.x C.b dX2_goesOn_65 (by decide) ?_
                exact ih47 (v2 + (-1)) (by have : ¬ v2 = v1 := fun z => (by rw [z] at hlt; omega); omega) (fun k a b => by rcases Int.lt_or_le v2 k with w | w; exact he k w b; exact (show v2 = k by omega) ▸ (show M 43 v2 < M 43 v1 by omega)) (by omega) H locs ls hX hS (lv_sub hl [1, 2, 0] rfl)
          exact L47 _ ((F 33) - 1) (by omega) (fun k a b => absurd a (by omega)) (Nat.lt_succ_self _) H locs ls hX hS (lv_sub hl [1, 2, 0] rfl)
        · refine r_const C dX2_goesOn_38 ?_
          exact r_zret C (by omega) hS (Nat.le_of_ble_eq_true rfl) (Nat.le_of_ble_eq_true rfl) dX2_goesOn_39 ⟨(M 43), (Or.inr ⟨rfl, fun k a b => hd k a (by omega) b, rfl⟩), (hX.to rfl ((up_id M (k := 43) (a := (M 43)) rfl).symm.trans rfl))⟩
      · have h43a := h43 v1
        have h43b := h43 (v1 + 1)
        refine lv_aload_n C.x C.b dX2_goesOn_11 rfl (lv_at hl 0 rfl) ?_
        refine mg_43 C hX dX2_goesOn_12 ?_
        refine lv_iload_n C.x C.b dX2_goesOn_15 rfl (lv_at hl 1 rfl) ?_
        refine ml_43 C hX (by omega) (M 43) rfl dX2_goesOn_16 (fun r16 => ?_)
        refine lv_aload_n C.x C.b dX2_goesOn_17 rfl (lv_at hl 0 rfl) ?_
        refine mg_43 C hX dX2_goesOn_18 ?_
        refine lv_iload_n C.x C.b dX2_goesOn_21 rfl (lv_at hl 1 rfl) ?_
        refine r_const C dX2_goesOn_22 ?_
        refine r_iadd C dX2_goesOn_23 ?_
        refine ml_43 C hX (by omega) (M 43) rfl dX2_goesOn_24 (fun r24 => ?_)
        refine r_icmp_le (tgt := 34) C (by omega) (by omega) dX2_goesOn_25 (by decide) (fun c_5 => ?_) (fun c_5 => ?_)
        · refine lv_iload_n C.x C.b dX2_goesOn_34 rfl (lv_at hl 1 rfl) ?_
          refine r_if_ge (tgt := 40) C (by omega) dX2_goesOn_35 (by decide) (fun c_6 => ?_) (fun c_6 => ?_)
          · have hv1 : 0 ≤ v1 ∧ v1 + 1 < F 33 := by omega
            have hle : ¬ M 43 (v1 + 1) < M 43 v1 := by omega
            refine lv_aload_n C.x C.b dX2_goesOn_40 rfl (lv_at hl 0 rfl) ?_
            refine mg_33 C hX (F 33) rfl dX2_goesOn_41 (fun _ => ?_)
            refine r_const C dX2_goesOn_44 ?_
            refine r_isub C dX2_goesOn_45 ?_
            refine lv_istore_n (lv' := [(2, .int (zi ((F 33) - 1))), (0, .ref (ad 63)), (1, .int (zi v1))]) C.x C.b dX2_goesOn_46 rfl hl (by decide) rfl (fun ls hl => ?_)
            have L47 : ∀ (fu : Nat) (v2 : Int) (h2 : v1 ≤ v2 ∧ v2 ≤ F 33 - 1) (he : ∀ k : Int, v2 < k → k < F 33 → M 43 k < M 43 v1) (hm : Int.toNat (v2) < fu) (H : Heap) (locs : List Loc) (ls : Array Slot) (hX : MH E A ad F M H) (hS : va_S A s.heap H locs) (hl : lv_has ls 6 [(0, .ref (ad 63)), (1, .int (zi v1)), (2, .int (zi v2))]), W p l e rm_X2_goesOn s m args below meth c H locs 0 0 (MQ below (qi A (fun r H => ∃ m43 : Int → Int, ((r = 1 ∧ GoYes (M 43) (F 33) m43) ∨ (r = 0 ∧ GoNo (M 43) (F 33) ∧ m43 = M 43)) ∧ MH E A ad F (va_up M 43 m43) H)) args s (rm_X2_goesOn).cells (rm_X2_goesOn).slots A) (F0 m 47 ls []) := by
              intro fu
              induction fu with
              | zero => intro v2 h2 he hm; exact absurd hm (Nat.not_lt_zero _)
              | succ fu ih47 =>
                intro v2 h2 he hm H locs ls hX hS hl
                have h43a := h43 v1
                have h43b := h43 v2
                refine lv_aload_n C.x C.b dX2_goesOn_47 rfl (lv_at hl 0 rfl) ?_
                refine mg_43 C hX dX2_goesOn_48 ?_
                refine lv_iload_n C.x C.b dX2_goesOn_51 rfl (lv_at hl 2 rfl) ?_
                refine ml_43 C hX (by omega) (M 43) rfl dX2_goesOn_52 (fun r52 => ?_)
                refine lv_aload_n C.x C.b dX2_goesOn_53 rfl (lv_at hl 0 rfl) ?_
                refine mg_43 C hX dX2_goesOn_54 ?_
                refine lv_iload_n C.x C.b dX2_goesOn_57 rfl (lv_at hl 1 rfl) ?_
                refine ml_43 C hX (by omega) (M 43) rfl dX2_goesOn_58 (fun _ => ?_)
                refine r_icmp_ge (tgt := 68) C (by omega) (by omega) dX2_goesOn_59 (by decide) (fun c_7 => ?_) (fun c_7 => ?_)
                · have hnl : ¬ M 43 v2 < M 43 v1 := by omega
                  have h43c := h43 (v1 + 1)
                  refine lv_aload_n C.x C.b dX2_goesOn_68 rfl (lv_at hl 0 rfl) ?_
                  refine mg_43 C hX dX2_goesOn_69 ?_
                  refine lv_iload_n C.x C.b dX2_goesOn_72 rfl (lv_at hl 1 rfl) ?_
                  refine ml_43 C hX (by omega) (M 43) rfl dX2_goesOn_73 (fun _ => ?_)
                  refine lv_istore_n (lv' := [(3, .int (zi (M 43 v1))), (0, .ref (ad 63)), (1, .int (zi v1)), (2, .int (zi v2))]) C.x C.b dX2_goesOn_74 rfl hl (by decide) rfl (fun ls hl => ?_)
                  refine lv_aload_n C.x C.b dX2_goesOn_75 rfl (lv_at hl 1 rfl) ?_
                  refine mg_43 C hX dX2_goesOn_76 ?_
                  refine lv_iload_n C.x C.b dX2_goesOn_79 rfl (lv_at hl 2 rfl) ?_
                  refine lv_aload_n C.x C.b dX2_goesOn_80 rfl (lv_at hl 1 rfl) ?_
                  refine mg_43 C hX dX2_goesOn_81 ?_
                  refine lv_iload_n C.x C.b dX2_goesOn_84 rfl (lv_at hl 3 rfl) ?_
                  refine ml_43 C hX (by omega) (M 43) rfl dX2_goesOn_85 (fun _ => ?_)
                  refine ms_43 C hX hS (by omega) (by omega) (M 43) rfl (M' := (va_up M 43 (fup (M 43) v1 (M 43 v2)))) rfl dX2_goesOn_86 (fun H locs hX hS => ?_)
                  refine lv_aload_n C.x C.b dX2_goesOn_87 rfl (lv_at hl 1 rfl) ?_
                  refine mg_43 C hX dX2_goesOn_88 ?_
                  refine lv_iload_n C.x C.b dX2_goesOn_91 rfl (lv_at hl 3 rfl) ?_
                  refine lv_iload_n C.x C.b dX2_goesOn_92 rfl (lv_at hl 0 rfl) ?_
                  refine ms_43 C hX hS (by omega) (by omega) (fup (M 43) v1 (M 43 v2)) rfl (M' := (va_up M 43 (fup (fup (M 43) v1 (M 43 v2)) v2 (M 43 v1)))) (up_up _ _ _ _) dX2_goesOn_93 (fun H locs hX hS => ?_)
                  refine lv_iload_n C.x C.b dX2_goesOn_94 rfl (lv_at hl 2 rfl) ?_
                  refine r_const C dX2_goesOn_95 ?_
                  refine r_iadd C dX2_goesOn_96 ?_
                  refine lv_istore (lv' := [(4, .int (zi (v1 + 1))), (3, .int (zi (M 43 v1))), (0, .ref (ad 63)), (1, .int (zi v1)), (2, .int (zi v2))]) C.x C.b dX2_goesOn_97 hl (by decide) rfl (fun ls hl => ?_)
                  refine lv_aload_n C.x C.b dX2_goesOn_99 rfl (lv_at hl 2 rfl) ?_
                  refine mg_33 C hX (F 33) rfl dX2_goesOn_100 (fun _ => ?_)
                  refine r_const C dX2_goesOn_103 ?_
                  refine r_isub C dX2_goesOn_104 ?_
                  refine lv_istore (lv' := [(5, .int (zi ((F 33) - 1))), (4, .int (zi (v1 + 1))), (3, .int (zi (M 43 v1))), (0, .ref (ad 63)), (1, .int (zi v1)), (2, .int (zi v2))]) C.x C.b dX2_goesOn_105 hl (by decide) rfl (fun ls hl => ?_)
                  have L107 : ∀ (fu : Nat) (v3 : Int) (v4 : Int) (v5 : Int) (m43_107 : Int → Int) (h45 : v1 + 1 ≤ v4 ∧ v4 + v5 = F 33 + v1 ∧ v5 < F 33 ∧ v4 ≤ v5 + 2) (hR : Rv (sW (M 43) v1 v2) m43_107 (F 33) v1 v4 v5) (hm : Int.toNat (v5 - v4 + 2) < fu) (H : Heap) (locs : List Loc) (ls : Array Slot) (hX : MH E A ad F (va_up M 43 m43_107) H) (hS : va_S A s.heap H locs) (hl : lv_has ls 6 [(0, .ref (ad 63)), (1, .int (zi v1)), (2, .int (zi v2)), (3, .int (zi v3)), (4, .int (zi v4)), (5, .int (zi v5))]), W p l e rm_X2_goesOn s m args below meth c H locs 0 0 (MQ below (qi A (fun r H => ∃ m43 : Int → Int, ((r = 1 ∧ GoYes (M 43) (F 33) m43) ∨ (r = 0 ∧ GoNo (M 43) (F 33) ∧ m43 = M 43)) ∧ MH E A ad F (va_up M 43 m43) H)) args s (rm_X2_goesOn).cells (rm_X2_goesOn).slots A) (F0 m 107 ls []) := by
                    intro fu
                    induction fu with
                    | zero => intro v3 v4 v5 m43_107 h45 hR hm; exact absurd hm (Nat.not_lt_zero _)
                    | succ fu ih107 =>
                      intro v3 v4 v5 m43_107 h45 hR hm H locs ls hX hS hl
                      refine lv_iload C.x C.b dX2_goesOn_107 (lv_at hl 4 rfl) ?_
                      refine lv_iload C.x C.b dX2_goesOn_109 (lv_at hl 5 rfl) ?_
                      refine r_icmp_ge (tgt := 153) C (by omega) (by omega) dX2_goesOn_111 (by decide) (fun c_8 => ?_) (fun c_8 => ?_)
                      · refine r_const C dX2_goesOn_153 ?_
                        exact r_zret C (by omega) hS (Nat.le_of_ble_eq_true rfl) (Nat.le_of_ble_eq_true rfl) dX2_goesOn_154 ⟨m43_107, (Or.inl ⟨rfl, v1, v2, by omega, by omega, by omega, fun k a b => hd k (by omega) a b, by omega, by omega, by omega, he, fun k a b => hR.fin (by omega) (by omega) a b⟩), hX⟩
                      · have q4 : 0 ≤ m43_107 v4 ∧ m43_107 v4 ≤ 5 := hX.2.2 43 (0, 5) rfl v4
                        have q5 : 0 ≤ m43_107 v5 ∧ m43_107 v5 ≤ 5 := hX.2.2 43 (0, 5) rfl v5
                        refine lv_aload_n C.x C.b dX2_goesOn_114 rfl (lv_at hl 0 rfl) ?_
                        refine mg_43 C hX dX2_goesOn_115 ?_
                        refine lv_iload C.x C.b dX2_goesOn_118 (lv_at hl 4 rfl) ?_
                        refine ml_43 C hX (by omega) m43_107 rfl dX2_goesOn_120 (fun r120 => ?_)
                        refine lv_istore_n (lv' := [(3, .int (zi (m43_107 v4))), (0, .ref (ad 63)), (1, .int (zi v1)), (2, .int (zi v2)), (4, .int (zi v4)), (5, .int (zi v5))]) C.x C.b dX2_goesOn_121 rfl hl (by decide) rfl (fun ls hl => ?_)
                        refine lv_aload_n C.x C.b dX2_goesOn_122 rfl (lv_at hl 1 rfl) ?_
                        refine mg_43 C hX dX2_goesOn_123 ?_
                        refine lv_iload C.x C.b dX2_goesOn_126 (lv_at hl 4 rfl) ?_
                        refine lv_aload_n C.x C.b dX2_goesOn_128 rfl (lv_at hl 1 rfl) ?_
                        refine mg_43 C hX dX2_goesOn_129 ?_
                        refine lv_iload C.x C.b dX2_goesOn_132 (lv_at hl 5 rfl) ?_
                        refine ml_43 C hX (by omega) m43_107 rfl dX2_goesOn_134 (fun r134 => ?_)
                        refine ms_43 C hX hS (by omega) (by omega) m43_107 rfl (M' := (va_up M 43 (fup m43_107 v4 (m43_107 v5)))) (up_up _ _ _ _) dX2_goesOn_135 (fun H locs hX hS => ?_)
                        refine lv_aload_n C.x C.b dX2_goesOn_136 rfl (lv_at hl 1 rfl) ?_
                        refine mg_43 C hX dX2_goesOn_137 ?_
                        refine lv_iload C.x C.b dX2_goesOn_140 (lv_at hl 5 rfl) ?_
                        refine lv_iload_n C.x C.b dX2_goesOn_142 rfl (lv_at hl 0 rfl) ?_
                        refine ms_43 C hX hS (by omega) (by omega) (fup m43_107 v4 (m43_107 v5)) rfl (M' := (va_up M 43 (fup (fup m43_107 v4 (m43_107 v5)) v5 (m43_107 v4)))) (up_up _ _ _ _) dX2_goesOn_143 (fun H locs hX hS => ?_)
                        refine r_iinc (lv' := [(4, .int (zi (v4 + 1))), (3, .int (zi (m43_107 v4))), (0, .ref (ad 63)), (1, .int (zi v1)), (2, .int (zi v2)), (5, .int (zi v5))]) C dX2_goesOn_144 hl (k := 4) rfl (by decide) rfl (fun ls hl => ?_)
                        refine r_iinc (lv' := [(5, .int (zi (v5 + (-1)))), (4, .int (zi (v4 + 1))), (3, .int (zi (m43_107 v4))), (0, .ref (ad 63)), (1, .int (zi v1)), (2, .int (zi v2))]) C dX2_goesOn_147 hl (k := 5) rfl (by decide) rfl (fun ls hl => ?_)
                        refine lv_goto (tgt := 107) C.x C.b dX2_goesOn_150 (by decide) ?_
                        exact ih107 (m43_107 v4) (v4 + 1) (v5 + (-1)) (fup (fup m43_107 v4 (m43_107 v5)) v5 (m43_107 v4)) (by omega) (hR.st (by omega) (by omega) (by omega) (by omega) (by omega)) (by omega) H locs ls hX hS (lv_sub hl [3, 4, 5, 2, 1, 0] rfl)
                  exact L107 _ (M 43 v1) (v1 + 1) ((F 33) - 1) (fup (fup (M 43) v1 (M 43 v2)) v2 (M 43 v1)) (by omega) (fun k a b => ⟨fun z => absurd z (by omega), fun _ => rfl⟩) (Nat.lt_succ_self _) H locs ls hX hS (lv_sub hl [3, 4, 5, 2, 1, 0] rfl)
                · have hlt : M 43 v2 < M 43 v1 := by omega
                  have hne : ¬ v2 = v1 := fun z => (by rw [z] at hlt; omega)
                  refine r_iinc (lv' := [(2, .int (zi (v2 + (-1)))), (0, .ref (ad 63)), (1, .int (zi v1))]) C dX2_goesOn_62 hl (k := 2) rfl (by decide) rfl (fun ls hl => ?_)
                  refine lv_goto (tgt := 47) C.x C.b dX2_goesOn_65 (by decide) ?_
                  exact ih47 (v2 + (-1)) (by have : ¬ v2 = v1 := fun z => (by rw [z] at hlt; omega); omega) (fun k a b => by rcases Int.lt_or_le v2 k with w | w; exact he k w b; exact (show v2 = k by omega) ▸ (show M 43 v2 < M 43 v1 by omega)) (by omega) H locs ls hX hS (lv_sub hl [1, 2, 0] rfl)
            exact L47 _ ((F 33) - 1) (by omega) (fun k a b => absurd a (by omega)) (Nat.lt_succ_self _) H locs ls hX hS (lv_sub hl [1, 2, 0] rfl)
          · refine r_const C dX2_goesOn_38 ?_
            exact r_zret C (by omega) hS (Nat.le_of_ble_eq_true rfl) (Nat.le_of_ble_eq_true rfl) dX2_goesOn_39 ⟨(M 43), (Or.inr ⟨rfl, fun k a b => hd k a (by omega) b, rfl⟩), (hX.to rfl ((up_id M (k := 43) (a := (M 43)) rfl).symm.trans rfl))⟩
        · refine r_iinc (lv' := [(1, .int (zi (v1 + (-1)))), (0, .ref (ad 63))]) C dX2_goesOn_28 hl (k := 1) rfl (by decide) rfl (fun ls hl => ?_)
          refine lv_goto (tgt := 7) C.x C.b dX2_goesOn_31 (by decide) ?_
          exact ih7 (v1 + (-1)) (by omega) (fun k a b q => by rcases Int.lt_or_le v1 k with w | w; exact hd k a w q; exact (show v1 = k by omega) ▸ (show M 43 (v1 + 1) < M 43 v1 by omega)) (by omega) H locs ls hX hS (lv_sub hl [1, 0] rfl)
  exact L7 _ ((F 33) - 2) (by omega) (fun k a b c => absurd b (by omega)) (Nat.lt_succ_self _) H locs ls hX hS (lv_sub hl [1, 0] rfl)

theorem hd_X2_judge : yX2_judge.cls = RX2 ∧ yX2_judge.cls ≠ "java/lang/invoke/MethodHandle" ∧ yX2_judge.cls ≠ "java/lang/invoke/VarHandle" ∧ (parseMethodDescriptor yX2_judge.desc).map (fun d => d.parameters.length) = some 3 := by decide +kernel
abbrev rm_X2_judge : Room := { frames := 5, cells := 0, slots := 0, locals := 121 }
set_option maxHeartbeats 8000000 in
theorem met_X2_judge (l : Launch) (E : us_E) (A : Nat → Prop) (ad : Nat → Nat) (F : Nat → Int) (M : Nat → Int → Int) (t : Int) (u : Int) (w : Int) (ht : -2147483648 ≤ t ∧ t < 2147483648) (hu : -2147483648 ≤ u ∧ u < 2147483648) (hw : -2147483648 ≤ w ∧ w < 2147483648) : cMet l yX2_judge cX2_judge 10 (some .int) rm_X2_judge A E [.ref (ad 63), .int (zi t), .int (zi u), .int (zi w)] (fun H => MH E A ad F M H) (qi A (fun r H => ∃ f7 : Int, ∃ f33 : Int, ∃ f36 : Int, ∃ f40 : Int, ∃ f41 : Int, ∃ f42 : Int, ∃ m3 : Int → Int, ∃ m8 : Int → Int, ∃ m9 : Int → Int, ∃ m10 : Int → Int, ∃ m11 : Int → Int, ∃ m34 : Int → Int, ∃ m35 : Int → Int, ∃ m37 : Int → Int, ∃ m38 : Int → Int, ∃ m39 : Int → Int, ∃ m43 : Int → Int, ((((0 ≤ t ∧ t ≤ 1 * 2 ^ (F 4).toNat - 1) ∧ (0 ≤ u ∧ u ≤ 1 * 2 ^ (F 4).toNat - 1) ∧ nd t u = 0) ∧ (0 ≤ w ∧ w ≤ 2)) → SgOK (F 0) (M 1) (F 2) m3) ∧ (r = sel (((0 ≤ t ∧ t ≤ 1 * 2 ^ (F 4).toNat - 1) ∧ (0 ≤ u ∧ u ≤ 1 * 2 ^ (F 4).toNat - 1) ∧ nd t u = 0) ∧ (0 ≤ w ∧ w ≤ 2)) (sel (w = 0) ((fun sd => rdS m3 (mtc (M 6)) (M 5) (F 4) (tsp (F 0) m3 (cnt m3 (mtc (M 6)) (M 5) (F 4)) (tnum (F 0) m3 (cnt m3 (mtc (M 6)) (M 5) (F 4)))) (F 30) (M 31) (M 32) u sd) (snd (fBt (fun sd => rdS m3 (mtc (M 6)) (M 5) (F 4) (tsp (F 0) m3 (cnt m3 (mtc (M 6)) (M 5) (F 4)) (tnum (F 0) m3 (cnt m3 (mtc (M 6)) (M 5) (F 4)))) (F 30) (M 31) (M 32) t sd) (tnum (F 0) m3 (cnt m3 (mtc (M 6)) (M 5) (F 4)))))) (sel (w = 1) (jSm (fun sd => rdS m3 (mtc (M 6)) (M 5) (F 4) (tsp (F 0) m3 (cnt m3 (mtc (M 6)) (M 5) (F 4)) (tnum (F 0) m3 (cnt m3 (mtc (M 6)) (M 5) (F 4)))) (F 30) (M 31) (M 32) u sd) (fBt (fun sd => rdS m3 (mtc (M 6)) (M 5) (F 4) (tsp (F 0) m3 (cnt m3 (mtc (M 6)) (M 5) (F 4)) (tnum (F 0) m3 (cnt m3 (mtc (M 6)) (M 5) (F 4)))) (F 30) (M 31) (M 32) t sd) (tnum (F 0) m3 (cnt m3 (mtc (M 6)) (M 5) (F 4)))) (tnum (F 0) m3 (cnt m3 (mtc (M 6)) (M 5) (F 4))) ((fun sd => rdS m3 (mtc (M 6)) (M 5) (F 4) (tsp (F 0) m3 (cnt m3 (mtc (M 6)) (M 5) (F 4)) (tnum (F 0) m3 (cnt m3 (mtc (M 6)) (M 5) (F 4)))) (F 30) (M 31) (M 32) u sd) (snd (fBt (fun sd => rdS m3 (mtc (M 6)) (M 5) (F 4) (tsp (F 0) m3 (cnt m3 (mtc (M 6)) (M 5) (F 4)) (tnum (F 0) m3 (cnt m3 (mtc (M 6)) (M 5) (F 4)))) (F 30) (M 31) (M 32) t sd) (tnum (F 0) m3 (cnt m3 (mtc (M 6)) (M 5) (F 4)))))) (pLen (tnum (F 0) m3 (cnt m3 (mtc (M 6)) (M 5) (F 4))))) (pLen (tnum (F 0) m3 (cnt m3 (mtc (M 6)) (M 5) (F 4)))))) (-1)) ∧ MH E A ad (va_up (va_up (va_up (va_up (va_up (va_up F 7 f7) 33 f33) 36 f36) 40 f40) 41 f41) 42 f42) (va_up (va_up (va_up (va_up (va_up (va_up (va_up (va_up (va_up (va_up (va_up M 3 m3) 8 m8) 9 m9) 10 m10) 11 m11) 34 m34) 35 m35) 37 m37) 38 m38) 39 m39) 43 m43) H)) := by
  refine cMet.of (by decide) (Nat.le_of_ble_eq_true rfl) (fun p e s m args below meth c C hnm hX hS ls hl => ?_)
  have C : Cx p s m args meth c A RX2 cX2_judge 10 (some .int) E := C
  have hX : MH E A ad F M s.heap := hX
  have hl : lv_has ls 10 [(0, .ref (ad 63)), (1, .int (zi t)), (2, .int (zi u)), (3, .int (zi w))] := hl
  generalize hH : s.heap = H at hX
  have hS : va_S A s.heap H [] := by rw [← hH]; exact hS
  generalize hlocs : ([] : List Loc) = locs at hS ⊢
  have rF0 : 0 ≤ F 0 ∧ F 0 ≤ 24 := hX.2.1 0 (0, 24) rfl
  have rF2 : 0 ≤ F 2 ∧ F 2 ≤ 12 := hX.2.1 2 (0, 12) rfl
  have rF4 : 0 ≤ F 4 ∧ F 4 ≤ 8 := hX.2.1 4 (0, 8) rfl
  have rF7 : 0 ≤ F 7 ∧ F 7 ≤ 104 := hX.2.1 7 (0, 104) rfl
  have rF30 : 0 ≤ F 30 ∧ F 30 ≤ 12 := hX.2.1 30 (0, 12) rfl
  have rF33 : 0 ≤ F 33 ∧ F 33 ≤ 6 := hX.2.1 33 (0, 6) rfl
  have rF36 : 0 ≤ F 36 ∧ F 36 ≤ 104 := hX.2.1 36 (0, 104) rfl
  have rF40 : 0 ≤ F 40 ∧ F 40 ≤ 4095 := hX.2.1 40 (0, 4095) rfl
  have h24 : ∀ t, 0 ≤ M 5 t ∧ M 5 t ≤ 24 := fun t => hX.2.2 5 (0, 24) rfl t
  have hcl : ∀ q, -2 ≤ M 6 q ∧ M 6 q ≤ 23 := fun q => hX.2.2 6 (-2, 23) rfl q
  refine lv_aload_n C.x C.b dX2_judge_0 rfl (lv_at hl 0 rfl) ?_
  refine lv_iload_n C.x C.b dX2_judge_1 rfl (lv_at hl 1 rfl) ?_
  refine r_callVi (As := [.int (zi t)]) (rest := []) (cells' := 0) (slots' := 0) C (met_X2_areTexts l E A ad F M t (show -2147483648 ≤ t ∧ t < 2147483648 from (by omega))) (lw_V q1421 q1423 qs68 q88 q1424) hd_X2_areTexts rfl (by decide) (m_recv C hX) hX hS hl.1 rfl (Nat.le_of_ble_eq_true rfl) dX2_judge_2 rfl rfl ⟨Nat.le_of_ble_eq_true rfl, Nat.le_of_ble_eq_true rfl⟩ (fun rr H locs hp hS => ?_)
  obtain ⟨hrr, hX⟩ := hp
  have hrr : rr = bI (0 ≤ t ∧ t ≤ 1 * 2 ^ ((F 4)).toNat - 1) := hrr
  subst hrr
  refine r_if_eq_b (tgt := 34) C dX2_judge_5 (by decide) (fun c_1 => ?_) (fun c_1 => ?_)
  · refine r_const C dX2_judge_34 ?_
    exact r_iret C hS (Nat.le_of_ble_eq_true rfl) (Nat.le_of_ble_eq_true rfl) dX2_judge_35 ⟨(F 7), (F 33), (F 36), (F 40), (F 41), (F 42), (M 3), (M 8), (M 9), (M 10), (M 11), (M 34), (M 35), (M 37), (M 38), (M 39), (M 43), (fun q => by first | exact absurd q.1.1 (by assumption) | exact absurd q.1.2.1 (by assumption) | exact absurd q.1.2.2 (by assumption) | exact absurd q.2 (by assumption)), (by first | exact Eq.symm (sel_f (fun q => absurd q.1.1 (by assumption))) | exact Eq.symm (sel_f (fun q => absurd q.1.2.1 (by assumption))) | exact Eq.symm (sel_f (fun q => absurd q.1.2.2 (by assumption))) | exact Eq.symm (sel_f (fun q => absurd q.2 (by assumption)))), (hX.to (((((((up_id F (k := 7) (a := (F 7)) rfl).symm.trans rfl).trans ((up_id (va_up F 7 (F 7)) (k := 33) (a := (F 33)) rfl).symm.trans rfl)).trans ((up_id (va_up (va_up F 7 (F 7)) 33 (F 33)) (k := 36) (a := (F 36)) rfl).symm.trans rfl)).trans ((up_id (va_up (va_up (va_up F 7 (F 7)) 33 (F 33)) 36 (F 36)) (k := 40) (a := (F 40)) rfl).symm.trans rfl)).trans ((up_id (va_up (va_up (va_up (va_up F 7 (F 7)) 33 (F 33)) 36 (F 36)) 40 (F 40)) (k := 41) (a := (F 41)) rfl).symm.trans rfl)).trans ((up_id (va_up (va_up (va_up (va_up (va_up F 7 (F 7)) 33 (F 33)) 36 (F 36)) 40 (F 40)) 41 (F 41)) (k := 42) (a := (F 42)) rfl).symm.trans rfl)) ((((((((((((up_id M (k := 3) (a := (M 3)) rfl).symm.trans rfl).trans ((up_id (va_up M 3 (M 3)) (k := 8) (a := (M 8)) rfl).symm.trans rfl)).trans ((up_id (va_up (va_up M 3 (M 3)) 8 (M 8)) (k := 9) (a := (M 9)) rfl).symm.trans rfl)).trans ((up_id (va_up (va_up (va_up M 3 (M 3)) 8 (M 8)) 9 (M 9)) (k := 10) (a := (M 10)) rfl).symm.trans rfl)).trans ((up_id (va_up (va_up (va_up (va_up M 3 (M 3)) 8 (M 8)) 9 (M 9)) 10 (M 10)) (k := 11) (a := (M 11)) rfl).symm.trans rfl)).trans ((up_id (va_up (va_up (va_up (va_up (va_up M 3 (M 3)) 8 (M 8)) 9 (M 9)) 10 (M 10)) 11 (M 11)) (k := 34) (a := (M 34)) rfl).symm.trans rfl)).trans ((up_id (va_up (va_up (va_up (va_up (va_up (va_up M 3 (M 3)) 8 (M 8)) 9 (M 9)) 10 (M 10)) 11 (M 11)) 34 (M 34)) (k := 35) (a := (M 35)) rfl).symm.trans rfl)).trans ((up_id (va_up (va_up (va_up (va_up (va_up (va_up (va_up M 3 (M 3)) 8 (M 8)) 9 (M 9)) 10 (M 10)) 11 (M 11)) 34 (M 34)) 35 (M 35)) (k := 37) (a := (M 37)) rfl).symm.trans rfl)).trans ((up_id (va_up (va_up (va_up (va_up (va_up (va_up (va_up (va_up M 3 (M 3)) 8 (M 8)) 9 (M 9)) 10 (M 10)) 11 (M 11)) 34 (M 34)) 35 (M 35)) 37 (M 37)) (k := 38) (a := (M 38)) rfl).symm.trans rfl)).trans ((up_id (va_up (va_up (va_up (va_up (va_up (va_up (va_up (va_up (va_up M 3 (M 3)) 8 (M 8)) 9 (M 9)) 10 (M 10)) 11 (M 11)) 34 (M 34)) 35 (M 35)) 37 (M 37)) 38 (M 38)) (k := 39) (a := (M 39)) rfl).symm.trans rfl)).trans ((up_id (va_up (va_up (va_up (va_up (va_up (va_up (va_up (va_up (va_up (va_up M 3 (M 3)) 8 (M 8)) 9 (M 9)) 10 (M 10)) 11 (M 11)) 34 (M 34)) 35 (M 35)) 37 (M 37)) 38 (M 38)) 39 (M 39)) (k := 43) (a := (M 43)) rfl).symm.trans rfl)))⟩
  · refine lv_aload_n C.x C.b dX2_judge_8 rfl (lv_at hl 0 rfl) ?_
    refine lv_iload_n C.x C.b dX2_judge_9 rfl (lv_at hl 2 rfl) ?_
    refine r_callVi (As := [.int (zi u)]) (rest := []) (cells' := 0) (slots' := 0) C (met_X2_areTexts l E A ad F M u (show -2147483648 ≤ u ∧ u < 2147483648 from (by omega))) (lw_V q1421 q1423 qs68 q88 q1424) hd_X2_areTexts rfl (by decide) (m_recv C hX) hX hS hl.1 rfl (Nat.le_of_ble_eq_true rfl) dX2_judge_10 rfl rfl ⟨Nat.le_of_ble_eq_true rfl, Nat.le_of_ble_eq_true rfl⟩ (fun rr H locs hp hS => ?_)
    obtain ⟨hrr, hX⟩ := hp
    have hrr : rr = bI (0 ≤ u ∧ u ≤ 1 * 2 ^ ((F 4)).toNat - 1) := hrr
    subst hrr
    refine r_if_eq_b (tgt := 34) C dX2_judge_13 (by decide) (fun c_2 => ?_) (fun c_2 => ?_)
    · refine r_const C dX2_judge_34 ?_
      exact r_iret C hS (Nat.le_of_ble_eq_true rfl) (Nat.le_of_ble_eq_true rfl) dX2_judge_35 ⟨(F 7), (F 33), (F 36), (F 40), (F 41), (F 42), (M 3), (M 8), (M 9), (M 10), (M 11), (M 34), (M 35), (M 37), (M 38), (M 39), (M 43), (fun q => by first | exact absurd q.1.1 (by assumption) | exact absurd q.1.2.1 (by assumption) | exact absurd q.1.2.2 (by assumption) | exact absurd q.2 (by assumption)), (by first | exact Eq.symm (sel_f (fun q => absurd q.1.1 (by assumption))) | exact Eq.symm (sel_f (fun q => absurd q.1.2.1 (by assumption))) | exact Eq.symm (sel_f (fun q => absurd q.1.2.2 (by assumption))) | exact Eq.symm (sel_f (fun q => absurd q.2 (by assumption)))), (hX.to (((((((up_id F (k := 7) (a := (F 7)) rfl).symm.trans rfl).trans ((up_id (va_up F 7 (F 7)) (k := 33) (a := (F 33)) rfl).symm.trans rfl)).trans ((up_id (va_up (va_up F 7 (F 7)) 33 (F 33)) (k := 36) (a := (F 36)) rfl).symm.trans rfl)).trans ((up_id (va_up (va_up (va_up F 7 (F 7)) 33 (F 33)) 36 (F 36)) (k := 40) (a := (F 40)) rfl).symm.trans rfl)).trans ((up_id (va_up (va_up (va_up (va_up F 7 (F 7)) 33 (F 33)) 36 (F 36)) 40 (F 40)) (k := 41) (a := (F 41)) rfl).symm.trans rfl)).trans ((up_id (va_up (va_up (va_up (va_up (va_up F 7 (F 7)) 33 (F 33)) 36 (F 36)) 40 (F 40)) 41 (F 41)) (k := 42) (a := (F 42)) rfl).symm.trans rfl)) ((((((((((((up_id M (k := 3) (a := (M 3)) rfl).symm.trans rfl).trans ((up_id (va_up M 3 (M 3)) (k := 8) (a := (M 8)) rfl).symm.trans rfl)).trans ((up_id (va_up (va_up M 3 (M 3)) 8 (M 8)) (k := 9) (a := (M 9)) rfl).symm.trans rfl)).trans ((up_id (va_up (va_up (va_up M 3 (M 3)) 8 (M 8)) 9 (M 9)) (k := 10) (a := (M 10)) rfl).symm.trans rfl)).trans ((up_id (va_up (va_up (va_up (va_up M 3 (M 3)) 8 (M 8)) 9 (M 9)) 10 (M 10)) (k := 11) (a := (M 11)) rfl).symm.trans rfl)).trans ((up_id (va_up (va_up (va_up (va_up (va_up M 3 (M 3)) 8 (M 8)) 9 (M 9)) 10 (M 10)) 11 (M 11)) (k := 34) (a := (M 34)) rfl).symm.trans rfl)).trans ((up_id (va_up (va_up (va_up (va_up (va_up (va_up M 3 (M 3)) 8 (M 8)) 9 (M 9)) 10 (M 10)) 11 (M 11)) 34 (M 34)) (k := 35) (a := (M 35)) rfl).symm.trans rfl)).trans ((up_id (va_up (va_up (va_up (va_up (va_up (va_up (va_up M 3 (M 3)) 8 (M 8)) 9 (M 9)) 10 (M 10)) 11 (M 11)) 34 (M 34)) 35 (M 35)) (k := 37) (a := (M 37)) rfl).symm.trans rfl)).trans ((up_id (va_up (va_up (va_up (va_up (va_up (va_up (va_up (va_up M 3 (M 3)) 8 (M 8)) 9 (M 9)) 10 (M 10)) 11 (M 11)) 34 (M 34)) 35 (M 35)) 37 (M 37)) (k := 38) (a := (M 38)) rfl).symm.trans rfl)).trans ((up_id (va_up (va_up (va_up (va_up (va_up (va_up (va_up (va_up (va_up M 3 (M 3)) 8 (M 8)) 9 (M 9)) 10 (M 10)) 11 (M 11)) 34 (M 34)) 35 (M 35)) 37 (M 37)) 38 (M 38)) (k := 39) (a := (M 39)) rfl).symm.trans rfl)).trans ((up_id (va_up (va_up (va_up (va_up (va_up (va_up (va_up (va_up (va_up (va_up M 3 (M 3)) 8 (M 8)) 9 (M 9)) 10 (M 10)) 11 (M 11)) 34 (M 34)) 35 (M 35)) 37 (M 37)) 38 (M 38)) 39 (M 39)) (k := 43) (a := (M 43)) rfl).symm.trans rfl)))⟩
    · have hp12 := p2_12 (k := F 4) (by omega)
      refine lv_iload_n C.x C.b dX2_judge_16 rfl (lv_at hl 1 rfl) ?_
      refine lv_iload_n C.x C.b dX2_judge_17 rfl (lv_at hl 2 rfl) ?_
      have hndr := nd_r (x := t) (y := u) (by omega)
      refine r_iand (v := nd t u) C (zi_and (by omega) (by omega)) dX2_judge_18 ?_
      refine r_if_ne (tgt := 34) C (by omega) dX2_judge_19 (by decide) (fun c_3 => ?_) (fun c_3 => ?_)
      · refine r_const C dX2_judge_34 ?_
        exact r_iret C hS (Nat.le_of_ble_eq_true rfl) (Nat.le_of_ble_eq_true rfl) dX2_judge_35 ⟨(F 7), (F 33), (F 36), (F 40), (F 41), (F 42), (M 3), (M 8), (M 9), (M 10), (M 11), (M 34), (M 35), (M 37), (M 38), (M 39), (M 43), (fun q => by first | exact absurd q.1.1 (by assumption) | exact absurd q.1.2.1 (by assumption) | exact absurd q.1.2.2 (by assumption) | exact absurd q.2 (by assumption)), (by first | exact Eq.symm (sel_f (fun q => absurd q.1.1 (by assumption))) | exact Eq.symm (sel_f (fun q => absurd q.1.2.1 (by assumption))) | exact Eq.symm (sel_f (fun q => absurd q.1.2.2 (by assumption))) | exact Eq.symm (sel_f (fun q => absurd q.2 (by assumption)))), (hX.to (((((((up_id F (k := 7) (a := (F 7)) rfl).symm.trans rfl).trans ((up_id (va_up F 7 (F 7)) (k := 33) (a := (F 33)) rfl).symm.trans rfl)).trans ((up_id (va_up (va_up F 7 (F 7)) 33 (F 33)) (k := 36) (a := (F 36)) rfl).symm.trans rfl)).trans ((up_id (va_up (va_up (va_up F 7 (F 7)) 33 (F 33)) 36 (F 36)) (k := 40) (a := (F 40)) rfl).symm.trans rfl)).trans ((up_id (va_up (va_up (va_up (va_up F 7 (F 7)) 33 (F 33)) 36 (F 36)) 40 (F 40)) (k := 41) (a := (F 41)) rfl).symm.trans rfl)).trans ((up_id (va_up (va_up (va_up (va_up (va_up F 7 (F 7)) 33 (F 33)) 36 (F 36)) 40 (F 40)) 41 (F 41)) (k := 42) (a := (F 42)) rfl).symm.trans rfl)) ((((((((((((up_id M (k := 3) (a := (M 3)) rfl).symm.trans rfl).trans ((up_id (va_up M 3 (M 3)) (k := 8) (a := (M 8)) rfl).symm.trans rfl)).trans ((up_id (va_up (va_up M 3 (M 3)) 8 (M 8)) (k := 9) (a := (M 9)) rfl).symm.trans rfl)).trans ((up_id (va_up (va_up (va_up M 3 (M 3)) 8 (M 8)) 9 (M 9)) (k := 10) (a := (M 10)) rfl).symm.trans rfl)).trans ((up_id (va_up (va_up (va_up (va_up M 3 (M 3)) 8 (M 8)) 9 (M 9)) 10 (M 10)) (k := 11) (a := (M 11)) rfl).symm.trans rfl)).trans ((up_id (va_up (va_up (va_up (va_up (va_up M 3 (M 3)) 8 (M 8)) 9 (M 9)) 10 (M 10)) 11 (M 11)) (k := 34) (a := (M 34)) rfl).symm.trans rfl)).trans ((up_id (va_up (va_up (va_up (va_up (va_up (va_up M 3 (M 3)) 8 (M 8)) 9 (M 9)) 10 (M 10)) 11 (M 11)) 34 (M 34)) (k := 35) (a := (M 35)) rfl).symm.trans rfl)).trans ((up_id (va_up (va_up (va_up (va_up (va_up (va_up (va_up M 3 (M 3)) 8 (M 8)) 9 (M 9)) 10 (M 10)) 11 (M 11)) 34 (M 34)) 35 (M 35)) (k := 37) (a := (M 37)) rfl).symm.trans rfl)).trans ((up_id (va_up (va_up (va_up (va_up (va_up (va_up (va_up (va_up M 3 (M 3)) 8 (M 8)) 9 (M 9)) 10 (M 10)) 11 (M 11)) 34 (M 34)) 35 (M 35)) 37 (M 37)) (k := 38) (a := (M 38)) rfl).symm.trans rfl)).trans ((up_id (va_up (va_up (va_up (va_up (va_up (va_up (va_up (va_up (va_up M 3 (M 3)) 8 (M 8)) 9 (M 9)) 10 (M 10)) 11 (M 11)) 34 (M 34)) 35 (M 35)) 37 (M 37)) 38 (M 38)) (k := 39) (a := (M 39)) rfl).symm.trans rfl)).trans ((up_id (va_up (va_up (va_up (va_up (va_up (va_up (va_up (va_up (va_up (va_up M 3 (M 3)) 8 (M 8)) 9 (M 9)) 10 (M 10)) 11 (M 11)) 34 (M 34)) 35 (M 35)) 37 (M 37)) 38 (M 38)) 39 (M 39)) (k := 43) (a := (M 43)) rfl).symm.trans rfl)))⟩
      · refine lv_iload_n C.x C.b dX2_judge_22 rfl (lv_at hl 3 rfl) ?_
        refine r_i2l C (by omega) dX2_judge_23 ?_
        refine r_lconst C 0 rfl dX2_judge_24 ?_
        refine r_ldc2 C 2 (by decide) q1292 dX2_judge_25 ?_
        refine r_callSi (As := [.long (zl w), .long (zl 0), .long (zl 2)]) (rest := []) (cells' := 0) (slots' := 0) C (met_X2_in l E A ad H w 0 2 (show -9223372036854775808 ≤ w ∧ w < 9223372036854775808 from (by omega)) (show -9223372036854775808 ≤ 0 ∧ 0 < 9223372036854775808 from (by omega)) (show -9223372036854775808 ≤ 2 ∧ 2 < 9223372036854775808 from (by omega))) (lw_S q1209 q1210 q88 q1211) hd_X2_in rfl (by decide) rfl hS hl.1 rfl (Nat.le_of_ble_eq_true rfl) dX2_judge_28 rfl rfl ⟨Nat.le_of_ble_eq_true rfl, Nat.le_of_ble_eq_true rfl⟩ (fun rr H locs hp hS => ?_)
        obtain ⟨hrr, hH⟩ := hp
        have hrr : rr = bI (0 ≤ w ∧ w ≤ 2) := hrr
        subst hrr
        have hX : MH E A ad F M H := by rw [hH]; exact hX
        refine r_if_ne_b (tgt := 36) C dX2_judge_31 (by decide) (fun c_4 => ?_) (fun c_4 => ?_)
        · have hp12 := p2_12 (k := F 4) (by omega)
          have htt : 0 ≤ t ∧ t ≤ 1 * 2 ^ (F 4).toNat - 1 := by assumption
          have huu : 0 ≤ u ∧ u ≤ 1 * 2 ^ (F 4).toNat - 1 := by assumption
          have hnd : nd t u = 0 := by omega
          refine lv_aload_n C.x C.b dX2_judge_36 rfl (lv_at hl 0 rfl) ?_
          refine lv_iload_n C.x C.b dX2_judge_37 rfl (lv_at hl 1 rfl) ?_
          refine r_callVv (As := [.int (zi t)]) (rest := []) (cells' := 0) (slots' := 0) C (met_X2_findBest l E A ad F M t (show 0 ≤ t ∧ t < 2147483648 from (by omega))) (lw_V q1441 q1443 qs72 q88 q1444) hd_X2_findBest rfl (by decide) (m_recv C hX) hX hS hl.1 rfl (Nat.le_of_ble_eq_true rfl) dX2_judge_38 rfl rfl ⟨Nat.le_of_ble_eq_true rfl, Nat.le_of_ble_eq_true rfl⟩ (fun H locs hp hS => ?_)
          obtain ⟨wn, tn, rn, b0, b1, b2, sg, w8, w9, w10, w11, tt, sp, rm, rp, tw, hsg, hwk, hwr, htn, htb, hts_, htw, hb40, hb41, hb42, hbr, hX⟩ := hp
          have hsg : SgOK ((F 0)) ((M 1)) ((F 2)) sg := hsg
          have hwk : wn = wk (mtc ((M 6))) ((M 5)) ((F 4)) 0 := hwk
          have hwr : WR (mtc ((M 6))) ((M 5)) w8 w9 w10 w11 ((F 4)) 0 := hwr
          have htn : tn = tnum ((F 0)) sg (cnt sg (mtc ((M 6))) ((M 5)) ((F 4))) := htn
          have htb : ∀ j : Int, 0 ≤ j → j < tn → tt j = tb ((F 0)) sg (cnt sg (mtc ((M 6))) ((M 5)) ((F 4))) j := htb
          have hts_ : ∀ s : Int, 0 ≤ s → s < 24 → sp s = tsp ((F 0)) sg (cnt sg (mtc ((M 6))) ((M 5)) ((F 4))) tn s := hts_
          have htw : ∀ a b : Int, 0 ≤ a → a < 7 → 0 ≤ b → b < 4096 → (tw (4096 * a + b) = 1 ↔ Tw ((F 30)) ((M 31)) ((M 32)) a b) := htw
          have hb40 : b0 = fBt (fun sd => rdS sg (mtc ((M 6))) ((M 5)) ((F 4)) (tsp ((F 0)) sg (cnt sg (mtc ((M 6))) ((M 5)) ((F 4))) (tnum ((F 0)) sg (cnt sg (mtc ((M 6))) ((M 5)) ((F 4))))) ((F 30)) ((M 31)) ((M 32)) t sd) tn := hb40
          have hb41 : b1 = fRt (fun sd => rdS sg (mtc ((M 6))) ((M 5)) ((F 4)) (tsp ((F 0)) sg (cnt sg (mtc ((M 6))) ((M 5)) ((F 4))) (tnum ((F 0)) sg (cnt sg (mtc ((M 6))) ((M 5)) ((F 4))))) ((F 30)) ((M 31)) ((M 32)) t sd) tn := hb41
          have hb42 : b2 = fMt (fun sd => rdS sg (mtc ((M 6))) ((M 5)) ((F 4)) (tsp ((F 0)) sg (cnt sg (mtc ((M 6))) ((M 5)) ((F 4))) (tnum ((F 0)) sg (cnt sg (mtc ((M 6))) ((M 5)) ((F 4))))) ((F 30)) ((M 31)) ((M 32)) t sd) tn := hb42
          have hbr : (0 ≤ b0 ∧ b0 ≤ 4095) ∧ (0 ≤ tn ∧ tn ≤ 6) := hbr
          have hX : MH E A ad (va_up (va_up (va_up (va_up (va_up (va_up F 7 wn) 33 tn) 36 rn) 40 b0) 41 b1) 42 b2) (va_up (va_up (va_up (va_up (va_up (va_up (va_up (va_up (va_up (va_up M 3 sg) 8 w8) 9 w9) 10 w10) 11 w11) 34 tt) 35 sp) 37 rm) 38 rp) 39 tw) H := hX.to ((congrArg (fun z => va_up z 42 b2) ((congrArg (fun z => va_up z 41 b1) ((congrArg (fun z => va_up z 40 b0) ((congrArg (fun z => va_up z 36 rn) ((congrArg (fun z => va_up z 33 tn) rfl).trans rfl)).trans rfl)).trans rfl)).trans rfl)).trans rfl) ((congrArg (fun z => va_up z 39 tw) ((congrArg (fun z => va_up z 38 rp) ((congrArg (fun z => va_up z 37 rm) ((congrArg (fun z => va_up z 35 sp) ((congrArg (fun z => va_up z 34 tt) ((congrArg (fun z => va_up z 11 w11) ((congrArg (fun z => va_up z 10 w10) ((congrArg (fun z => va_up z 9 w9) ((congrArg (fun z => va_up z 8 w8) rfl).trans rfl)).trans rfl)).trans rfl)).trans rfl)).trans rfl)).trans rfl)).trans rfl)).trans rfl)).trans rfl)
          have htnr := hbr.2
          have hpt := p2_12 (k := 2 * tn) (by omega)
          refine lv_aload_n C.x C.b dX2_judge_41 rfl (lv_at hl 0 rfl) ?_
          refine lv_iload_n C.x C.b dX2_judge_42 rfl (lv_at hl 2 rfl) ?_
          refine r_callVv (As := [.int (zi u)]) (rest := []) (cells' := 0) (slots' := 0) C (met_X2_findReadable l E A ad (va_up (va_up (va_up (va_up (va_up (va_up F 7 wn) 33 tn) 36 rn) 40 b0) 41 b1) 42 b2) (va_up (va_up (va_up (va_up (va_up (va_up (va_up (va_up (va_up (va_up M 3 sg) 8 w8) 9 w9) 10 w10) 11 w11) 34 tt) 35 sp) 37 rm) 38 rp) 39 tw) u (show 0 ≤ u ∧ u < 2147483648 from (by omega)) (show wn = wk (mtc ((M 6))) ((M 5)) ((F 4)) 0 from (by omega)) (show WR (mtc ((M 6))) ((M 5)) (w8) (w9) (w10) (w11) ((F 4)) 0 from (by omega)) (show ∀ s : Int, 0 ≤ s → s < 24 → sp s = -4 ∨ 0 ≤ sp s from (fun s a b => by rw [hts_ s a b]; exact (tsp_r rF0.1 htnr.1 s).imp id (fun z => z.1)))) (lw_V q1429 q1431 qs70 q88 q1432) hd_X2_findReadable rfl (by decide) (m_recv C hX) hX hS hl.1 rfl (Nat.le_of_ble_eq_true rfl) dX2_judge_43 rfl rfl ⟨Nat.le_of_ble_eq_true rfl, Nat.le_of_ble_eq_true rfl⟩ (fun H locs hp hS => ?_)
          obtain ⟨un, um, up_, hlr, hX⟩ := hp
          have hlr : LR (Rd (sg) ((M 6)) (w8) (w9) (w10) (w11) (sp) u) (Rq (sg) ((M 6)) (w8) (w9) (sp)) (w10) (wn) un um up_ := hlr
          have hX : MH E A ad (va_up (va_up (va_up (va_up (va_up (va_up F 7 wn) 33 tn) 36 un) 40 b0) 41 b1) 42 b2) (va_up (va_up (va_up (va_up (va_up (va_up (va_up (va_up (va_up (va_up M 3 sg) 8 w8) 9 w9) 10 w10) 11 w11) 34 tt) 35 sp) 37 um) 38 up_) 39 tw) H := hX.to (up_in (by decide) (up_in (by decide) (up_in (by decide) (up_up _ _ _ _)))) ((congrArg (fun z => va_up z 38 up_) (up_in (by decide) (up_in (by decide) (up_up _ _ _ _)))).trans (up_in (by decide) (up_up _ _ _ _)))
          have hsa0 : ∀ a b : Int, 0 ≤ (mtc (M 6)) a b → 0 ≤ sa sg ((mtc (M 6)) a b) ∧ sa sg ((mtc (M 6)) a b) < 24 := fun a b q => by
            unfold sa
            rw [sel_f (by omega)]
            have z : 0 ≤ sg ((mtc (M 6)) a b) ∧ sg ((mtc (M 6)) a b) ≤ 23 := hX.2.2 3 (0, 23) rfl _
            exact ⟨z.1, by omega⟩
          have hru : ∀ s : Int, rbS um up_ tw s un = rdS sg (mtc (M 6)) (M 5) (F 4) (tsp (F 0) sg (cnt sg (mtc (M 6)) (M 5) (F 4)) (tnum (F 0) sg (cnt sg (mtc (M 6)) (M 5) (F 4)))) (F 30) (M 31) (M 32) u (snd s) := fun s => (rb_rd (fun a => (h24 a).1) rF4.1 hwk hwr hlr htw).trans (rdS_cg LkC.rf rF4.1 (fun a b => (hcl _).1) (fun a b q1 q2 q3 q4 q5 => by rw [← htn]; exact hts_ _ (hsa0 a b q5).1 (hsa0 a b q5).2) (fun _ _ => Iff.rfl))
          have hrds : ∀ (s : Int) (p : Int → Int), (∀ q : Int, 0 ≤ q → q < tn → snd s q = snd b0 (p q)) → rbS um up_ tw s un = (fun sd => rdS sg (mtc (M 6)) (M 5) (F 4) (tsp (F 0) sg (cnt sg (mtc (M 6)) (M 5) (F 4)) (tnum (F 0) sg (cnt sg (mtc (M 6)) (M 5) (F 4)))) (F 30) (M 31) (M 32) u sd) (fun q => snd b0 (p q)) := fun s p h => (hru s).trans (rdS_sd (tn := tn) rF4.1 (fun x => by rw [← htn]; exact (tsp_r (sg := sg) rF0.1 htnr.1 x).imp id (fun z => ⟨z.1, z.2.1⟩)) h)
          have hlp := pLen_pos htnr
          refine lv_aload_n C.x C.b dX2_judge_46 rfl (lv_at hl 0 rfl) ?_
          refine lv_aload_n C.x C.b dX2_judge_47 rfl (lv_at hl 0 rfl) ?_
          refine mg_40 C hX b0 rfl dX2_judge_48 (fun r48 => ?_)
          refine r_callVi (As := [.int (zi b0)]) (rest := []) (cells' := 0) (slots' := 0) C (met_X2_readBy l E A ad (va_up (va_up (va_up (va_up (va_up (va_up F 7 wn) 33 tn) 36 un) 40 b0) 41 b1) 42 b2) (va_up (va_up (va_up (va_up (va_up (va_up (va_up (va_up (va_up (va_up M 3 sg) 8 w8) 9 w9) 10 w10) 11 w11) 34 tt) 35 sp) 37 um) 38 up_) 39 tw) b0 (show 0 ≤ b0 ∧ b0 < 2147483648 from (by omega))) (lw_V q1433 q1435 qs71 q88 q1436) hd_X2_readBy rfl (by decide) (m_recv C hX) hX hS hl.1 rfl (Nat.le_of_ble_eq_true rfl) dX2_judge_51 rfl rfl ⟨Nat.le_of_ble_eq_true rfl, Nat.le_of_ble_eq_true rfl⟩ (fun rr H locs hp hS => ?_)
          obtain ⟨hrb, hrr, hX⟩ := hp
          have hrr : rr = rbS (um) (up_) (tw) b0 (un) := hrr
          subst hrr
          have hrb : 0 ≤ rbS (um) (up_) (tw) b0 (un) ∧ rbS (um) (up_) (tw) b0 (un) ≤ 104 := hrb
          refine lv_istore (lv' := [(4, .int (zi (rbS (um) (up_) (tw) b0 (un)))), (0, .ref (ad 63)), (1, .int (zi t)), (2, .int (zi u)), (3, .int (zi w))]) C.x C.b dX2_judge_54 hl (by decide) rfl (fun ls hl => ?_)
          refine r_const C dX2_judge_56 ?_
          refine lv_istore (lv' := [(5, .int (zi 0)), (4, .int (zi (rbS (um) (up_) (tw) b0 (un)))), (0, .ref (ad 63)), (1, .int (zi t)), (2, .int (zi u)), (3, .int (zi w))]) C.x C.b dX2_judge_57 hl (by decide) rfl (fun ls hl => ?_)
          refine r_const C dX2_judge_59 ?_
          refine lv_istore (lv' := [(6, .int (zi 0)), (5, .int (zi 0)), (4, .int (zi (rbS (um) (up_) (tw) b0 (un)))), (0, .ref (ad 63)), (1, .int (zi t)), (2, .int (zi u)), (3, .int (zi w))]) C.x C.b dX2_judge_60 hl (by decide) rfl (fun ls hl => ?_)
          refine r_const C dX2_judge_62 ?_
          refine lv_istore (lv' := [(7, .int (zi 0)), (6, .int (zi 0)), (5, .int (zi 0)), (4, .int (zi (rbS (um) (up_) (tw) b0 (un)))), (0, .ref (ad 63)), (1, .int (zi t)), (2, .int (zi u)), (3, .int (zi w))]) C.x C.b dX2_judge_63 hl (by decide) rfl (fun ls hl => ?_)
          have L65 : ∀ (fu : Nat) (v7 : Int) (m43 : Int → Int) (h7 : 0 ≤ v7 ∧ v7 ≤ 6) (h43 : ∀ x : Int, 0 ≤ x → x < v7 → m43 x = x) (hm : Int.toNat (6 - v7) < fu) (H : Heap) (locs : List Loc) (ls : Array Slot) (hX : MH E A ad (va_up (va_up (va_up (va_up (va_up (va_up F 7 wn) 33 tn) 36 un) 40 b0) 41 b1) 42 b2) (va_up (va_up (va_up (va_up (va_up (va_up (va_up (va_up (va_up (va_up (va_up M 3 sg) 8 w8) 9 w9) 10 w10) 11 w11) 34 tt) 35 sp) 37 um) 38 up_) 39 tw) 43 m43) H) (hS : va_S A s.heap H locs) (hl : lv_has ls 10 [(0, .ref (ad 63)), (1, .int (zi t)), (2, .int (zi u)), (3, .int (zi w)), (4, .int (zi (rbS (um) (up_) (tw) b0 (un)))), (5, .int (zi 0)), (6, .int (zi 0)), (7, .int (zi v7))]), W p l e rm_X2_judge s m args below meth c H locs 0 0 (MQ below (qi A (fun r H => ∃ f7 : Int, ∃ f33 : Int, ∃ f36 : Int, ∃ f40 : Int, ∃ f41 : Int, ∃ f42 : Int, ∃ m3 : Int → Int, ∃ m8 : Int → Int, ∃ m9 : Int → Int, ∃ m10 : Int → Int, ∃ m11 : Int → Int, ∃ m34 : Int → Int, ∃ m35 : Int → Int, ∃ m37 : Int → Int, ∃ m38 : Int → Int, ∃ m39 : Int → Int, ∃ m43 : Int → Int, ((((0 ≤ t ∧ t ≤ 1 * 2 ^ (F 4).toNat - 1) ∧ (0 ≤ u ∧ u ≤ 1 * 2 ^ (F 4).toNat - 1) ∧ nd t u = 0) ∧ (0 ≤ w ∧ w ≤ 2)) → SgOK (F 0) (M 1) (F 2) m3) ∧ (r = sel (((0 ≤ t ∧ t ≤ 1 * 2 ^ (F 4).toNat - 1) ∧ (0 ≤ u ∧ u ≤ 1 * 2 ^ (F 4).toNat - 1) ∧ nd t u = 0) ∧ (0 ≤ w ∧ w ≤ 2)) (sel (w = 0) ((fun sd => rdS m3 (mtc (M 6)) (M 5) (F 4) (tsp (F 0) m3 (cnt m3 (mtc (M 6)) (M 5) (F 4)) (tnum (F 0) m3 (cnt m3 (mtc (M 6)) (M 5) (F 4)))) (F 30) (M 31) (M 32) u sd) (snd (fBt (fun sd => rdS m3 (mtc (M 6)) (M 5) (F 4) (tsp (F 0) m3 (cnt m3 (mtc (M 6)) (M 5) (F 4)) (tnum (F 0) m3 (cnt m3 (mtc (M 6)) (M 5) (F 4)))) (F 30) (M 31) (M 32) t sd) (tnum (F 0) m3 (cnt m3 (mtc (M 6)) (M 5) (F 4)))))) (sel (w = 1) (jSm (fun sd => rdS m3 (mtc (M 6)) (M 5) (F 4) (tsp (F 0) m3 (cnt m3 (mtc (M 6)) (M 5) (F 4)) (tnum (F 0) m3 (cnt m3 (mtc (M 6)) (M 5) (F 4)))) (F 30) (M 31) (M 32) u sd) (fBt (fun sd => rdS m3 (mtc (M 6)) (M 5) (F 4) (tsp (F 0) m3 (cnt m3 (mtc (M 6)) (M 5) (F 4)) (tnum (F 0) m3 (cnt m3 (mtc (M 6)) (M 5) (F 4)))) (F 30) (M 31) (M 32) t sd) (tnum (F 0) m3 (cnt m3 (mtc (M 6)) (M 5) (F 4)))) (tnum (F 0) m3 (cnt m3 (mtc (M 6)) (M 5) (F 4))) ((fun sd => rdS m3 (mtc (M 6)) (M 5) (F 4) (tsp (F 0) m3 (cnt m3 (mtc (M 6)) (M 5) (F 4)) (tnum (F 0) m3 (cnt m3 (mtc (M 6)) (M 5) (F 4)))) (F 30) (M 31) (M 32) u sd) (snd (fBt (fun sd => rdS m3 (mtc (M 6)) (M 5) (F 4) (tsp (F 0) m3 (cnt m3 (mtc (M 6)) (M 5) (F 4)) (tnum (F 0) m3 (cnt m3 (mtc (M 6)) (M 5) (F 4)))) (F 30) (M 31) (M 32) t sd) (tnum (F 0) m3 (cnt m3 (mtc (M 6)) (M 5) (F 4)))))) (pLen (tnum (F 0) m3 (cnt m3 (mtc (M 6)) (M 5) (F 4))))) (pLen (tnum (F 0) m3 (cnt m3 (mtc (M 6)) (M 5) (F 4)))))) (-1)) ∧ MH E A ad (va_up (va_up (va_up (va_up (va_up (va_up F 7 f7) 33 f33) 36 f36) 40 f40) 41 f41) 42 f42) (va_up (va_up (va_up (va_up (va_up (va_up (va_up (va_up (va_up (va_up (va_up M 3 m3) 8 m8) 9 m9) 10 m10) 11 m11) 34 m34) 35 m35) 37 m37) 38 m38) 39 m39) 43 m43) H)) args s (rm_X2_judge).cells (rm_X2_judge).slots A) (F0 m 65 ls []) := by
            intro fu
            induction fu with
            | zero => intro v7 m43 h7 h43 hm; exact absurd hm (Nat.not_lt_zero _)
            | succ fu ih65 =>
              intro v7 m43 h7 h43 hm H locs ls hX hS hl
              refine lv_iload C.x C.b dX2_judge_65 (lv_at hl 7 rfl) ?_
              refine r_bipush C (by decide) dX2_judge_67 ?_
              refine r_icmp_ge (tgt := 87) C (by omega) (by decide) dX2_judge_69 (by decide) (fun c_5 => ?_) (fun c_5 => ?_)
              · refine r_const C dX2_judge_87 ?_
                refine lv_istore (lv' := [(7, .int (zi 1)), (0, .ref (ad 63)), (1, .int (zi t)), (2, .int (zi u)), (3, .int (zi w)), (4, .int (zi (rbS (um) (up_) (tw) b0 (un)))), (5, .int (zi 0)), (6, .int (zi 0))]) C.x C.b dX2_judge_88 hl (by decide) rfl (fun ls hl => ?_)
                have L90 : ∀ (fu : Nat) (v5 : Int) (v6 : Int) (v7 : Int) (m43 : Int → Int) (h7 : (v7 = 1 ∧ v6 < pLen tn ∧ ∀ x : Int, 0 ≤ x → x < tn → m43 x = pg (pAt tn v6) x) ∨ (v7 = 0 ∧ v6 = pLen tn)) (h6 : 0 ≤ v6) (h5 : v5 = jSm (fun sd => rdS sg (mtc (M 6)) (M 5) (F 4) (tsp (F 0) sg (cnt sg (mtc (M 6)) (M 5) (F 4)) (tnum (F 0) sg (cnt sg (mtc (M 6)) (M 5) (F 4)))) (F 30) (M 31) (M 32) u sd) b0 tn (rbS um up_ tw b0 un) v6) (hm : Int.toNat (pLen tn - v6 + v7) < fu) (H : Heap) (locs : List Loc) (ls : Array Slot) (hX : MH E A ad (va_up (va_up (va_up (va_up (va_up (va_up F 7 wn) 33 tn) 36 un) 40 b0) 41 b1) 42 b2) (va_up (va_up (va_up (va_up (va_up (va_up (va_up (va_up (va_up (va_up (va_up M 3 sg) 8 w8) 9 w9) 10 w10) 11 w11) 34 tt) 35 sp) 37 um) 38 up_) 39 tw) 43 m43) H) (hS : va_S A s.heap H locs) (hl : lv_has ls 10 [(0, .ref (ad 63)), (1, .int (zi t)), (2, .int (zi u)), (3, .int (zi w)), (4, .int (zi (rbS (um) (up_) (tw) b0 (un)))), (5, .int (zi v5)), (6, .int (zi v6)), (7, .int (zi v7))]), W p l e rm_X2_judge s m args below meth c H locs 0 0 (MQ below (qi A (fun r H => ∃ f7 : Int, ∃ f33 : Int, ∃ f36 : Int, ∃ f40 : Int, ∃ f41 : Int, ∃ f42 : Int, ∃ m3 : Int → Int, ∃ m8 : Int → Int, ∃ m9 : Int → Int, ∃ m10 : Int → Int, ∃ m11 : Int → Int, ∃ m34 : Int → Int, ∃ m35 : Int → Int, ∃ m37 : Int → Int, ∃ m38 : Int → Int, ∃ m39 : Int → Int, ∃ m43 : Int → Int, ((((0 ≤ t ∧ t ≤ 1 * 2 ^ (F 4).toNat - 1) ∧ (0 ≤ u ∧ u ≤ 1 * 2 ^ (F 4).toNat - 1) ∧ nd t u = 0) ∧ (0 ≤ w ∧ w ≤ 2)) → SgOK (F 0) (M 1) (F 2) m3) ∧ (r = sel (((0 ≤ t ∧ t ≤ 1 * 2 ^ (F 4).toNat - 1) ∧ (0 ≤ u ∧ u ≤ 1 * 2 ^ (F 4).toNat - 1) ∧ nd t u = 0) ∧ (0 ≤ w ∧ w ≤ 2)) (sel (w = 0) ((fun sd => rdS m3 (mtc (M 6)) (M 5) (F 4) (tsp (F 0) m3 (cnt m3 (mtc (M 6)) (M 5) (F 4)) (tnum (F 0) m3 (cnt m3 (mtc (M 6)) (M 5) (F 4)))) (F 30) (M 31) (M 32) u sd) (snd (fBt (fun sd => rdS m3 (mtc (M 6)) (M 5) (F 4) (tsp (F 0) m3 (cnt m3 (mtc (M 6)) (M 5) (F 4)) (tnum (F 0) m3 (cnt m3 (mtc (M 6)) (M 5) (F 4)))) (F 30) (M 31) (M 32) t sd) (tnum (F 0) m3 (cnt m3 (mtc (M 6)) (M 5) (F 4)))))) (sel (w = 1) (jSm (fun sd => rdS m3 (mtc (M 6)) (M 5) (F 4) (tsp (F 0) m3 (cnt m3 (mtc (M 6)) (M 5) (F 4)) (tnum (F 0) m3 (cnt m3 (mtc (M 6)) (M 5) (F 4)))) (F 30) (M 31) (M 32) u sd) (fBt (fun sd => rdS m3 (mtc (M 6)) (M 5) (F 4) (tsp (F 0) m3 (cnt m3 (mtc (M 6)) (M 5) (F 4)) (tnum (F 0) m3 (cnt m3 (mtc (M 6)) (M 5) (F 4)))) (F 30) (M 31) (M 32) t sd) (tnum (F 0) m3 (cnt m3 (mtc (M 6)) (M 5) (F 4)))) (tnum (F 0) m3 (cnt m3 (mtc (M 6)) (M 5) (F 4))) ((fun sd => rdS m3 (mtc (M 6)) (M 5) (F 4) (tsp (F 0) m3 (cnt m3 (mtc (M 6)) (M 5) (F 4)) (tnum (F 0) m3 (cnt m3 (mtc (M 6)) (M 5) (F 4)))) (F 30) (M 31) (M 32) u sd) (snd (fBt (fun sd => rdS m3 (mtc (M 6)) (M 5) (F 4) (tsp (F 0) m3 (cnt m3 (mtc (M 6)) (M 5) (F 4)) (tnum (F 0) m3 (cnt m3 (mtc (M 6)) (M 5) (F 4)))) (F 30) (M 31) (M 32) t sd) (tnum (F 0) m3 (cnt m3 (mtc (M 6)) (M 5) (F 4)))))) (pLen (tnum (F 0) m3 (cnt m3 (mtc (M 6)) (M 5) (F 4))))) (pLen (tnum (F 0) m3 (cnt m3 (mtc (M 6)) (M 5) (F 4)))))) (-1)) ∧ MH E A ad (va_up (va_up (va_up (va_up (va_up (va_up F 7 f7) 33 f33) 36 f36) 40 f40) 41 f41) 42 f42) (va_up (va_up (va_up (va_up (va_up (va_up (va_up (va_up (va_up (va_up (va_up M 3 m3) 8 m8) 9 m9) 10 m10) 11 m11) 34 m34) 35 m35) 37 m37) 38 m38) 39 m39) 43 m43) H)) args s (rm_X2_judge).cells (rm_X2_judge).slots A) (F0 m 90 ls []) := by
                  intro fu
                  induction fu with
                  | zero => intro v5 v6 v7 m43 h7 h6 h5 hm; exact absurd hm (Nat.not_lt_zero _)
                  | succ fu ih90 =>
                    intro v5 v6 v7 m43 h7 h6 h5 hm H locs ls hX hS hl
                    refine lv_iload C.x C.b dX2_judge_90 (lv_at hl 7 rfl) ?_
                    refine r_if_eq (tgt := 175) C (by omega) dX2_judge_92 (by decide) (fun c_6 => ?_) (fun c_6 => ?_)
                    · refine lv_iload_n C.x C.b dX2_judge_175 rfl (lv_at hl 3 rfl) ?_
                      refine r_if_ne (tgt := 184) C (by omega) dX2_judge_176 (by decide) (fun c_7 => ?_) (fun c_7 => ?_)
                      · refine lv_iload_n C.x C.b dX2_judge_184 rfl (lv_at hl 3 rfl) ?_
                        refine r_const C dX2_judge_185 ?_
                        refine r_icmp_ne (tgt := 194) C (by omega) (by decide) dX2_judge_186 (by decide) (fun c_8 => ?_) (fun c_8 => ?_)
                        · refine lv_iload C.x C.b dX2_judge_194 (lv_at hl 6 rfl) ?_
                          have z7 : v6 = pLen tn := by rcases h7 with q | q <;> omega
                          have eby : (rbS um up_ tw b0 un) = (fun sd => rdS sg (mtc (M 6)) (M 5) (F 4) (tsp (F 0) sg (cnt sg (mtc (M 6)) (M 5) (F 4)) (tnum (F 0) sg (cnt sg (mtc (M 6)) (M 5) (F 4)))) (F 30) (M 31) (M 32) u sd) (snd b0) := hru b0
                          have e0_ : (rbS um up_ tw b0 un) = ((fun sd => rdS sg (mtc (M 6)) (M 5) (F 4) (tsp (F 0) sg (cnt sg (mtc (M 6)) (M 5) (F 4)) (tnum (F 0) sg (cnt sg (mtc (M 6)) (M 5) (F 4)))) (F 30) (M 31) (M 32) u sd) (snd (fBt (fun sd => rdS sg (mtc (M 6)) (M 5) (F 4) (tsp (F 0) sg (cnt sg (mtc (M 6)) (M 5) (F 4)) (tnum (F 0) sg (cnt sg (mtc (M 6)) (M 5) (F 4)))) (F 30) (M 31) (M 32) t sd) (tnum (F 0) sg (cnt sg (mtc (M 6)) (M 5) (F 4)))))) := eby.trans (by rw [hb40, htn])
                          have e1_ : v5 = jSm (fun sd => rdS sg (mtc (M 6)) (M 5) (F 4) (tsp (F 0) sg (cnt sg (mtc (M 6)) (M 5) (F 4)) (tnum (F 0) sg (cnt sg (mtc (M 6)) (M 5) (F 4)))) (F 30) (M 31) (M 32) u sd) (fBt (fun sd => rdS sg (mtc (M 6)) (M 5) (F 4) (tsp (F 0) sg (cnt sg (mtc (M 6)) (M 5) (F 4)) (tnum (F 0) sg (cnt sg (mtc (M 6)) (M 5) (F 4)))) (F 30) (M 31) (M 32) t sd) (tnum (F 0) sg (cnt sg (mtc (M 6)) (M 5) (F 4)))) (tnum (F 0) sg (cnt sg (mtc (M 6)) (M 5) (F 4))) ((fun sd => rdS sg (mtc (M 6)) (M 5) (F 4) (tsp (F 0) sg (cnt sg (mtc (M 6)) (M 5) (F 4)) (tnum (F 0) sg (cnt sg (mtc (M 6)) (M 5) (F 4)))) (F 30) (M 31) (M 32) u sd) (snd (fBt (fun sd => rdS sg (mtc (M 6)) (M 5) (F 4) (tsp (F 0) sg (cnt sg (mtc (M 6)) (M 5) (F 4)) (tnum (F 0) sg (cnt sg (mtc (M 6)) (M 5) (F 4)))) (F 30) (M 31) (M 32) t sd) (tnum (F 0) sg (cnt sg (mtc (M 6)) (M 5) (F 4)))))) (pLen (tnum (F 0) sg (cnt sg (mtc (M 6)) (M 5) (F 4)))) := by rw [h5, z7, eby, hb40, htn]
                          have e2_ : v6 = pLen (tnum (F 0) sg (cnt sg (mtc (M 6)) (M 5) (F 4))) := by rw [z7, htn]
                          exact r_iret C hS (Nat.le_of_ble_eq_true rfl) (Nat.le_of_ble_eq_true rfl) dX2_judge_196 ⟨wn, tn, un, b0, b1, b2, sg, w8, w9, w10, w11, tt, sp, um, up_, tw, m43, (fun _ => hsg), (by rw [sel_t (c := ((0 ≤ t ∧ t ≤ 1 * 2 ^ (F 4).toNat - 1) ∧ (0 ≤ u ∧ u ≤ 1 * 2 ^ (F 4).toNat - 1) ∧ nd t u = 0) ∧ (0 ≤ w ∧ w ≤ 2)) ⟨⟨htt, huu, hnd⟩, by assumption⟩]; first | (rw [sel_t (by assumption)]; exact e0_) | (rw [sel_f (by assumption), sel_t (by assumption)]; exact e1_) | (rw [sel_f (by assumption), sel_f (by assumption)]; exact e2_)), hX⟩
                        · refine lv_iload C.x C.b dX2_judge_189 (lv_at hl 5 rfl) ?_
                          refine lv_goto (tgt := 196) C.x C.b dX2_judge_191 (by decide) ?_
                          have z7 : v6 = pLen tn := by rcases h7 with q | q <;> omega
                          have eby : (rbS um up_ tw b0 un) = (fun sd => rdS sg (mtc (M 6)) (M 5) (F 4) (tsp (F 0) sg (cnt sg (mtc (M 6)) (M 5) (F 4)) (tnum (F 0) sg (cnt sg (mtc (M 6)) (M 5) (F 4)))) (F 30) (M 31) (M 32) u sd) (snd b0) := hru b0
                          have e0_ : (rbS um up_ tw b0 un) = ((fun sd => rdS sg (mtc (M 6)) (M 5) (F 4) (tsp (F 0) sg (cnt sg (mtc (M 6)) (M 5) (F 4)) (tnum (F 0) sg (cnt sg (mtc (M 6)) (M 5) (F 4)))) (F 30) (M 31) (M 32) u sd) (snd (fBt (fun sd => rdS sg (mtc (M 6)) (M 5) (F 4) (tsp (F 0) sg (cnt sg (mtc (M 6)) (M 5) (F 4)) (tnum (F 0) sg (cnt sg (mtc (M 6)) (M 5) (F 4)))) (F 30) (M 31) (M 32) t sd) (tnum (F 0) sg (cnt sg (mtc (M 6)) (M 5) (F 4)))))) := eby.trans (by rw [hb40, htn])
                          have e1_ : v5 = jSm (fun sd => rdS sg (mtc (M 6)) (M 5) (F 4) (tsp (F 0) sg (cnt sg (mtc (M 6)) (M 5) (F 4)) (tnum (F 0) sg (cnt sg (mtc (M 6)) (M 5) (F 4)))) (F 30) (M 31) (M 32) u sd) (fBt (fun sd => rdS sg (mtc (M 6)) (M 5) (F 4) (tsp (F 0) sg (cnt sg (mtc (M 6)) (M 5) (F 4)) (tnum (F 0) sg (cnt sg (mtc (M 6)) (M 5) (F 4)))) (F 30) (M 31) (M 32) t sd) (tnum (F 0) sg (cnt sg (mtc (M 6)) (M 5) (F 4)))) (tnum (F 0) sg (cnt sg (mtc (M 6)) (M 5) (F 4))) ((fun sd => rdS sg (mtc (M 6)) (M 5) (F 4) (tsp (F 0) sg (cnt sg (mtc (M 6)) (M 5) (F 4)) (tnum (F 0) sg (cnt sg (mtc (M 6)) (M 5) (F 4)))) (F 30) (M 31) (M 32) u sd) (snd (fBt (fun sd => rdS sg (mtc (M 6)) (M 5) (F 4) (tsp (F 0) sg (cnt sg (mtc (M 6)) (M 5) (F 4)) (tnum (F 0) sg (cnt sg (mtc (M 6)) (M 5) (F 4)))) (F 30) (M 31) (M 32) t sd) (tnum (F 0) sg (cnt sg (mtc (M 6)) (M 5) (F 4)))))) (pLen (tnum (F 0) sg (cnt sg (mtc (M 6)) (M 5) (F 4)))) := by rw [h5, z7, eby, hb40, htn]
                          have e2_ : v6 = pLen (tnum (F 0) sg (cnt sg (mtc (M 6)) (M 5) (F 4))) := by rw [z7, htn]
                          exact r_iret C hS (Nat.le_of_ble_eq_true rfl) (Nat.le_of_ble_eq_true rfl) dX2_judge_196 ⟨wn, tn, un, b0, b1, b2, sg, w8, w9, w10, w11, tt, sp, um, up_, tw, m43, (fun _ => hsg), (by rw [sel_t (c := ((0 ≤ t ∧ t ≤ 1 * 2 ^ (F 4).toNat - 1) ∧ (0 ≤ u ∧ u ≤ 1 * 2 ^ (F 4).toNat - 1) ∧ nd t u = 0) ∧ (0 ≤ w ∧ w ≤ 2)) ⟨⟨htt, huu, hnd⟩, by assumption⟩]; first | (rw [sel_t (by assumption)]; exact e0_) | (rw [sel_f (by assumption), sel_t (by assumption)]; exact e1_) | (rw [sel_f (by assumption), sel_f (by assumption)]; exact e2_)), hX⟩
                      · refine lv_iload C.x C.b dX2_judge_179 (lv_at hl 4 rfl) ?_
                        refine lv_goto (tgt := 196) C.x C.b dX2_judge_181 (by decide) ?_
                        have z7 : v6 = pLen tn := by rcases h7 with q | q <;> omega
                        have eby : (rbS um up_ tw b0 un) = (fun sd => rdS sg (mtc (M 6)) (M 5) (F 4) (tsp (F 0) sg (cnt sg (mtc (M 6)) (M 5) (F 4)) (tnum (F 0) sg (cnt sg (mtc (M 6)) (M 5) (F 4)))) (F 30) (M 31) (M 32) u sd) (snd b0) := hru b0
                        have e0_ : (rbS um up_ tw b0 un) = ((fun sd => rdS sg (mtc (M 6)) (M 5) (F 4) (tsp (F 0) sg (cnt sg (mtc (M 6)) (M 5) (F 4)) (tnum (F 0) sg (cnt sg (mtc (M 6)) (M 5) (F 4)))) (F 30) (M 31) (M 32) u sd) (snd (fBt (fun sd => rdS sg (mtc (M 6)) (M 5) (F 4) (tsp (F 0) sg (cnt sg (mtc (M 6)) (M 5) (F 4)) (tnum (F 0) sg (cnt sg (mtc (M 6)) (M 5) (F 4)))) (F 30) (M 31) (M 32) t sd) (tnum (F 0) sg (cnt sg (mtc (M 6)) (M 5) (F 4)))))) := eby.trans (by rw [hb40, htn])
                        have e1_ : v5 = jSm (fun sd => rdS sg (mtc (M 6)) (M 5) (F 4) (tsp (F 0) sg (cnt sg (mtc (M 6)) (M 5) (F 4)) (tnum (F 0) sg (cnt sg (mtc (M 6)) (M 5) (F 4)))) (F 30) (M 31) (M 32) u sd) (fBt (fun sd => rdS sg (mtc (M 6)) (M 5) (F 4) (tsp (F 0) sg (cnt sg (mtc (M 6)) (M 5) (F 4)) (tnum (F 0) sg (cnt sg (mtc (M 6)) (M 5) (F 4)))) (F 30) (M 31) (M 32) t sd) (tnum (F 0) sg (cnt sg (mtc (M 6)) (M 5) (F 4)))) (tnum (F 0) sg (cnt sg (mtc (M 6)) (M 5) (F 4))) ((fun sd => rdS sg (mtc (M 6)) (M 5) (F 4) (tsp (F 0) sg (cnt sg (mtc (M 6)) (M 5) (F 4)) (tnum (F 0) sg (cnt sg (mtc (M 6)) (M 5) (F 4)))) (F 30) (M 31) (M 32) u sd) (snd (fBt (fun sd => rdS sg (mtc (M 6)) (M 5) (F 4) (tsp (F 0) sg (cnt sg (mtc (M 6)) (M 5) (F 4)) (tnum (F 0) sg (cnt sg (mtc (M 6)) (M 5) (F 4)))) (F 30) (M 31) (M 32) t sd) (tnum (F 0) sg (cnt sg (mtc (M 6)) (M 5) (F 4)))))) (pLen (tnum (F 0) sg (cnt sg (mtc (M 6)) (M 5) (F 4)))) := by rw [h5, z7, eby, hb40, htn]
                        have e2_ : v6 = pLen (tnum (F 0) sg (cnt sg (mtc (M 6)) (M 5) (F 4))) := by rw [z7, htn]
                        exact r_iret C hS (Nat.le_of_ble_eq_true rfl) (Nat.le_of_ble_eq_true rfl) dX2_judge_196 ⟨wn, tn, un, b0, b1, b2, sg, w8, w9, w10, w11, tt, sp, um, up_, tw, m43, (fun _ => hsg), (by rw [sel_t (c := ((0 ≤ t ∧ t ≤ 1 * 2 ^ (F 4).toNat - 1) ∧ (0 ≤ u ∧ u ≤ 1 * 2 ^ (F 4).toNat - 1) ∧ nd t u = 0) ∧ (0 ≤ w ∧ w ≤ 2)) ⟨⟨htt, huu, hnd⟩, by assumption⟩]; first | (rw [sel_t (by assumption)]; exact e0_) | (rw [sel_f (by assumption), sel_t (by assumption)]; exact e1_) | (rw [sel_f (by assumption), sel_f (by assumption)]; exact e2_)), hX⟩
                    · have h71 := h7.resolve_right (by omega)
                      have hpm := h71.2.2
                      have hlt6 := h71.2.1
                      refine r_const C dX2_judge_95 ?_
                      refine lv_istore (lv' := [(8, .int (zi 0)), (0, .ref (ad 63)), (1, .int (zi t)), (2, .int (zi u)), (3, .int (zi w)), (4, .int (zi (rbS (um) (up_) (tw) b0 (un)))), (5, .int (zi v5)), (6, .int (zi v6)), (7, .int (zi v7))]) C.x C.b dX2_judge_96 hl (by decide) rfl (fun ls hl => ?_)
                      refine r_const C dX2_judge_98 ?_
                      refine lv_istore (lv' := [(9, .int (zi 0)), (8, .int (zi 0)), (0, .ref (ad 63)), (1, .int (zi t)), (2, .int (zi u)), (3, .int (zi w)), (4, .int (zi (rbS (um) (up_) (tw) b0 (un)))), (5, .int (zi v5)), (6, .int (zi v6)), (7, .int (zi v7))]) C.x C.b dX2_judge_99 hl (by decide) rfl (fun ls hl => ?_)
                      have L101 : ∀ (fu : Nat) (v8 : Int) (v9 : Int) (h9 : 0 ≤ v9 ∧ v9 ≤ tn) (hD : DigS v8 v9 (fun j => snd b0 (m43 j))) (hm : Int.toNat (tn - v9) < fu) (H : Heap) (locs : List Loc) (ls : Array Slot) (hX : MH E A ad (va_up (va_up (va_up (va_up (va_up (va_up F 7 wn) 33 tn) 36 un) 40 b0) 41 b1) 42 b2) (va_up (va_up (va_up (va_up (va_up (va_up (va_up (va_up (va_up (va_up (va_up M 3 sg) 8 w8) 9 w9) 10 w10) 11 w11) 34 tt) 35 sp) 37 um) 38 up_) 39 tw) 43 m43) H) (hS : va_S A s.heap H locs) (hl : lv_has ls 10 [(0, .ref (ad 63)), (1, .int (zi t)), (2, .int (zi u)), (3, .int (zi w)), (4, .int (zi (rbS (um) (up_) (tw) b0 (un)))), (5, .int (zi v5)), (6, .int (zi v6)), (7, .int (zi v7)), (8, .int (zi v8)), (9, .int (zi v9))]), W p l e rm_X2_judge s m args below meth c H locs 0 0 (MQ below (qi A (fun r H => ∃ f7 : Int, ∃ f33 : Int, ∃ f36 : Int, ∃ f40 : Int, ∃ f41 : Int, ∃ f42 : Int, ∃ m3 : Int → Int, ∃ m8 : Int → Int, ∃ m9 : Int → Int, ∃ m10 : Int → Int, ∃ m11 : Int → Int, ∃ m34 : Int → Int, ∃ m35 : Int → Int, ∃ m37 : Int → Int, ∃ m38 : Int → Int, ∃ m39 : Int → Int, ∃ m43 : Int → Int, ((((0 ≤ t ∧ t ≤ 1 * 2 ^ (F 4).toNat - 1) ∧ (0 ≤ u ∧ u ≤ 1 * 2 ^ (F 4).toNat - 1) ∧ nd t u = 0) ∧ (0 ≤ w ∧ w ≤ 2)) → SgOK (F 0) (M 1) (F 2) m3) ∧ (r = sel (((0 ≤ t ∧ t ≤ 1 * 2 ^ (F 4).toNat - 1) ∧ (0 ≤ u ∧ u ≤ 1 * 2 ^ (F 4).toNat - 1) ∧ nd t u = 0) ∧ (0 ≤ w ∧ w ≤ 2)) (sel (w = 0) ((fun sd => rdS m3 (mtc (M 6)) (M 5) (F 4) (tsp (F 0) m3 (cnt m3 (mtc (M 6)) (M 5) (F 4)) (tnum (F 0) m3 (cnt m3 (mtc (M 6)) (M 5) (F 4)))) (F 30) (M 31) (M 32) u sd) (snd (fBt (fun sd => rdS m3 (mtc (M 6)) (M 5) (F 4) (tsp (F 0) m3 (cnt m3 (mtc (M 6)) (M 5) (F 4)) (tnum (F 0) m3 (cnt m3 (mtc (M 6)) (M 5) (F 4)))) (F 30) (M 31) (M 32) t sd) (tnum (F 0) m3 (cnt m3 (mtc (M 6)) (M 5) (F 4)))))) (sel (w = 1) (jSm (fun sd => rdS m3 (mtc (M 6)) (M 5) (F 4) (tsp (F 0) m3 (cnt m3 (mtc (M 6)) (M 5) (F 4)) (tnum (F 0) m3 (cnt m3 (mtc (M 6)) (M 5) (F 4)))) (F 30) (M 31) (M 32) u sd) (fBt (fun sd => rdS m3 (mtc (M 6)) (M 5) (F 4) (tsp (F 0) m3 (cnt m3 (mtc (M 6)) (M 5) (F 4)) (tnum (F 0) m3 (cnt m3 (mtc (M 6)) (M 5) (F 4)))) (F 30) (M 31) (M 32) t sd) (tnum (F 0) m3 (cnt m3 (mtc (M 6)) (M 5) (F 4)))) (tnum (F 0) m3 (cnt m3 (mtc (M 6)) (M 5) (F 4))) ((fun sd => rdS m3 (mtc (M 6)) (M 5) (F 4) (tsp (F 0) m3 (cnt m3 (mtc (M 6)) (M 5) (F 4)) (tnum (F 0) m3 (cnt m3 (mtc (M 6)) (M 5) (F 4)))) (F 30) (M 31) (M 32) u sd) (snd (fBt (fun sd => rdS m3 (mtc (M 6)) (M 5) (F 4) (tsp (F 0) m3 (cnt m3 (mtc (M 6)) (M 5) (F 4)) (tnum (F 0) m3 (cnt m3 (mtc (M 6)) (M 5) (F 4)))) (F 30) (M 31) (M 32) t sd) (tnum (F 0) m3 (cnt m3 (mtc (M 6)) (M 5) (F 4)))))) (pLen (tnum (F 0) m3 (cnt m3 (mtc (M 6)) (M 5) (F 4))))) (pLen (tnum (F 0) m3 (cnt m3 (mtc (M 6)) (M 5) (F 4)))))) (-1)) ∧ MH E A ad (va_up (va_up (va_up (va_up (va_up (va_up F 7 f7) 33 f33) 36 f36) 40 f40) 41 f41) 42 f42) (va_up (va_up (va_up (va_up (va_up (va_up (va_up (va_up (va_up (va_up (va_up M 3 m3) 8 m8) 9 m9) 10 m10) 11 m11) 34 m34) 35 m35) 37 m37) 38 m38) 39 m39) 43 m43) H)) args s (rm_X2_judge).cells (rm_X2_judge).slots A) (F0 m 101 ls []) := by
                        intro fu
                        induction fu with
                        | zero => intro v8 v9 h9 hD hm; exact absurd hm (Nat.not_lt_zero _)
                        | succ fu ih101 =>
                          intro v8 v9 h9 hD hm H locs ls hX hS hl
                          refine lv_iload C.x C.b dX2_judge_101 (lv_at hl 9 rfl) ?_
                          refine lv_aload_n C.x C.b dX2_judge_103 rfl (lv_at hl 0 rfl) ?_
                          refine mg_33 C hX tn rfl dX2_judge_104 (fun r104 => ?_)
                          refine r_icmp_ge (tgt := 142) C (by omega) (by omega) dX2_judge_107 (by decide) (fun c_9 => ?_) (fun c_9 => ?_)
                          · have e9 : v9 = tn := by omega
                            rw [e9] at hD
                            have hdl := hD.le htnr
                            have hrv := hrds v8 (fun q => pg (pAt tn v6) q) (fun q a b => (hD.2 q a b).trans (congrArg (snd b0) (hpm q a b)))
                            refine lv_iload C.x C.b dX2_judge_142 (lv_at hl 5 rfl) ?_
                            refine lv_aload_n C.x C.b dX2_judge_144 rfl (lv_at hl 0 rfl) ?_
                            refine lv_iload C.x C.b dX2_judge_145 (lv_at hl 8 rfl) ?_
                            refine r_callVi (As := [.int (zi v8)]) (rest := [.int (zi v5)]) (cells' := 0) (slots' := 0) C (met_X2_readBy l E A ad (va_up (va_up (va_up (va_up (va_up (va_up F 7 wn) 33 tn) 36 un) 40 b0) 41 b1) 42 b2) (va_up (va_up (va_up (va_up (va_up (va_up (va_up (va_up (va_up (va_up (va_up M 3 sg) 8 w8) 9 w9) 10 w10) 11 w11) 34 tt) 35 sp) 37 um) 38 up_) 39 tw) 43 m43) v8 (show 0 ≤ v8 ∧ v8 < 2147483648 from (by omega))) (lw_V q1433 q1435 qs71 q88 q1436) hd_X2_readBy rfl (by decide) (m_recv C hX) hX hS hl.1 rfl (Nat.le_of_ble_eq_true rfl) dX2_judge_147 rfl rfl ⟨Nat.le_of_ble_eq_true rfl, Nat.le_of_ble_eq_true rfl⟩ (fun rr H locs hp hS => ?_)
                            obtain ⟨hrb, hrr, hX⟩ := hp
                            have hrr : rr = rbS (um) (up_) (tw) v8 (un) := hrr
                            subst hrr
                            have hrb : 0 ≤ rbS (um) (up_) (tw) v8 (un) ∧ rbS (um) (up_) (tw) v8 (un) ≤ 104 := hrb
                            refine lv_iload C.x C.b dX2_judge_150 (lv_at hl 4 rfl) ?_
                            have J160_10 : ∀ (t1 : Int) (ht1 : t1 = bI (¬ ((rbS (um) (up_) (tw) v8 (un)) < (rbS (um) (up_) (tw) b0 (un))))) (H : Heap) (locs : List Loc) (ls : Array Slot) (hX : MH E A ad (va_up (va_up (va_up (va_up (va_up (va_up F 7 wn) 33 tn) 36 un) 40 b0) 41 b1) 42 b2) (va_up (va_up (va_up (va_up (va_up (va_up (va_up (va_up (va_up (va_up (va_up M 3 sg) 8 w8) 9 w9) 10 w10) 11 w11) 34 tt) 35 sp) 37 um) 38 up_) 39 tw) 43 m43) H) (hS : va_S A s.heap H locs) (hl : lv_has ls 10 [(0, .ref (ad 63)), (1, .int (zi t)), (2, .int (zi u)), (3, .int (zi w)), (4, .int (zi (rbS (um) (up_) (tw) b0 (un)))), (5, .int (zi v5)), (6, .int (zi v6)), (7, .int (zi v7)), (8, .int (zi v8)), (9, .int (zi v9))]), W p l e rm_X2_judge s m args below meth c H locs 0 0 (MQ below (qi A (fun r H => ∃ f7 : Int, ∃ f33 : Int, ∃ f36 : Int, ∃ f40 : Int, ∃ f41 : Int, ∃ f42 : Int, ∃ m3 : Int → Int, ∃ m8 : Int → Int, ∃ m9 : Int → Int, ∃ m10 : Int → Int, ∃ m11 : Int → Int, ∃ m34 : Int → Int, ∃ m35 : Int → Int, ∃ m37 : Int → Int, ∃ m38 : Int → Int, ∃ m39 : Int → Int, ∃ m43 : Int → Int, ((((0 ≤ t ∧ t ≤ 1 * 2 ^ (F 4).toNat - 1) ∧ (0 ≤ u ∧ u ≤ 1 * 2 ^ (F 4).toNat - 1) ∧ nd t u = 0) ∧ (0 ≤ w ∧ w ≤ 2)) → SgOK (F 0) (M 1) (F 2) m3) ∧ (r = sel (((0 ≤ t ∧ t ≤ 1 * 2 ^ (F 4).toNat - 1) ∧ (0 ≤ u ∧ u ≤ 1 * 2 ^ (F 4).toNat - 1) ∧ nd t u = 0) ∧ (0 ≤ w ∧ w ≤ 2)) (sel (w = 0) ((fun sd => rdS m3 (mtc (M 6)) (M 5) (F 4) (tsp (F 0) m3 (cnt m3 (mtc (M 6)) (M 5) (F 4)) (tnum (F 0) m3 (cnt m3 (mtc (M 6)) (M 5) (F 4)))) (F 30) (M 31) (M 32) u sd) (snd (fBt (fun sd => rdS m3 (mtc (M 6)) (M 5) (F 4) (tsp (F 0) m3 (cnt m3 (mtc (M 6)) (M 5) (F 4)) (tnum (F 0) m3 (cnt m3 (mtc (M 6)) (M 5) (F 4)))) (F 30) (M 31) (M 32) t sd) (tnum (F 0) m3 (cnt m3 (mtc (M 6)) (M 5) (F 4)))))) (sel (w = 1) (jSm (fun sd => rdS m3 (mtc (M 6)) (M 5) (F 4) (tsp (F 0) m3 (cnt m3 (mtc (M 6)) (M 5) (F 4)) (tnum (F 0) m3 (cnt m3 (mtc (M 6)) (M 5) (F 4)))) (F 30) (M 31) (M 32) u sd) (fBt (fun sd => rdS m3 (mtc (M 6)) (M 5) (F 4) (tsp (F 0) m3 (cnt m3 (mtc (M 6)) (M 5) (F 4)) (tnum (F 0) m3 (cnt m3 (mtc (M 6)) (M 5) (F 4)))) (F 30) (M 31) (M 32) t sd) (tnum (F 0) m3 (cnt m3 (mtc (M 6)) (M 5) (F 4)))) (tnum (F 0) m3 (cnt m3 (mtc (M 6)) (M 5) (F 4))) ((fun sd => rdS m3 (mtc (M 6)) (M 5) (F 4) (tsp (F 0) m3 (cnt m3 (mtc (M 6)) (M 5) (F 4)) (tnum (F 0) m3 (cnt m3 (mtc (M 6)) (M 5) (F 4)))) (F 30) (M 31) (M 32) u sd) (snd (fBt (fun sd => rdS m3 (mtc (M 6)) (M 5) (F 4) (tsp (F 0) m3 (cnt m3 (mtc (M 6)) (M 5) (F 4)) (tnum (F 0) m3 (cnt m3 (mtc (M 6)) (M 5) (F 4)))) (F 30) (M 31) (M 32) t sd) (tnum (F 0) m3 (cnt m3 (mtc (M 6)) (M 5) (F 4)))))) (pLen (tnum (F 0) m3 (cnt m3 (mtc (M 6)) (M 5) (F 4))))) (pLen (tnum (F 0) m3 (cnt m3 (mtc (M 6)) (M 5) (F 4)))))) (-1)) ∧ MH E A ad (va_up (va_up (va_up (va_up (va_up (va_up F 7 f7) 33 f33) 36 f36) 40 f40) 41 f41) 42 f42) (va_up (va_up (va_up (va_up (va_up (va_up (va_up (va_up (va_up (va_up (va_up M 3 m3) 8 m8) 9 m9) 10 m10) 11 m11) 34 m34) 35 m35) 37 m37) 38 m38) 39 m39) 43 m43) H)) args s (rm_X2_judge).cells (rm_X2_judge).slots A) (F0 m 160 ls [.int (zi t1), .int (zi v5)]) := by
                              intro t1 ht1 H locs ls hX hS hl
                              subst ht1
                              refine r_iadd C dX2_judge_160 ?_
                              refine lv_istore (lv' := [(5, .int (zi (v5 + (bI (¬ ((rbS (um) (up_) (tw) v8 (un)) < (rbS (um) (up_) (tw) b0 (un)))))))), (0, .ref (ad 63)), (1, .int (zi t)), (2, .int (zi u)), (3, .int (zi w)), (4, .int (zi (rbS (um) (up_) (tw) b0 (un)))), (6, .int (zi v6)), (7, .int (zi v7)), (8, .int (zi v8)), (9, .int (zi v9))]) C.x C.b dX2_judge_161 hl (by decide) rfl (fun ls hl => ?_)
                              refine r_iinc (lv' := [(6, .int (zi (v6 + 1))), (5, .int (zi (v5 + (bI (¬ ((rbS (um) (up_) (tw) v8 (un)) < (rbS (um) (up_) (tw) b0 (un)))))))), (0, .ref (ad 63)), (1, .int (zi t)), (2, .int (zi u)), (3, .int (zi w)), (4, .int (zi (rbS (um) (up_) (tw) b0 (un)))), (7, .int (zi v7)), (8, .int (zi v8)), (9, .int (zi v9))]) C dX2_judge_163 hl (k := 6) rfl (by decide) rfl (fun ls hl => ?_)
                              refine lv_aload_n C.x C.b dX2_judge_166 rfl (lv_at hl 2 rfl) ?_
                              refine r_callVi (As := []) (rest := []) (cells' := 0) (slots' := 0) C (met_X2_goesOn l E A ad (va_up (va_up (va_up (va_up (va_up (va_up F 7 wn) 33 tn) 36 un) 40 b0) 41 b1) 42 b2) (va_up (va_up (va_up (va_up (va_up (va_up (va_up (va_up (va_up (va_up (va_up M 3 sg) 8 w8) 9 w9) 10 w10) 11 w11) 34 tt) 35 sp) 37 um) 38 up_) 39 tw) 43 m43)) (lw_V q1453 q1455 qs74 q88 q1456) hd_X2_goesOn rfl (by decide) (m_recv C hX) hX hS hl.1 rfl (Nat.le_of_ble_eq_true rfl) dX2_judge_167 rfl rfl ⟨Nat.le_of_ble_eq_true rfl, Nat.le_of_ble_eq_true rfl⟩ (fun rr H locs hp hS => ?_)
                              obtain ⟨r_11, hrr⟩ : ∃ z, z = rr := ⟨_, rfl⟩
                              rw [← hrr] at hp ⊢
                              obtain ⟨od, hgo, hX⟩ := hp
                              have hgo : (r_11 = 1 ∧ GoYes (m43) (tn) od) ∨ (r_11 = 0 ∧ GoNo (m43) (tn) ∧ od = m43) := hgo
                              have hX : MH E A ad (va_up (va_up (va_up (va_up (va_up (va_up F 7 wn) 33 tn) 36 un) 40 b0) 41 b1) 42 b2) (va_up (va_up (va_up (va_up (va_up (va_up (va_up (va_up (va_up (va_up (va_up M 3 sg) 8 w8) 9 w9) 10 w10) 11 w11) 34 tt) 35 sp) 37 um) 38 up_) 39 tw) 43 od) H := hX.to rfl (up_up _ _ _ _)
                              refine lv_istore (lv' := [(7, .int (zi r_11)), (6, .int (zi (v6 + 1))), (5, .int (zi (v5 + (bI (¬ ((rbS (um) (up_) (tw) v8 (un)) < (rbS (um) (up_) (tw) b0 (un)))))))), (0, .ref (ad 63)), (1, .int (zi t)), (2, .int (zi u)), (3, .int (zi w)), (4, .int (zi (rbS (um) (up_) (tw) b0 (un)))), (8, .int (zi v8)), (9, .int (zi v9))]) C.x C.b dX2_judge_170 hl (by decide) rfl (fun ls hl => ?_)
                              have hst7 := judge_st htnr ⟨h6, hlt6⟩ hpm hgo
                              have hst5 : v5 + bI (¬ rbS (um) (up_) (tw) v8 (un) < (rbS um up_ tw b0 un)) = jSm (fun sd => rdS sg (mtc (M 6)) (M 5) (F 4) (tsp (F 0) sg (cnt sg (mtc (M 6)) (M 5) (F 4)) (tnum (F 0) sg (cnt sg (mtc (M 6)) (M 5) (F 4)))) (F 30) (M 31) (M 32) u sd) b0 tn (rbS um up_ tw b0 un) (v6 + 1) := isum_st h6 h5 (by rw [hrv])
                              refine lv_goto (tgt := 90) C.x C.b dX2_judge_172 (by decide) ?_
                              exact ih90 (v5 + (bI (¬ ((rbS (um) (up_) (tw) v8 (un)) < (rbS (um) (up_) (tw) b0 (un)))))) (v6 + 1) r_11 od hst7 (by omega) hst5 (by rcases hst7 with q | q <;> omega) H locs ls hX hS (lv_sub hl [3, 4, 5, 6, 7, 2, 1, 0] rfl)
                            refine r_icmp_lt (tgt := 159) C (by omega) (by omega) dX2_judge_152 (by decide) (fun c_12 => ?_) (fun c_12 => ?_)
                            · refine r_const C dX2_judge_159 ?_
                              exact J160_10 0 ((bI_f (fun q => q c_12)).symm) H locs ls hX hS hl
                            · refine r_const C dX2_judge_155 ?_
                              refine lv_goto (tgt := 160) C.x C.b dX2_judge_156 (by decide) ?_
                              exact J160_10 1 ((bI_t c_12).symm) H locs ls hX hS hl
                          · have r43 : 0 ≤ m43 v9 ∧ m43 v9 ≤ 5 := hX.2.2 43 (0, 5) rfl v9
                            refine lv_iload C.x C.b dX2_judge_110 (lv_at hl 8 rfl) ?_
                            refine lv_aload_n C.x C.b dX2_judge_112 rfl (lv_at hl 0 rfl) ?_
                            refine mg_40 C hX b0 rfl dX2_judge_113 (fun _ => ?_)
                            refine r_const C dX2_judge_116 ?_
                            refine lv_aload_n C.x C.b dX2_judge_117 rfl (lv_at hl 0 rfl) ?_
                            refine mg_43 C hX dX2_judge_118 ?_
                            refine lv_iload C.x C.b dX2_judge_121 (lv_at hl 9 rfl) ?_
                            refine ml_43 C hX (by omega) m43 rfl dX2_judge_123 (fun r123 => ?_)
                            refine r_imul C dX2_judge_124 ?_
                            refine r_ishr C (by omega) (by omega) rfl dX2_judge_125 ?_
                            refine r_const C dX2_judge_126 ?_
                            refine r_iand C (zi_and3 _) dX2_judge_127 ?_
                            refine r_const C dX2_judge_128 ?_
                            refine lv_iload C.x C.b dX2_judge_129 (lv_at hl 9 rfl) ?_
                            refine r_imul C dX2_judge_131 ?_
                            have hsd := snd_r b0 (m43 v9)
                            have hdl := hD.le ⟨by omega, by omega⟩
                            have hp29 := p2_12 (k := 2 * v9) (by omega)
                            have hmm := mul_r2 (x := b0 / 2 ^ (2 * m43 v9).toNat % 4) (p := 2 ^ (2 * v9).toNat) ⟨by omega, by omega⟩ ⟨by omega, by omega⟩
                            refine r_ishl C (by omega) (by omega) rfl dX2_judge_132 ?_
                            refine r_ior (v := oo v8 (((b0 / 2 ^ (2 * (m43 v9)).toNat) % 4) * 2 ^ (2 * v9).toNat)) C (zi_or (by omega) (by omega)) dX2_judge_133 ?_
                            refine lv_istore (lv' := [(8, .int (zi (oo v8 (((b0 / 2 ^ (2 * (m43 v9)).toNat) % 4) * 2 ^ (2 * v9).toNat)))), (0, .ref (ad 63)), (1, .int (zi t)), (2, .int (zi u)), (3, .int (zi w)), (4, .int (zi (rbS (um) (up_) (tw) b0 (un)))), (5, .int (zi v5)), (6, .int (zi v6)), (7, .int (zi v7)), (9, .int (zi v9))]) C.x C.b dX2_judge_134 hl (by decide) rfl (fun ls hl => ?_)
                            refine r_iinc (lv' := [(9, .int (zi (v9 + 1))), (8, .int (zi (oo v8 (((b0 / 2 ^ (2 * (m43 v9)).toNat) % 4) * 2 ^ (2 * v9).toNat)))), (0, .ref (ad 63)), (1, .int (zi t)), (2, .int (zi u)), (3, .int (zi w)), (4, .int (zi (rbS (um) (up_) (tw) b0 (un)))), (5, .int (zi v5)), (6, .int (zi v6)), (7, .int (zi v7))]) C dX2_judge_136 hl (k := 9) rfl (by decide) rfl (fun ls hl => ?_)
                            refine lv_goto (tgt := 101) C.x C.b dX2_judge_139 (by decide) ?_
                            exact ih101 (oo v8 (((b0 / 2 ^ (2 * (m43 v9)).toNat) % 4) * 2 ^ (2 * v9).toNat)) (v9 + 1) (by omega) (hD.st h9.1 hsd rfl) (by omega) H locs ls hX hS (lv_sub hl [2, 3, 4, 5, 6, 7, 8, 9, 1, 0] rfl)
                      exact L101 _ 0 0 (by omega) DigS.zero (Nat.lt_succ_self _) H locs ls hX hS (lv_sub hl [2, 3, 4, 5, 6, 7, 8, 9, 1, 0] rfl)
                exact L90 _ 0 0 1 m43 (Or.inl ⟨rfl, by omega, fun x a b => by rw [h43 x a (by omega)]; exact hlp.2.2 x a b⟩) (by omega) rfl (Nat.lt_succ_self _) H locs ls hX hS (lv_sub hl [1, 2, 3, 4, 5, 6, 7, 0] rfl)
              · refine lv_aload_n C.x C.b dX2_judge_72 rfl (lv_at hl 0 rfl) ?_
                refine mg_43 C hX dX2_judge_73 ?_
                refine lv_iload C.x C.b dX2_judge_76 (lv_at hl 7 rfl) ?_
                refine lv_iload C.x C.b dX2_judge_78 (lv_at hl 7 rfl) ?_
                refine ms_43 C hX hS (by omega) (by omega) m43 rfl (M' := (va_up (va_up (va_up (va_up (va_up (va_up (va_up (va_up (va_up (va_up (va_up M 3 sg) 8 w8) 9 w9) 10 w10) 11 w11) 34 tt) 35 sp) 37 um) 38 up_) 39 tw) 43 (fup m43 v7 v7))) (up_up _ _ _ _) dX2_judge_80 (fun H locs hX hS => ?_)
                refine r_iinc (lv' := [(7, .int (zi (v7 + 1))), (0, .ref (ad 63)), (1, .int (zi t)), (2, .int (zi u)), (3, .int (zi w)), (4, .int (zi (rbS (um) (up_) (tw) b0 (un)))), (5, .int (zi 0)), (6, .int (zi 0))]) C dX2_judge_81 hl (k := 7) rfl (by decide) rfl (fun ls hl => ?_)
                refine lv_goto (tgt := 65) C.x C.b dX2_judge_84 (by decide) ?_
                exact ih65 (v7 + 1) (fup m43 v7 v7) (by omega) (fup_st (P := fun j x => x = j) h43 rfl) (by omega) H locs ls hX hS (lv_sub hl [1, 2, 3, 4, 5, 6, 7, 0] rfl)
          exact L65 _ 0 (M 43) (by omega) (fun j a b => absurd a (by omega)) (Nat.lt_succ_self _) H locs ls (hX.to rfl ((up_id (va_up (va_up (va_up (va_up (va_up (va_up (va_up (va_up (va_up (va_up M 3 sg) 8 w8) 9 w9) 10 w10) 11 w11) 34 tt) 35 sp) 37 um) 38 up_) 39 tw) (k := 43) (a := (M 43)) rfl).symm.trans rfl)) hS (lv_sub hl [4, 5, 6, 7, 3, 2, 1, 0] rfl)
        · refine r_const C dX2_judge_34 ?_
          exact r_iret C hS (Nat.le_of_ble_eq_true rfl) (Nat.le_of_ble_eq_true rfl) dX2_judge_35 ⟨(F 7), (F 33), (F 36), (F 40), (F 41), (F 42), (M 3), (M 8), (M 9), (M 10), (M 11), (M 34), (M 35), (M 37), (M 38), (M 39), (M 43), (fun q => by first | exact absurd q.1.1 (by assumption) | exact absurd q.1.2.1 (by assumption) | exact absurd q.1.2.2 (by assumption) | exact absurd q.2 (by assumption)), (by first | exact Eq.symm (sel_f (fun q => absurd q.1.1 (by assumption))) | exact Eq.symm (sel_f (fun q => absurd q.1.2.1 (by assumption))) | exact Eq.symm (sel_f (fun q => absurd q.1.2.2 (by assumption))) | exact Eq.symm (sel_f (fun q => absurd q.2 (by assumption)))), (hX.to (((((((up_id F (k := 7) (a := (F 7)) rfl).symm.trans rfl).trans ((up_id (va_up F 7 (F 7)) (k := 33) (a := (F 33)) rfl).symm.trans rfl)).trans ((up_id (va_up (va_up F 7 (F 7)) 33 (F 33)) (k := 36) (a := (F 36)) rfl).symm.trans rfl)).trans ((up_id (va_up (va_up (va_up F 7 (F 7)) 33 (F 33)) 36 (F 36)) (k := 40) (a := (F 40)) rfl).symm.trans rfl)).trans ((up_id (va_up (va_up (va_up (va_up F 7 (F 7)) 33 (F 33)) 36 (F 36)) 40 (F 40)) (k := 41) (a := (F 41)) rfl).symm.trans rfl)).trans ((up_id (va_up (va_up (va_up (va_up (va_up F 7 (F 7)) 33 (F 33)) 36 (F 36)) 40 (F 40)) 41 (F 41)) (k := 42) (a := (F 42)) rfl).symm.trans rfl)) ((((((((((((up_id M (k := 3) (a := (M 3)) rfl).symm.trans rfl).trans ((up_id (va_up M 3 (M 3)) (k := 8) (a := (M 8)) rfl).symm.trans rfl)).trans ((up_id (va_up (va_up M 3 (M 3)) 8 (M 8)) (k := 9) (a := (M 9)) rfl).symm.trans rfl)).trans ((up_id (va_up (va_up (va_up M 3 (M 3)) 8 (M 8)) 9 (M 9)) (k := 10) (a := (M 10)) rfl).symm.trans rfl)).trans ((up_id (va_up (va_up (va_up (va_up M 3 (M 3)) 8 (M 8)) 9 (M 9)) 10 (M 10)) (k := 11) (a := (M 11)) rfl).symm.trans rfl)).trans ((up_id (va_up (va_up (va_up (va_up (va_up M 3 (M 3)) 8 (M 8)) 9 (M 9)) 10 (M 10)) 11 (M 11)) (k := 34) (a := (M 34)) rfl).symm.trans rfl)).trans ((up_id (va_up (va_up (va_up (va_up (va_up (va_up M 3 (M 3)) 8 (M 8)) 9 (M 9)) 10 (M 10)) 11 (M 11)) 34 (M 34)) (k := 35) (a := (M 35)) rfl).symm.trans rfl)).trans ((up_id (va_up (va_up (va_up (va_up (va_up (va_up (va_up M 3 (M 3)) 8 (M 8)) 9 (M 9)) 10 (M 10)) 11 (M 11)) 34 (M 34)) 35 (M 35)) (k := 37) (a := (M 37)) rfl).symm.trans rfl)).trans ((up_id (va_up (va_up (va_up (va_up (va_up (va_up (va_up (va_up M 3 (M 3)) 8 (M 8)) 9 (M 9)) 10 (M 10)) 11 (M 11)) 34 (M 34)) 35 (M 35)) 37 (M 37)) (k := 38) (a := (M 38)) rfl).symm.trans rfl)).trans ((up_id (va_up (va_up (va_up (va_up (va_up (va_up (va_up (va_up (va_up M 3 (M 3)) 8 (M 8)) 9 (M 9)) 10 (M 10)) 11 (M 11)) 34 (M 34)) 35 (M 35)) 37 (M 37)) 38 (M 38)) (k := 39) (a := (M 39)) rfl).symm.trans rfl)).trans ((up_id (va_up (va_up (va_up (va_up (va_up (va_up (va_up (va_up (va_up (va_up M 3 (M 3)) 8 (M 8)) 9 (M 9)) 10 (M 10)) 11 (M 11)) 34 (M 34)) 35 (M 35)) 37 (M 37)) 38 (M 38)) 39 (M 39)) (k := 43) (a := (M 43)) rfl).symm.trans rfl)))⟩
