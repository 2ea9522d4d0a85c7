set_option maxRecDepth 100000

theorem hd_X0_akin : yX0_akin.cls = RX0 ∧ yX0_akin.cls ≠ "java/lang/invoke/MethodHandle" ∧ yX0_akin.cls ≠ "java/lang/invoke/VarHandle" ∧ (parseMethodDescriptor yX0_akin.desc).map (fun d => d.parameters.length) = some 2 := by decide +kernel
abbrev rm_X0_akin : Room := { frames := 4, cells := 0, slots := 0, locals := 99 }
set_option maxHeartbeats 8000000 in
theorem met_X0_akin (l : Launch) (E : us_E) (A : Nat → Prop) (B : Nat → Int → Nat) (F : Nat → Int) (M : Nat → Int → Int) (G : Nat → Int → Option Nat) (T : x_T) (a : Int) (b : Int) (ha : -2147483648 ≤ a ∧ a < 2147483648) (hb : -2147483648 ≤ b ∧ b < 2147483648) : cMet l yX0_akin cX0_akin 3 (some .int) rm_X0_akin A E [.ref (B 49 0), .int (zi a), .int (zi b)] (fun H => XH E A B F M G T H) (qi A (fun r H => ∃ f12 : Int, ∃ m3 : Int → Int, ∃ m9 : Int → Int, ∃ m10 : Int → Int, ∃ m11 : Int → Int, ∃ m51 : Int → Int, ∃ m52 : Int → Int, SgOK (F 1) (M 0) (F 2) m3 ∧ (r = sel ((((0 ≤ a ∧ a < F 1) ∧ m3 a = a) ∧ ((0 ≤ b ∧ b < F 1) ∧ m3 b = b)) ∧ ¬ a = b) (akS m3 (mtc (M 56)) (M 200) (F 6) a b) (-1)) ∧ XH E A B (va_up F 12 f12) (va_up (va_up (va_up (va_up (va_up (va_up M 3 m3) 9 m9) 10 m10) 11 m11) 51 m51) 52 m52) G T H)) := by
  refine cMet.of (by decide) (Nat.le_of_ble_eq_true rfl) (fun p e s m args below meth c C hnm hX hS ls hl => ?_)
  have C : Cx p s m args meth c A RX0 cX0_akin 3 (some .int) E := C
  have hX : XH E A B F M G T s.heap := hX
  have hl : lv_has ls 3 [(0, .ref (B 49 0)), (1, .int (zi a)), (2, .int (zi b))] := hl
  generalize hH : s.heap = H at hX
  have hS : va_S A s.heap H [] := by rw [← hH]; exact hS
  generalize hlocs : ([] : List Loc) = locs at hS ⊢
  obtain ⟨QQ, hQQ⟩ : ∃ zQQ, MQ below (qi A (fun r H => ∃ f12 : Int, ∃ m3 : Int → Int, ∃ m9 : Int → Int, ∃ m10 : Int → Int, ∃ m11 : Int → Int, ∃ m51 : Int → Int, ∃ m52 : Int → Int, SgOK (F 1) (M 0) (F 2) m3 ∧ (r = sel ((((0 ≤ a ∧ a < F 1) ∧ m3 a = a) ∧ ((0 ≤ b ∧ b < F 1) ∧ m3 b = b)) ∧ ¬ a = b) (akS m3 (mtc (M 56)) (M 200) (F 6) a b) (-1)) ∧ XH E A B (va_up F 12 f12) (va_up (va_up (va_up (va_up (va_up (va_up M 3 m3) 9 m9) 10 m10) 11 m11) 51 m51) 52 m52) G T H)) args s (rm_X0_akin).cells (rm_X0_akin).slots A = zQQ := ⟨_, rfl⟩
  rw [hQQ]
  have rF1 : 0 ≤ F 1 ∧ F 1 ≤ 24 := hX.2.1 1 (0, 24) rfl
  have rF6 : 0 ≤ F 6 ∧ F 6 ≤ 8 := hX.2.1 6 (0, 8) rfl
  refine lv_aload_n C.x C.b dX0_akin_0 rfl (lv_at hl 0 rfl) ?_
  refine r_callVv (As := []) (rest := []) (cells' := 0) (slots' := 0) C (met_X0_layAkin l E A B F M G T) (lw_V q233 q235 qs10 q86 q236) hd_X0_layAkin rfl (by decide) (x_this C hX) hX hS hl.1 rfl (Nat.le_of_ble_eq_true rfl) dX0_akin_1 rfl rfl ⟨Nat.le_of_ble_eq_true rfl, Nat.le_of_ble_eq_true rfl⟩ (fun H locs hp hS => ?_)
  obtain ⟨wn, sg, w9, w10, w11, ak, apt, hsg, hak, hap, hX⟩ := hp
  replace hsg : SgOK ((F 1)) ((M 0)) ((F 2)) sg := hsg
  replace hak : ∀ a b : Int, 0 ≤ a → a < 24 → 0 ≤ b → b < 24 → ak (24 * a + b) = akS sg (mtc ((M 56))) ((M 200)) ((F 6)) a b := hak
  replace hap : ∀ x u : Int, 0 ≤ x → x < 24 → 0 ≤ u → u < 24 → apt (24 * x + u) = sel (x = u) 0 (apS ((F 1)) sg (fun a b => (M 50) (24 * a + b)) x u) := hap
  have hX : XH E A B (va_up F 12 wn) (va_up (va_up (va_up (va_up (va_up (va_up M 3 sg) 9 w9) 10 w10) 11 w11) 51 ak) 52 apt) G T H := hX.to rfl rfl ((congrArg (fun z => va_up z 52 apt) ((congrArg (fun z => va_up z 51 ak) ((congrArg (fun z => va_up z 11 w11) ((congrArg (fun z => va_up z 10 w10) ((congrArg (fun z => va_up z 9 w9) rfl).trans rfl)).trans rfl)).trans rfl)).trans rfl)).trans rfl) rfl rfl
  refine lv_aload_n C.x C.b dX0_akin_4 rfl (lv_at hl 0 rfl) ?_
  refine lv_iload_n C.x C.b dX0_akin_5 rfl (lv_at hl 1 rfl) ?_
  refine r_callVi (As := [.int (zi a)]) (rest := []) (cells' := 0) (slots' := 0) C (met_X0_isSign l E A B (va_up F 12 wn) (va_up (va_up (va_up (va_up (va_up (va_up M 3 sg) 9 w9) 10 w10) 11 w11) 51 ak) 52 apt) G T a (show -2147483648 ≤ a ∧ a < 2147483648 from (by omega))) (lw_V q153 q155 qs3 q86 q156) hd_X0_isSign rfl (by decide) (x_this C hX) hX hS hl.1 rfl (Nat.le_of_ble_eq_true rfl) dX0_akin_6 rfl rfl ⟨Nat.le_of_ble_eq_true rfl, Nat.le_of_ble_eq_true rfl⟩ (fun rr H locs hp hS => ?_)
  obtain ⟨hrr, hX⟩ := hp
  have hrr : rr = bI ((0 ≤ a ∧ a < (F 1)) ∧ sg a = a) := hrr
  subst hrr
  refine r_if_eq_b (tgt := 36) C dX0_akin_9 (by decide) (fun c_1 => ?_) (fun c_1 => ?_)
  · refine r_const C dX0_akin_36 ?_
    rw [← hQQ]
    exact r_iret C hS (Nat.le_of_ble_eq_true rfl) (Nat.le_of_ble_eq_true rfl) dX0_akin_37 ⟨wn, sg, w9, w10, w11, ak, apt, hsg, (by first | exact Eq.symm (sel_f (fun q => absurd q.1.1 (by assumption))) | exact Eq.symm (sel_f (fun q => absurd q.1.2 (by assumption))) | exact Eq.symm (sel_f (fun q => absurd (by assumption) q.2)) | (rw [sel_t (c := (((0 ≤ a ∧ a < F 1) ∧ sg a = a) ∧ ((0 ≤ b ∧ b < F 1) ∧ sg b = b)) ∧ ¬ a = b) ⟨⟨by assumption, by assumption⟩, by assumption⟩]; exact hak a b (by omega) (by omega) (by omega) (by omega))), hX⟩
  · refine lv_aload_n C.x C.b dX0_akin_12 rfl (lv_at hl 0 rfl) ?_
    refine lv_iload_n C.x C.b dX0_akin_13 rfl (lv_at hl 2 rfl) ?_
    refine r_callVi (As := [.int (zi b)]) (rest := []) (cells' := 0) (slots' := 0) C (met_X0_isSign l E A B (va_up F 12 wn) (va_up (va_up (va_up (va_up (va_up (va_up M 3 sg) 9 w9) 10 w10) 11 w11) 51 ak) 52 apt) G T b (show -2147483648 ≤ b ∧ b < 2147483648 from (by omega))) (lw_V q153 q155 qs3 q86 q156) hd_X0_isSign rfl (by decide) (x_this C hX) hX hS hl.1 rfl (Nat.le_of_ble_eq_true rfl) dX0_akin_14 rfl rfl ⟨Nat.le_of_ble_eq_true rfl, Nat.le_of_ble_eq_true rfl⟩ (fun rr H locs hp hS => ?_)
    obtain ⟨hrr, hX⟩ := hp
    have hrr : rr = bI ((0 ≤ b ∧ b < (F 1)) ∧ sg b = b) := hrr
    subst hrr
    refine r_if_eq_b (tgt := 36) C dX0_akin_17 (by decide) (fun c_2 => ?_) (fun c_2 => ?_)
    · refine r_const C dX0_akin_36 ?_
      rw [← hQQ]
      exact r_iret C hS (Nat.le_of_ble_eq_true rfl) (Nat.le_of_ble_eq_true rfl) dX0_akin_37 ⟨wn, sg, w9, w10, w11, ak, apt, hsg, (by first | exact Eq.symm (sel_f (fun q => absurd q.1.1 (by assumption))) | exact Eq.symm (sel_f (fun q => absurd q.1.2 (by assumption))) | exact Eq.symm (sel_f (fun q => absurd (by assumption) q.2)) | (rw [sel_t (c := (((0 ≤ a ∧ a < F 1) ∧ sg a = a) ∧ ((0 ≤ b ∧ b < F 1) ∧ sg b = b)) ∧ ¬ a = b) ⟨⟨by assumption, by assumption⟩, by assumption⟩]; exact hak a b (by omega) (by omega) (by omega) (by omega))), hX⟩
    · refine lv_iload_n C.x C.b dX0_akin_20 rfl (lv_at hl 1 rfl) ?_
      refine lv_iload_n C.x C.b dX0_akin_21 rfl (lv_at hl 2 rfl) ?_
      refine r_icmp_eq (tgt := 36) C (by omega) (by omega) dX0_akin_22 (by decide) (fun c_3 => ?_) (fun c_3 => ?_)
      · refine r_const C dX0_akin_36 ?_
        rw [← hQQ]
        exact r_iret C hS (Nat.le_of_ble_eq_true rfl) (Nat.le_of_ble_eq_true rfl) dX0_akin_37 ⟨wn, sg, w9, w10, w11, ak, apt, hsg, (by first | exact Eq.symm (sel_f (fun q => absurd q.1.1 (by assumption))) | exact Eq.symm (sel_f (fun q => absurd q.1.2 (by assumption))) | exact Eq.symm (sel_f (fun q => absurd (by assumption) q.2)) | (rw [sel_t (c := (((0 ≤ a ∧ a < F 1) ∧ sg a = a) ∧ ((0 ≤ b ∧ b < F 1) ∧ sg b = b)) ∧ ¬ a = b) ⟨⟨by assumption, by assumption⟩, by assumption⟩]; exact hak a b (by omega) (by omega) (by omega) (by omega))), hX⟩
      · refine lv_aload_n C.x C.b dX0_akin_25 rfl (lv_at hl 0 rfl) ?_
        refine x_ga C hX 13 (by decide) rfl q749 (fun _ h => h) dX0_akin_26 ?_
        refine lv_iload_n C.x C.b dX0_akin_29 rfl (lv_at hl 1 rfl) ?_
        refine x_la C hX 13 rfl rfl rfl (by decide) rfl rfl (show 0 ≤ a ∧ a < 24 from (by omega)) (by omega) (by decide) dX0_akin_30 ?_
        refine lv_iload_n C.x C.b dX0_akin_31 rfl (lv_at hl 2 rfl) ?_
        refine x_li C hX 51 rfl (by decide) rfl (show 0 ≤ a ∧ a < 24 from (by omega)) (show 0 ≤ b ∧ b < 24 from (by omega)) (by decide) (ak (24 * a + b)) rfl dX0_akin_32 (fun _ => ?_)
        refine lv_goto (tgt := 37) C.x C.b dX0_akin_33 (by decide) ?_
        rw [← hQQ]
        exact r_iret C hS (Nat.le_of_ble_eq_true rfl) (Nat.le_of_ble_eq_true rfl) dX0_akin_37 ⟨wn, sg, w9, w10, w11, ak, apt, hsg, (by first | exact Eq.symm (sel_f (fun q => absurd q.1.1 (by assumption))) | exact Eq.symm (sel_f (fun q => absurd q.1.2 (by assumption))) | exact Eq.symm (sel_f (fun q => absurd (by assumption) q.2)) | (rw [sel_t (c := (((0 ≤ a ∧ a < F 1) ∧ sg a = a) ∧ ((0 ≤ b ∧ b < F 1) ∧ sg b = b)) ∧ ¬ a = b) ⟨⟨by assumption, by assumption⟩, by assumption⟩]; exact hak a b (by omega) (by omega) (by omega) (by omega))), hX⟩

theorem hd_X0_apart : yX0_apart.cls = RX0 ∧ yX0_apart.cls ≠ "java/lang/invoke/MethodHandle" ∧ yX0_apart.cls ≠ "java/lang/invoke/VarHandle" ∧ (parseMethodDescriptor yX0_apart.desc).map (fun d => d.parameters.length) = some 3 := by decide +kernel
abbrev rm_X0_apart : Room := { frames := 2, cells := 0, slots := 0, locals := 46 }
set_option maxHeartbeats 8000000 in
theorem met_X0_apart (l : Launch) (E : us_E) (A : Nat → Prop) (B : Nat → Int → Nat) (F : Nat → Int) (M : Nat → Int → Int) (G : Nat → Int → Option Nat) (T : x_T) (a : Int) (b : Int) (v : Int) (ha : -2147483648 ≤ a ∧ a < 2147483648) (hb : -2147483648 ≤ b ∧ b < 2147483648) (hv : -2147483648 ≤ v ∧ v < 2147483648) : cMet l yX0_apart cX0_apart 5 (some .int) rm_X0_apart A E [.ref (B 49 0), .int (zi a), .int (zi b), .int (zi v)] (fun H => XH E A B F M G T H) (qi A (fun r H => ∃ m50 : Int → Int, (m50 = sel (((0 ≤ a ∧ a < F 1) ∧ (0 ≤ b ∧ b < F 1) ∧ ¬ a = b) ∧ (0 ≤ v ∧ v ≤ 9)) (fup (fup (M 50) (24 * a + b) v) (24 * b + a) v) (M 50)) ∧ (r = sel (((0 ≤ a ∧ a < F 1) ∧ (0 ≤ b ∧ b < F 1) ∧ ¬ a = b) ∧ (0 ≤ v ∧ v ≤ 9)) (M 50 (24 * a + b)) (-1)) ∧ XH E A B F (va_up M 50 m50) G T H)) := by
  refine cMet.of (by decide) (Nat.le_of_ble_eq_true rfl) (fun p e s m args below meth c C hnm hX hS ls hl => ?_)
  have C : Cx p s m args meth c A RX0 cX0_apart 5 (some .int) E := C
  have hX : XH E A B F M G T s.heap := hX
  have hl : lv_has ls 5 [(0, .ref (B 49 0)), (1, .int (zi a)), (2, .int (zi b)), (3, .int (zi v))] := hl
  generalize hH : s.heap = H at hX
  have hS : va_S A s.heap H [] := by rw [← hH]; exact hS
  generalize hlocs : ([] : List Loc) = locs at hS ⊢
  obtain ⟨QQ, hQQ⟩ : ∃ zQQ, MQ below (qi A (fun r H => ∃ m50 : Int → Int, (m50 = sel (((0 ≤ a ∧ a < F 1) ∧ (0 ≤ b ∧ b < F 1) ∧ ¬ a = b) ∧ (0 ≤ v ∧ v ≤ 9)) (fup (fup (M 50) (24 * a + b) v) (24 * b + a) v) (M 50)) ∧ (r = sel (((0 ≤ a ∧ a < F 1) ∧ (0 ≤ b ∧ b < F 1) ∧ ¬ a = b) ∧ (0 ≤ v ∧ v ≤ 9)) (M 50 (24 * a + b)) (-1)) ∧ XH E A B F (va_up M 50 m50) G T H)) args s (rm_X0_apart).cells (rm_X0_apart).slots A = zQQ := ⟨_, rfl⟩
  rw [hQQ]
  have rF1 : 0 ≤ F 1 ∧ F 1 ≤ 24 := hX.2.1 1 (0, 24) rfl
  refine lv_aload_n C.x C.b dX0_apart_0 rfl (lv_at hl 0 rfl) ?_
  refine lv_iload_n C.x C.b dX0_apart_1 rfl (lv_at hl 1 rfl) ?_
  refine r_callVi (As := [.int (zi a)]) (rest := []) (cells' := 0) (slots' := 0) C (met_X0_isForm l E A B F M G T a (show -2147483648 ≤ a ∧ a < 2147483648 from (by omega))) (lw_V q129 q131 qs0 q86 q133) hd_X0_isForm rfl (by decide) (x_this C hX) hX hS hl.1 rfl (Nat.le_of_ble_eq_true rfl) dX0_apart_2 rfl rfl ⟨Nat.le_of_ble_eq_true rfl, Nat.le_of_ble_eq_true rfl⟩ (fun rr H locs hp hS => ?_)
  obtain ⟨hrr, hX⟩ := hp
  have hrr : rr = bI (0 ≤ a ∧ a < (F 1)) := hrr
  subst hrr
  refine r_if_eq_b (tgt := 33) C dX0_apart_5 (by decide) (fun c_1 => ?_) (fun c_1 => ?_)
  · refine r_const C dX0_apart_33 ?_
    rw [← hQQ]
    exact r_iret C hS (Nat.le_of_ble_eq_true rfl) (Nat.le_of_ble_eq_true rfl) dX0_apart_34 ⟨(M 50), (by first | exact Eq.symm (sel_f (fun q => absurd q.1.1 (by assumption))) | exact Eq.symm (sel_f (fun q => absurd q.1.2.1 (by assumption))) | exact Eq.symm (sel_f (fun q => absurd (by assumption) q.1.2.2)) | exact Eq.symm (sel_f (fun q => absurd q.2 (by assumption)))), (by first | exact Eq.symm (sel_f (fun q => absurd q.1.1 (by assumption))) | exact Eq.symm (sel_f (fun q => absurd q.1.2.1 (by assumption))) | exact Eq.symm (sel_f (fun q => absurd (by assumption) q.1.2.2)) | exact Eq.symm (sel_f (fun q => absurd q.2 (by assumption)))), (hX.to rfl rfl ((up_id M (k := 50) (a := (M 50)) rfl).symm.trans rfl) rfl rfl)⟩
  · refine lv_aload_n C.x C.b dX0_apart_8 rfl (lv_at hl 0 rfl) ?_
    refine lv_iload_n C.x C.b dX0_apart_9 rfl (lv_at hl 2 rfl) ?_
    refine r_callVi (As := [.int (zi b)]) (rest := []) (cells' := 0) (slots' := 0) C (met_X0_isForm l E A B F M G T b (show -2147483648 ≤ b ∧ b < 2147483648 from (by omega))) (lw_V q129 q131 qs0 q86 q133) hd_X0_isForm rfl (by decide) (x_this C hX) hX hS hl.1 rfl (Nat.le_of_ble_eq_true rfl) dX0_apart_10 rfl rfl ⟨Nat.le_of_ble_eq_true rfl, Nat.le_of_ble_eq_true rfl⟩ (fun rr H locs hp hS => ?_)
    obtain ⟨hrr, hX⟩ := hp
    have hrr : rr = bI (0 ≤ b ∧ b < (F 1)) := hrr
    subst hrr
    refine r_if_eq_b (tgt := 33) C dX0_apart_13 (by decide) (fun c_2 => ?_) (fun c_2 => ?_)
    · refine r_const C dX0_apart_33 ?_
      rw [← hQQ]
      exact r_iret C hS (Nat.le_of_ble_eq_true rfl) (Nat.le_of_ble_eq_true rfl) dX0_apart_34 ⟨(M 50), (by first | exact Eq.symm (sel_f (fun q => absurd q.1.1 (by assumption))) | exact Eq.symm (sel_f (fun q => absurd q.1.2.1 (by assumption))) | exact Eq.symm (sel_f (fun q => absurd (by assumption) q.1.2.2)) | exact Eq.symm (sel_f (fun q => absurd q.2 (by assumption)))), (by first | exact Eq.symm (sel_f (fun q => absurd q.1.1 (by assumption))) | exact Eq.symm (sel_f (fun q => absurd q.1.2.1 (by assumption))) | exact Eq.symm (sel_f (fun q => absurd (by assumption) q.1.2.2)) | exact Eq.symm (sel_f (fun q => absurd q.2 (by assumption)))), (hX.to rfl rfl ((up_id M (k := 50) (a := (M 50)) rfl).symm.trans rfl) rfl rfl)⟩
    · refine lv_iload_n C.x C.b dX0_apart_16 rfl (lv_at hl 1 rfl) ?_
      refine lv_iload_n C.x C.b dX0_apart_17 rfl (lv_at hl 2 rfl) ?_
      refine r_icmp_eq (tgt := 33) C (by omega) (by omega) dX0_apart_18 (by decide) (fun c_3 => ?_) (fun c_3 => ?_)
      · refine r_const C dX0_apart_33 ?_
        rw [← hQQ]
        exact r_iret C hS (Nat.le_of_ble_eq_true rfl) (Nat.le_of_ble_eq_true rfl) dX0_apart_34 ⟨(M 50), (by first | exact Eq.symm (sel_f (fun q => absurd q.1.1 (by assumption))) | exact Eq.symm (sel_f (fun q => absurd q.1.2.1 (by assumption))) | exact Eq.symm (sel_f (fun q => absurd (by assumption) q.1.2.2)) | exact Eq.symm (sel_f (fun q => absurd q.2 (by assumption)))), (by first | exact Eq.symm (sel_f (fun q => absurd q.1.1 (by assumption))) | exact Eq.symm (sel_f (fun q => absurd q.1.2.1 (by assumption))) | exact Eq.symm (sel_f (fun q => absurd (by assumption) q.1.2.2)) | exact Eq.symm (sel_f (fun q => absurd q.2 (by assumption)))), (hX.to rfl rfl ((up_id M (k := 50) (a := (M 50)) rfl).symm.trans rfl) rfl rfl)⟩
      · refine lv_iload_n C.x C.b dX0_apart_21 rfl (lv_at hl 3 rfl) ?_
        refine r_i2l C (by omega) dX0_apart_22 ?_
        refine r_lconst C 0 rfl dX0_apart_23 ?_
        refine r_ldc2 C 9 (by decide) q253 dX0_apart_24 ?_
        refine r_callSi (As := [.long (zl v), .long (zl 0), .long (zl 9)]) (rest := []) (cells' := 0) (slots' := 0) C (met_X0_isIn l E A H v 0 9 (show -9223372036854775808 ≤ v ∧ v < 9223372036854775808 from (by omega)) (show -9223372036854775808 ≤ (0 : Int) ∧ (0 : Int) < 9223372036854775808 from (by omega)) (show -9223372036854775808 ≤ (9 : Int) ∧ (9 : Int) < 9223372036854775808 from (by omega))) (lw_S q117 q118 q86 q119) hd_X0_isIn rfl (by decide) rfl hS hl.1 rfl (Nat.le_of_ble_eq_true rfl) dX0_apart_27 rfl rfl ⟨Nat.le_of_ble_eq_true rfl, Nat.le_of_ble_eq_true rfl⟩ (fun rr H locs hp hS => ?_)
        obtain ⟨hrr, hH⟩ := hp
        have hrr : rr = bI ((0 : Int) ≤ v ∧ v ≤ (9 : Int)) := hrr
        subst hrr
        have hX : XH E A B F M G T H := by rw [hH]; exact hX
        refine r_if_ne_b (tgt := 35) C dX0_apart_30 (by decide) (fun c_4 => ?_) (fun c_4 => ?_)
        · refine lv_aload_n C.x C.b dX0_apart_35 rfl (lv_at hl 0 rfl) ?_
          refine x_ga C hX 4 (by decide) rfl q740 (fun _ h => h) dX0_apart_36 ?_
          refine lv_iload_n C.x C.b dX0_apart_39 rfl (lv_at hl 1 rfl) ?_
          refine x_la C hX 4 rfl rfl rfl (by decide) rfl rfl (show 0 ≤ a ∧ a < 24 from (by omega)) (by omega) (by decide) dX0_apart_40 ?_
          refine lv_iload_n C.x C.b dX0_apart_41 rfl (lv_at hl 2 rfl) ?_
          refine x_li C hX 50 rfl (by decide) rfl (show 0 ≤ a ∧ a < 24 from (by omega)) (show 0 ≤ b ∧ b < 24 from (by omega)) (by decide) (M 50 (24 * a + b)) rfl dX0_apart_42 (fun r42 => ?_)
          have r42 : 0 ≤ M 50 (24 * a + b) ∧ M 50 (24 * a + b) ≤ 9 := r42 (0, 9) rfl
          refine lv_istore (lv' := [(4, .int (zi (M 50 (24 * a + b)))), (0, .ref (B 49 0)), (1, .int (zi a)), (2, .int (zi b)), (3, .int (zi v))]) C.x C.b dX0_apart_43 hl (by decide) rfl (fun ls hl => ?_)
          refine lv_aload_n C.x C.b dX0_apart_45 rfl (lv_at hl 1 rfl) ?_
          refine x_ga C hX 4 (by decide) rfl q740 (fun _ h => h) dX0_apart_46 ?_
          refine lv_iload_n C.x C.b dX0_apart_49 rfl (lv_at hl 2 rfl) ?_
          refine x_la C hX 4 rfl rfl rfl (by decide) rfl rfl (show 0 ≤ a ∧ a < 24 from (by omega)) (by omega) (by decide) dX0_apart_50 ?_
          refine lv_iload_n C.x C.b dX0_apart_51 rfl (lv_at hl 3 rfl) ?_
          refine lv_iload_n C.x C.b dX0_apart_52 rfl (lv_at hl 4 rfl) ?_
          refine x_si C hX hS 50 rfl (by decide) rfl (show 0 ≤ a ∧ a < 24 from (by omega)) (show 0 ≤ b ∧ b < 24 from (by omega)) (by decide) (fun b hb => by cases hb; exact (show 0 ≤ v ∧ v ≤ 9 from (by omega))) (M' := (va_up M 50 (fup (M 50) (24 * a + b) v))) rfl dX0_apart_53 (fun H locs hX hS => ?_)
          refine lv_aload_n C.x C.b dX0_apart_54 rfl (lv_at hl 1 rfl) ?_
          refine x_ga C hX 4 (by decide) rfl q740 (fun _ h => h) dX0_apart_55 ?_
          refine lv_iload_n C.x C.b dX0_apart_58 rfl (lv_at hl 3 rfl) ?_
          refine x_la C hX 4 rfl rfl rfl (by decide) rfl rfl (show 0 ≤ b ∧ b < 24 from (by omega)) (by omega) (by decide) dX0_apart_59 ?_
          refine lv_iload_n C.x C.b dX0_apart_60 rfl (lv_at hl 2 rfl) ?_
          refine lv_iload_n C.x C.b dX0_apart_61 rfl (lv_at hl 4 rfl) ?_
          refine x_si C hX hS 50 rfl (by decide) rfl (show 0 ≤ b ∧ b < 24 from (by omega)) (show 0 ≤ a ∧ a < 24 from (by omega)) (by decide) (fun b hb => by cases hb; exact (show 0 ≤ v ∧ v ≤ 9 from (by omega))) (M' := (va_up M 50 (fup (fup (M 50) (24 * a + b) v) (24 * b + a) v))) (up_up _ _ _ _) dX0_apart_62 (fun H locs hX hS => ?_)
          refine lv_iload C.x C.b dX0_apart_63 (lv_at hl 0 rfl) ?_
          rw [← hQQ]
          exact r_iret C hS (Nat.le_of_ble_eq_true rfl) (Nat.le_of_ble_eq_true rfl) dX0_apart_65 ⟨(fup (fup (M 50) (24 * a + b) v) (24 * b + a) v), (Eq.symm (sel_t ⟨⟨by assumption, by assumption, by assumption⟩, by assumption⟩)), (Eq.symm (sel_t ⟨⟨by assumption, by assumption, by assumption⟩, by assumption⟩)), hX⟩
        · refine r_const C dX0_apart_33 ?_
          rw [← hQQ]
          exact r_iret C hS (Nat.le_of_ble_eq_true rfl) (Nat.le_of_ble_eq_true rfl) dX0_apart_34 ⟨(M 50), (by first | exact Eq.symm (sel_f (fun q => absurd q.1.1 (by assumption))) | exact Eq.symm (sel_f (fun q => absurd q.1.2.1 (by assumption))) | exact Eq.symm (sel_f (fun q => absurd (by assumption) q.1.2.2)) | exact Eq.symm (sel_f (fun q => absurd q.2 (by assumption)))), (by first | exact Eq.symm (sel_f (fun q => absurd q.1.1 (by assumption))) | exact Eq.symm (sel_f (fun q => absurd q.1.2.1 (by assumption))) | exact Eq.symm (sel_f (fun q => absurd (by assumption) q.1.2.2)) | exact Eq.symm (sel_f (fun q => absurd q.2 (by assumption)))), (hX.to rfl rfl ((up_id M (k := 50) (a := (M 50)) rfl).symm.trans rfl) rfl rfl)⟩

theorem hd_X0_quarrel : yX0_quarrel.cls = RX0 ∧ yX0_quarrel.cls ≠ "java/lang/invoke/MethodHandle" ∧ yX0_quarrel.cls ≠ "java/lang/invoke/VarHandle" ∧ (parseMethodDescriptor yX0_quarrel.desc).map (fun d => d.parameters.length) = some 0 := by decide +kernel
abbrev rm_X0_quarrel : Room := { frames := 0, cells := 0, slots := 0, locals := 0 }
set_option maxHeartbeats 8000000 in
theorem met_X0_quarrel (l : Launch) (E : us_E) (A : Nat → Prop) (B : Nat → Int → Nat) (F : Nat → Int) (M : Nat → Int → Int) (G : Nat → Int → Option Nat) (T : x_T) (hk0 : ∀ k : Int, 0 ≤ k → k < 576 → 0 ≤ M 51 k ∧ M 51 k ≤ 73728) : cMet l yX0_quarrel cX0_quarrel 6 (some .int) rm_X0_quarrel A E [.ref (B 49 0)] (fun H => XH E A B F M G T H) (qi A (fun r H => (0 ≤ qS (F 16) (fun i j => M 52 (24 * M 15 i + M 15 j)) (fun i j => M 51 (24 * M 15 i + M 15 j)) (M 17) ∧ qS (F 16) (fun i j => M 52 (24 * M 15 i + M 15 j)) (fun i j => M 51 (24 * M 15 i + M 15 j)) (M 17) ≤ 4718592) ∧ (r = qS (F 16) (fun i j => M 52 (24 * M 15 i + M 15 j)) (fun i j => M 51 (24 * M 15 i + M 15 j)) (M 17)) ∧ XH E A B F M G T H)) := by
  refine cMet.of (by decide) (Nat.le_of_ble_eq_true rfl) (fun p e s m args below meth c C hnm hX hS ls hl => ?_)
  have C : Cx p s m args meth c A RX0 cX0_quarrel 6 (some .int) E := C
  have hX : XH E A B F M G T s.heap := hX
  have hl : lv_has ls 6 [(0, .ref (B 49 0))] := hl
  generalize hH : s.heap = H at hX
  have hS : va_S A s.heap H [] := by rw [← hH]; exact hS
  generalize hlocs : ([] : List Loc) = locs at hS ⊢
  obtain ⟨QQ, hQQ⟩ : ∃ zQQ, MQ below (qi A (fun r H => (0 ≤ qS (F 16) (fun i j => M 52 (24 * M 15 i + M 15 j)) (fun i j => M 51 (24 * M 15 i + M 15 j)) (M 17) ∧ qS (F 16) (fun i j => M 52 (24 * M 15 i + M 15 j)) (fun i j => M 51 (24 * M 15 i + M 15 j)) (M 17) ≤ 4718592) ∧ (r = qS (F 16) (fun i j => M 52 (24 * M 15 i + M 15 j)) (fun i j => M 51 (24 * M 15 i + M 15 j)) (M 17)) ∧ XH E A B F M G T H)) args s (rm_X0_quarrel).cells (rm_X0_quarrel).slots A = zQQ := ⟨_, rfl⟩
  rw [hQQ]
  have rF16 : 0 ≤ F 16 ∧ F 16 ≤ 8 := hX.2.1 16 (0, 8) rfl
  have r15 : ∀ k, 0 ≤ M 15 k ∧ M 15 k ≤ 23 := fun k => hX.2.2.1 15 (0, 23) rfl k
  have r52 : ∀ k, 0 ≤ M 52 k ∧ M 52 k ≤ 9 := fun k => hX.2.2.1 52 (0, 9) rfl k
  refine r_const C dX0_quarrel_0 ?_
  refine lv_istore_n (lv' := [(1, .int (zi 0)), (0, .ref (B 49 0))]) C.x C.b dX0_quarrel_1 rfl hl (by decide) rfl (fun ls hl => ?_)
  refine r_const C dX0_quarrel_2 ?_
  refine lv_istore_n (lv' := [(2, .int (zi 0)), (1, .int (zi 0)), (0, .ref (B 49 0))]) C.x C.b dX0_quarrel_3 rfl hl (by decide) rfl (fun ls hl => ?_)
  have L4 : ∀ (fu : Nat) (v1 : Int) (v2 : Int) (h2 : 0 ≤ v2 ∧ v2 ≤ F 16) (hs : v1 = isum (fun i => isum (fun j => sel (M 17 i = M 17 j) (M 52 (24 * M 15 i + M 15 j)) (M 51 (24 * M 15 i + M 15 j))) i) v2) (hm : Int.toNat (F 16 - v2) < fu) (H : Heap) (locs : List Loc) (ls : Array Slot) (hX : XH E A B F M G T H) (hS : va_S A s.heap H locs) (hl : lv_has ls 6 [(0, .ref (B 49 0)), (1, .int (zi v1)), (2, .int (zi v2))]), W p l e rm_X0_quarrel s m args below meth c H locs 0 0 QQ (F0 m 4 ls []) := by
    intro fu
    induction fu with
    | zero => intro v1 v2 h2 hs hm; exact absurd hm (Nat.not_lt_zero _)
    | succ fu ih4 =>
      intro v1 v2 h2 hs hm H locs ls hX hS hl
      refine lv_iload_n C.x C.b dX0_quarrel_4 rfl (lv_at hl 2 rfl) ?_
      refine lv_aload_n C.x C.b dX0_quarrel_5 rfl (lv_at hl 0 rfl) ?_
      refine x_gi C hX 16 (by decide) rfl q752 (fun _ h => h) (F 16) rfl (b := (0, 8)) rfl dX0_quarrel_6 (fun _ => ?_)
      refine r_icmp_ge (tgt := 88) C (by omega) (by omega) dX0_quarrel_9 (by decide) (fun c_1 => ?_) (fun c_1 => ?_)
      · refine lv_iload_n C.x C.b dX0_quarrel_88 rfl (lv_at hl 1 rfl) ?_
        rw [← hQQ]
        exact r_iret C hS (Nat.le_of_ble_eq_true rfl) (Nat.le_of_ble_eq_true rfl) dX0_quarrel_89 ⟨(qS_r ⟨by omega, by omega⟩ (fun i j a b d => ⟨⟨(r52 _).1, by have := r52 (24 * M 15 i + M 15 j); omega⟩, hk0 _ (by have := r15 i; have := r15 j; omega) (by have := r15 i; have := r15 j; omega)⟩)), (by rw [hs, show v2 = F 16 by omega]; rfl), hX⟩
      · refine r_const C dX0_quarrel_12 ?_
        refine lv_istore_n (lv' := [(3, .int (zi 0)), (0, .ref (B 49 0)), (1, .int (zi v1)), (2, .int (zi v2))]) C.x C.b dX0_quarrel_13 rfl hl (by decide) rfl (fun ls hl => ?_)
        have L14 : ∀ (fu : Nat) (v1 : Int) (v3 : Int) (h3 : 0 ≤ v3 ∧ v3 ≤ v2) (hr : v1 = isum (fun i => isum (fun j => sel (M 17 i = M 17 j) (M 52 (24 * M 15 i + M 15 j)) (M 51 (24 * M 15 i + M 15 j))) i) v2 + isum (fun j => sel (M 17 v2 = M 17 j) (M 52 (24 * M 15 v2 + M 15 j)) (M 51 (24 * M 15 v2 + M 15 j))) v3) (hm : Int.toNat (v2 - v3) < fu) (H : Heap) (locs : List Loc) (ls : Array Slot) (hX : XH E A B F M G T H) (hS : va_S A s.heap H locs) (hl : lv_has ls 6 [(0, .ref (B 49 0)), (1, .int (zi v1)), (2, .int (zi v2)), (3, .int (zi v3))]), W p l e rm_X0_quarrel s m args below meth c H locs 0 0 QQ (F0 m 14 ls []) := by
          intro fu
          induction fu with
          | zero => intro v1 v3 h3 hr hm; exact absurd hm (Nat.not_lt_zero _)
          | succ fu ih14 =>
            intro v1 v3 h3 hr hm H locs ls hX hS hl
            refine lv_iload_n C.x C.b dX0_quarrel_14 rfl (lv_at hl 3 rfl) ?_
            refine lv_iload_n C.x C.b dX0_quarrel_15 rfl (lv_at hl 2 rfl) ?_
            refine r_icmp_ge (tgt := 82) C (by omega) (by omega) dX0_quarrel_16 (by decide) (fun c_2 => ?_) (fun c_2 => ?_)
            · refine r_iinc (lv' := [(2, .int (zi (v2 + 1))), (0, .ref (B 49 0)), (1, .int (zi v1)), (3, .int (zi v3))]) C dX0_quarrel_82 hl (k := 2) rfl (by decide) rfl (fun ls hl => ?_)
              refine lv_goto (tgt := 4) C.x C.b dX0_quarrel_85 (by decide) ?_
              exact ih4 v1 (v2 + 1) (by omega) (isum_out (f := fun j => sel (M 17 v2 = M 17 j) (M 52 (24 * M 15 v2 + M 15 j)) (M 51 (24 * M 15 v2 + M 15 j))) (N := v2) h2.1 hr (by omega) rfl) (by omega) H locs ls hX hS (lv_sub hl [1, 2, 0] rfl)
            · refine lv_aload_n C.x C.b dX0_quarrel_19 rfl (lv_at hl 0 rfl) ?_
              refine x_ga C hX 15 (by decide) rfl q751 (fun _ h => h) dX0_quarrel_20 ?_
              refine lv_iload_n C.x C.b dX0_quarrel_23 rfl (lv_at hl 2 rfl) ?_
              refine x_li1 C hX 15 rfl (by decide) rfl (show 0 ≤ v2 ∧ v2 < 8 from (by omega)) (by decide) (M 15 v2) rfl dX0_quarrel_24 (fun r24 => ?_)
              have r24 : 0 ≤ M 15 v2 ∧ M 15 v2 ≤ 23 := r24 (0, 23) rfl
              refine lv_istore (lv' := [(4, .int (zi (M 15 v2))), (0, .ref (B 49 0)), (1, .int (zi v1)), (2, .int (zi v2)), (3, .int (zi v3))]) C.x C.b dX0_quarrel_25 hl (by decide) rfl (fun ls hl => ?_)
              refine lv_aload_n C.x C.b dX0_quarrel_27 rfl (lv_at hl 1 rfl) ?_
              refine x_ga C hX 15 (by decide) rfl q751 (fun _ h => h) dX0_quarrel_28 ?_
              refine lv_iload_n C.x C.b dX0_quarrel_31 rfl (lv_at hl 4 rfl) ?_
              refine x_li1 C hX 15 rfl (by decide) rfl (show 0 ≤ v3 ∧ v3 < 8 from (by omega)) (by decide) (M 15 v3) rfl dX0_quarrel_32 (fun r32 => ?_)
              have r32 : 0 ≤ M 15 v3 ∧ M 15 v3 ≤ 23 := r32 (0, 23) rfl
              refine lv_istore (lv' := [(5, .int (zi (M 15 v3))), (4, .int (zi (M 15 v2))), (0, .ref (B 49 0)), (1, .int (zi v1)), (2, .int (zi v2)), (3, .int (zi v3))]) C.x C.b dX0_quarrel_33 hl (by decide) rfl (fun ls hl => ?_)
              refine lv_iload_n C.x C.b dX0_quarrel_35 rfl (lv_at hl 3 rfl) ?_
              refine lv_aload_n C.x C.b dX0_quarrel_36 rfl (lv_at hl 2 rfl) ?_
              refine x_ga C hX 17 (by decide) rfl q753 (fun _ h => h) dX0_quarrel_37 ?_
              refine lv_iload_n C.x C.b dX0_quarrel_40 rfl (lv_at hl 4 rfl) ?_
              refine x_li1 C hX 17 rfl (by decide) rfl (show 0 ≤ v2 ∧ v2 < 8 from (by omega)) (by decide) (M 17 v2) rfl dX0_quarrel_41 (fun r41 => ?_)
              have r41 : 0 ≤ M 17 v2 ∧ M 17 v2 ≤ 2 := r41 (0, 2) rfl
              refine lv_aload_n C.x C.b dX0_quarrel_42 rfl (lv_at hl 2 rfl) ?_
              refine x_ga C hX 17 (by decide) rfl q753 (fun _ h => h) dX0_quarrel_43 ?_
              refine lv_iload_n C.x C.b dX0_quarrel_46 rfl (lv_at hl 5 rfl) ?_
              refine x_li1 C hX 17 rfl (by decide) rfl (show 0 ≤ v3 ∧ v3 < 8 from (by omega)) (by decide) (M 17 v3) rfl dX0_quarrel_47 (fun r47 => ?_)
              have r47 : 0 ≤ M 17 v3 ∧ M 17 v3 ≤ 2 := r47 (0, 2) rfl
              have J74_3 : ∀ (t1 : Int) (ht1 : t1 = sel ((M 17 v2) = (M 17 v3)) (M 52 (24 * (M 15 v2) + (M 15 v3))) (M 51 (24 * (M 15 v2) + (M 15 v3)))) (H : Heap) (locs : List Loc) (ls : Array Slot) (hX : XH E A B F M G T H) (hS : va_S A s.heap H locs) (hl : lv_has ls 6 [(5, .int (zi (M 15 v3))), (4, .int (zi (M 15 v2))), (0, .ref (B 49 0)), (1, .int (zi v1)), (2, .int (zi v2)), (3, .int (zi v3))]), W p l e rm_X0_quarrel s m args below meth c H locs 0 0 QQ (F0 m 74 ls [.int (zi t1), .int (zi v1)]) := by
                intro t1 ht1 H locs ls hX hS hl
                subst ht1
                refine r_iadd C dX0_quarrel_74 ?_
                refine lv_istore_n (lv' := [(1, .int (zi (v1 + (sel ((M 17 v2) = (M 17 v3)) (M 52 (24 * (M 15 v2) + (M 15 v3))) (M 51 (24 * (M 15 v2) + (M 15 v3))))))), (5, .int (zi (M 15 v3))), (4, .int (zi (M 15 v2))), (0, .ref (B 49 0)), (2, .int (zi v2)), (3, .int (zi v3))]) C.x C.b dX0_quarrel_75 rfl hl (by decide) rfl (fun ls hl => ?_)
                refine r_iinc (lv' := [(3, .int (zi (v3 + 1))), (1, .int (zi (v1 + (sel ((M 17 v2) = (M 17 v3)) (M 52 (24 * (M 15 v2) + (M 15 v3))) (M 51 (24 * (M 15 v2) + (M 15 v3))))))), (5, .int (zi (M 15 v3))), (4, .int (zi (M 15 v2))), (0, .ref (B 49 0)), (2, .int (zi v2))]) C dX0_quarrel_76 hl (k := 5) rfl (by decide) rfl (fun ls hl => ?_)
                refine lv_goto (tgt := 14) C.x C.b dX0_quarrel_79 (by decide) ?_
                exact ih14 (v1 + (sel ((M 17 v2) = (M 17 v3)) (M 52 (24 * (M 15 v2) + (M 15 v3))) (M 51 (24 * (M 15 v2) + (M 15 v3))))) (v3 + 1) (by omega) (isum_st2 h3.1 hr rfl) (by omega) H locs ls hX hS (lv_sub hl [4, 1, 5, 0] rfl)
              refine r_icmp_ne (tgt := 64) C (by omega) (by omega) dX0_quarrel_48 (by decide) (fun c_4 => ?_) (fun c_4 => ?_)
              · refine lv_aload_n C.x C.b dX0_quarrel_64 rfl (lv_at hl 2 rfl) ?_
                refine x_ga C hX 13 (by decide) rfl q749 (fun _ h => h) dX0_quarrel_65 ?_
                refine lv_iload C.x C.b dX0_quarrel_68 (lv_at hl 1 rfl) ?_
                refine x_la C hX 13 rfl rfl rfl (by decide) rfl rfl (show 0 ≤ (M 15 v2) ∧ (M 15 v2) < 24 from (by omega)) (by omega) (by decide) dX0_quarrel_70 ?_
                refine lv_iload C.x C.b dX0_quarrel_71 (lv_at hl 0 rfl) ?_
                refine x_li C hX 51 rfl (by decide) rfl (show 0 ≤ (M 15 v2) ∧ (M 15 v2) < 24 from (by omega)) (show 0 ≤ (M 15 v3) ∧ (M 15 v3) < 24 from (by omega)) (by decide) (M 51 (24 * (M 15 v2) + (M 15 v3))) rfl dX0_quarrel_73 (fun _ => ?_)
                exact J74_3 (M 51 (24 * (M 15 v2) + (M 15 v3))) ((sel_f c_4).symm) H locs ls hX hS hl
              · refine lv_aload_n C.x C.b dX0_quarrel_51 rfl (lv_at hl 2 rfl) ?_
                refine x_ga C hX 14 (by decide) rfl q750 (fun _ h => h) dX0_quarrel_52 ?_
                refine lv_iload C.x C.b dX0_quarrel_55 (lv_at hl 1 rfl) ?_
                refine x_la C hX 14 rfl rfl rfl (by decide) rfl rfl (show 0 ≤ (M 15 v2) ∧ (M 15 v2) < 24 from (by omega)) (by omega) (by decide) dX0_quarrel_57 ?_
                refine lv_iload C.x C.b dX0_quarrel_58 (lv_at hl 0 rfl) ?_
                refine x_li C hX 52 rfl (by decide) rfl (show 0 ≤ (M 15 v2) ∧ (M 15 v2) < 24 from (by omega)) (show 0 ≤ (M 15 v3) ∧ (M 15 v3) < 24 from (by omega)) (by decide) (M 52 (24 * (M 15 v2) + (M 15 v3))) rfl dX0_quarrel_60 (fun r60 => ?_)
                have r60 : 0 ≤ M 52 (24 * (M 15 v2) + (M 15 v3)) ∧ M 52 (24 * (M 15 v2) + (M 15 v3)) ≤ 9 := r60 (0, 9) rfl
                refine lv_goto (tgt := 74) C.x C.b dX0_quarrel_61 (by decide) ?_
                exact J74_3 (M 52 (24 * (M 15 v2) + (M 15 v3))) ((sel_t c_4).symm) H locs ls hX hS hl
        exact L14 _ v1 0 (by omega) (by rw [hs]; exact (Int.add_zero _).symm) (Nat.lt_succ_self _) H locs ls hX hS (lv_sub hl [1, 2, 3, 0] rfl)
  exact L4 _ 0 0 (by omega) rfl (Nat.lt_succ_self _) H locs ls hX hS (lv_sub hl [2, 1, 0] rfl)

theorem hd_X0_layGrid : yX0_layGrid.cls = RX0 ∧ yX0_layGrid.cls ≠ "java/lang/invoke/MethodHandle" ∧ yX0_layGrid.cls ≠ "java/lang/invoke/VarHandle" ∧ (parseMethodDescriptor yX0_layGrid.desc).map (fun d => d.parameters.length) = some 1 := by decide +kernel
abbrev rm_X0_layGrid : Room := { frames := 4, cells := 0, slots := 0, locals := 99 }
set_option maxHeartbeats 8000000 in
theorem met_X0_layGrid (l : Launch) (E : us_E) (A : Nat → Prop) (B : Nat → Int → Nat) (F : Nat → Int) (M : Nat → Int → Int) (G : Nat → Int → Option Nat) (T : x_T) (n : Int) (hn : 1 ≤ n ∧ n ≤ 3) : cMet l yX0_layGrid cX0_layGrid 6 (some .int) rm_X0_layGrid A E [.ref (B 49 0), .int (zi n)] (fun H => XH E A B F M G T H) (qi A (fun r H => ∃ f12 : Int, ∃ f16 : Int, ∃ m3 : Int → Int, ∃ m9 : Int → Int, ∃ m10 : Int → Int, ∃ m11 : Int → Int, ∃ m15 : Int → Int, ∃ m17 : Int → Int, ∃ m18 : Int → Int, ∃ m51 : Int → Int, ∃ m52 : Int → Int, SgOK (F 1) (M 0) (F 2) m3 ∧ (∀ a b : Int, 0 ≤ a → a < 24 → 0 ≤ b → b < 24 → m51 (24 * a + b) = akS m3 (mtc (M 56)) (M 200) (F 6) a b) ∧ (∀ x u : Int, 0 ≤ x → x < 24 → 0 ≤ u → u < 24 → m52 (24 * x + u) = sel (x = u) 0 (apS (F 1) m3 (fun a b => M 50 (24 * a + b)) x u)) ∧ (f16 = gmS (GSx (F 1) (akS m3 (mtc (M 56)) (M 200) (F 6)) (apS (F 1) m3 (fun a b => M 50 (24 * a + b)))) (F 1)) ∧ (∀ k : Int, 0 ≤ k → k < f16 → m15 k = gsA (GSx (F 1) (akS m3 (mtc (M 56)) (M 200) (F 6)) (apS (F 1) m3 (fun a b => M 50 (24 * a + b)))) (F 1) k) ∧ (∀ i : Int, 0 ≤ i → i < f16 → m18 i = rkS n f16 (mnI (fun k => qS f16 (fun i j => apS (F 1) m3 (fun a b => M 50 (24 * a + b)) (gsA (GSx (F 1) (akS m3 (mtc (M 56)) (M 200) (F 6)) (apS (F 1) m3 (fun a b => M 50 (24 * a + b)))) (F 1) i) (gsA (GSx (F 1) (akS m3 (mtc (M 56)) (M 200) (F 6)) (apS (F 1) m3 (fun a b => M 50 (24 * a + b)))) (F 1) j)) (fun i j => akS m3 (mtc (M 56)) (M 200) (F 6) (gsA (GSx (F 1) (akS m3 (mtc (M 56)) (M 200) (F 6)) (apS (F 1) m3 (fun a b => M 50 (24 * a + b)))) (F 1) i) (gsA (GSx (F 1) (akS m3 (mtc (M 56)) (M 200) (F 6)) (apS (F 1) m3 (fun a b => M 50 (24 * a + b)))) (F 1) j)) (rkS n f16 k)) (rT n f16)) i) ∧ (0 ≤ (fun k => qS f16 (fun i j => apS (F 1) m3 (fun a b => M 50 (24 * a + b)) (gsA (GSx (F 1) (akS m3 (mtc (M 56)) (M 200) (F 6)) (apS (F 1) m3 (fun a b => M 50 (24 * a + b)))) (F 1) i) (gsA (GSx (F 1) (akS m3 (mtc (M 56)) (M 200) (F 6)) (apS (F 1) m3 (fun a b => M 50 (24 * a + b)))) (F 1) j)) (fun i j => akS m3 (mtc (M 56)) (M 200) (F 6) (gsA (GSx (F 1) (akS m3 (mtc (M 56)) (M 200) (F 6)) (apS (F 1) m3 (fun a b => M 50 (24 * a + b)))) (F 1) i) (gsA (GSx (F 1) (akS m3 (mtc (M 56)) (M 200) (F 6)) (apS (F 1) m3 (fun a b => M 50 (24 * a + b)))) (F 1) j)) (rkS n f16 k)) (mnI (fun k => qS f16 (fun i j => apS (F 1) m3 (fun a b => M 50 (24 * a + b)) (gsA (GSx (F 1) (akS m3 (mtc (M 56)) (M 200) (F 6)) (apS (F 1) m3 (fun a b => M 50 (24 * a + b)))) (F 1) i) (gsA (GSx (F 1) (akS m3 (mtc (M 56)) (M 200) (F 6)) (apS (F 1) m3 (fun a b => M 50 (24 * a + b)))) (F 1) j)) (fun i j => akS m3 (mtc (M 56)) (M 200) (F 6) (gsA (GSx (F 1) (akS m3 (mtc (M 56)) (M 200) (F 6)) (apS (F 1) m3 (fun a b => M 50 (24 * a + b)))) (F 1) i) (gsA (GSx (F 1) (akS m3 (mtc (M 56)) (M 200) (F 6)) (apS (F 1) m3 (fun a b => M 50 (24 * a + b)))) (F 1) j)) (rkS n f16 k)) (rT n f16)) ∧ (fun k => qS f16 (fun i j => apS (F 1) m3 (fun a b => M 50 (24 * a + b)) (gsA (GSx (F 1) (akS m3 (mtc (M 56)) (M 200) (F 6)) (apS (F 1) m3 (fun a b => M 50 (24 * a + b)))) (F 1) i) (gsA (GSx (F 1) (akS m3 (mtc (M 56)) (M 200) (F 6)) (apS (F 1) m3 (fun a b => M 50 (24 * a + b)))) (F 1) j)) (fun i j => akS m3 (mtc (M 56)) (M 200) (F 6) (gsA (GSx (F 1) (akS m3 (mtc (M 56)) (M 200) (F 6)) (apS (F 1) m3 (fun a b => M 50 (24 * a + b)))) (F 1) i) (gsA (GSx (F 1) (akS m3 (mtc (M 56)) (M 200) (F 6)) (apS (F 1) m3 (fun a b => M 50 (24 * a + b)))) (F 1) j)) (rkS n f16 k)) (mnI (fun k => qS f16 (fun i j => apS (F 1) m3 (fun a b => M 50 (24 * a + b)) (gsA (GSx (F 1) (akS m3 (mtc (M 56)) (M 200) (F 6)) (apS (F 1) m3 (fun a b => M 50 (24 * a + b)))) (F 1) i) (gsA (GSx (F 1) (akS m3 (mtc (M 56)) (M 200) (F 6)) (apS (F 1) m3 (fun a b => M 50 (24 * a + b)))) (F 1) j)) (fun i j => akS m3 (mtc (M 56)) (M 200) (F 6) (gsA (GSx (F 1) (akS m3 (mtc (M 56)) (M 200) (F 6)) (apS (F 1) m3 (fun a b => M 50 (24 * a + b)))) (F 1) i) (gsA (GSx (F 1) (akS m3 (mtc (M 56)) (M 200) (F 6)) (apS (F 1) m3 (fun a b => M 50 (24 * a + b)))) (F 1) j)) (rkS n f16 k)) (rT n f16)) ≤ 2147483647) ∧ (r = (fun k => qS f16 (fun i j => apS (F 1) m3 (fun a b => M 50 (24 * a + b)) (gsA (GSx (F 1) (akS m3 (mtc (M 56)) (M 200) (F 6)) (apS (F 1) m3 (fun a b => M 50 (24 * a + b)))) (F 1) i) (gsA (GSx (F 1) (akS m3 (mtc (M 56)) (M 200) (F 6)) (apS (F 1) m3 (fun a b => M 50 (24 * a + b)))) (F 1) j)) (fun i j => akS m3 (mtc (M 56)) (M 200) (F 6) (gsA (GSx (F 1) (akS m3 (mtc (M 56)) (M 200) (F 6)) (apS (F 1) m3 (fun a b => M 50 (24 * a + b)))) (F 1) i) (gsA (GSx (F 1) (akS m3 (mtc (M 56)) (M 200) (F 6)) (apS (F 1) m3 (fun a b => M 50 (24 * a + b)))) (F 1) j)) (rkS n f16 k)) (mnI (fun k => qS f16 (fun i j => apS (F 1) m3 (fun a b => M 50 (24 * a + b)) (gsA (GSx (F 1) (akS m3 (mtc (M 56)) (M 200) (F 6)) (apS (F 1) m3 (fun a b => M 50 (24 * a + b)))) (F 1) i) (gsA (GSx (F 1) (akS m3 (mtc (M 56)) (M 200) (F 6)) (apS (F 1) m3 (fun a b => M 50 (24 * a + b)))) (F 1) j)) (fun i j => akS m3 (mtc (M 56)) (M 200) (F 6) (gsA (GSx (F 1) (akS m3 (mtc (M 56)) (M 200) (F 6)) (apS (F 1) m3 (fun a b => M 50 (24 * a + b)))) (F 1) i) (gsA (GSx (F 1) (akS m3 (mtc (M 56)) (M 200) (F 6)) (apS (F 1) m3 (fun a b => M 50 (24 * a + b)))) (F 1) j)) (rkS n f16 k)) (rT n f16))) ∧ XH E A B (va_up (va_up F 12 f12) 16 f16) (va_up (va_up (va_up (va_up (va_up (va_up (va_up (va_up (va_up M 3 m3) 9 m9) 10 m10) 11 m11) 15 m15) 17 m17) 18 m18) 51 m51) 52 m52) G T H)) := by
  refine cMet.of (by decide) (Nat.le_of_ble_eq_true rfl) (fun p e s m args below meth c C hnm hX hS ls hl => ?_)
  have C : Cx p s m args meth c A RX0 cX0_layGrid 6 (some .int) E := C
  have hX : XH E A B F M G T s.heap := hX
  have hl : lv_has ls 6 [(0, .ref (B 49 0)), (1, .int (zi n))] := hl
  generalize hH : s.heap = H at hX
  have hS : va_S A s.heap H [] := by rw [← hH]; exact hS
  generalize hlocs : ([] : List Loc) = locs at hS ⊢
  obtain ⟨QQ, hQQ⟩ : ∃ zQQ, MQ below (qi A (fun r H => ∃ f12 : Int, ∃ f16 : Int, ∃ m3 : Int → Int, ∃ m9 : Int → Int, ∃ m10 : Int → Int, ∃ m11 : Int → Int, ∃ m15 : Int → Int, ∃ m17 : Int → Int, ∃ m18 : Int → Int, ∃ m51 : Int → Int, ∃ m52 : Int → Int, SgOK (F 1) (M 0) (F 2) m3 ∧ (∀ a b : Int, 0 ≤ a → a < 24 → 0 ≤ b → b < 24 → m51 (24 * a + b) = akS m3 (mtc (M 56)) (M 200) (F 6) a b) ∧ (∀ x u : Int, 0 ≤ x → x < 24 → 0 ≤ u → u < 24 → m52 (24 * x + u) = sel (x = u) 0 (apS (F 1) m3 (fun a b => M 50 (24 * a + b)) x u)) ∧ (f16 = gmS (GSx (F 1) (akS m3 (mtc (M 56)) (M 200) (F 6)) (apS (F 1) m3 (fun a b => M 50 (24 * a + b)))) (F 1)) ∧ (∀ k : Int, 0 ≤ k → k < f16 → m15 k = gsA (GSx (F 1) (akS m3 (mtc (M 56)) (M 200) (F 6)) (apS (F 1) m3 (fun a b => M 50 (24 * a + b)))) (F 1) k) ∧ (∀ i : Int, 0 ≤ i → i < f16 → m18 i = rkS n f16 (mnI (fun k => qS f16 (fun i j => apS (F 1) m3 (fun a b => M 50 (24 * a + b)) (gsA (GSx (F 1) (akS m3 (mtc (M 56)) (M 200) (F 6)) (apS (F 1) m3 (fun a b => M 50 (24 * a + b)))) (F 1) i) (gsA (GSx (F 1) (akS m3 (mtc (M 56)) (M 200) (F 6)) (apS (F 1) m3 (fun a b => M 50 (24 * a + b)))) (F 1) j)) (fun i j => akS m3 (mtc (M 56)) (M 200) (F 6) (gsA (GSx (F 1) (akS m3 (mtc (M 56)) (M 200) (F 6)) (apS (F 1) m3 (fun a b => M 50 (24 * a + b)))) (F 1) i) (gsA (GSx (F 1) (akS m3 (mtc (M 56)) (M 200) (F 6)) (apS (F 1) m3 (fun a b => M 50 (24 * a + b)))) (F 1) j)) (rkS n f16 k)) (rT n f16)) i) ∧ (0 ≤ (fun k => qS f16 (fun i j => apS (F 1) m3 (fun a b => M 50 (24 * a + b)) (gsA (GSx (F 1) (akS m3 (mtc (M 56)) (M 200) (F 6)) (apS (F 1) m3 (fun a b => M 50 (24 * a + b)))) (F 1) i) (gsA (GSx (F 1) (akS m3 (mtc (M 56)) (M 200) (F 6)) (apS (F 1) m3 (fun a b => M 50 (24 * a + b)))) (F 1) j)) (fun i j => akS m3 (mtc (M 56)) (M 200) (F 6) (gsA (GSx (F 1) (akS m3 (mtc (M 56)) (M 200) (F 6)) (apS (F 1) m3 (fun a b => M 50 (24 * a + b)))) (F 1) i) (gsA (GSx (F 1) (akS m3 (mtc (M 56)) (M 200) (F 6)) (apS (F 1) m3 (fun a b => M 50 (24 * a + b)))) (F 1) j)) (rkS n f16 k)) (mnI (fun k => qS f16 (fun i j => apS (F 1) m3 (fun a b => M 50 (24 * a + b)) (gsA (GSx (F 1) (akS m3 (mtc (M 56)) (M 200) (F 6)) (apS (F 1) m3 (fun a b => M 50 (24 * a + b)))) (F 1) i) (gsA (GSx (F 1) (akS m3 (mtc (M 56)) (M 200) (F 6)) (apS (F 1) m3 (fun a b => M 50 (24 * a + b)))) (F 1) j)) (fun i j => akS m3 (mtc (M 56)) (M 200) (F 6) (gsA (GSx (F 1) (akS m3 (mtc (M 56)) (M 200) (F 6)) (apS (F 1) m3 (fun a b => M 50 (24 * a + b)))) (F 1) i) (gsA (GSx (F 1) (akS m3 (mtc (M 56)) (M 200) (F 6)) (apS (F 1) m3 (fun a b => M 50 (24 * a + b)))) (F 1) j)) (rkS n f16 k)) (rT n f16)) ∧ (fun k => qS f16 (fun i j => apS (F 1) m3 (fun a b => M 50 (24 * a + b)) (gsA (GSx (F 1) (akS m3 (mtc (M 56)) (M 200) (F 6)) (apS (F 1) m3 (fun a b => M 50 (24 * a + b)))) (F 1) i) (gsA (GSx (F 1) (akS m3 (mtc (M 56)) (M 200) (F 6)) (apS (F 1) m3 (fun a b => M 50 (24 * a + b)))) (F 1) j)) (fun i j => akS m3 (mtc (M 56)) (M 200) (F 6) (gsA (GSx (F 1) (akS m3 (mtc (M 56)) (M 200) (F 6)) (apS (F 1) m3 (fun a b => M 50 (24 * a + b)))) (F 1) i) (gsA (GSx (F 1) (akS m3 (mtc (M 56)) (M 200) (F 6)) (apS (F 1) m3 (fun a b => M 50 (24 * a + b)))) (F 1) j)) (rkS n f16 k)) (mnI (fun k => qS f16 (fun i j => apS (F 1) m3 (fun a b => M 50 (24 * a + b)) (gsA (GSx (F 1) (akS m3 (mtc (M 56)) (M 200) (F 6)) (apS (F 1) m3 (fun a b => M 50 (24 * a + b)))) (F 1) i) (gsA (GSx (F 1) (akS m3 (mtc (M 56)) (M 200) (F 6)) (apS (F 1) m3 (fun a b => M 50 (24 * a + b)))) (F 1) j)) (fun i j => akS m3 (mtc (M 56)) (M 200) (F 6) (gsA (GSx (F 1) (akS m3 (mtc (M 56)) (M 200) (F 6)) (apS (F 1) m3 (fun a b => M 50 (24 * a + b)))) (F 1) i) (gsA (GSx (F 1) (akS m3 (mtc (M 56)) (M 200) (F 6)) (apS (F 1) m3 (fun a b => M 50 (24 * a + b)))) (F 1) j)) (rkS n f16 k)) (rT n f16)) ≤ 2147483647) ∧ (r = (fun k => qS f16 (fun i j => apS (F 1) m3 (fun a b => M 50 (24 * a + b)) (gsA (GSx (F 1) (akS m3 (mtc (M 56)) (M 200) (F 6)) (apS (F 1) m3 (fun a b => M 50 (24 * a + b)))) (F 1) i) (gsA (GSx (F 1) (akS m3 (mtc (M 56)) (M 200) (F 6)) (apS (F 1) m3 (fun a b => M 50 (24 * a + b)))) (F 1) j)) (fun i j => akS m3 (mtc (M 56)) (M 200) (F 6) (gsA (GSx (F 1) (akS m3 (mtc (M 56)) (M 200) (F 6)) (apS (F 1) m3 (fun a b => M 50 (24 * a + b)))) (F 1) i) (gsA (GSx (F 1) (akS m3 (mtc (M 56)) (M 200) (F 6)) (apS (F 1) m3 (fun a b => M 50 (24 * a + b)))) (F 1) j)) (rkS n f16 k)) (mnI (fun k => qS f16 (fun i j => apS (F 1) m3 (fun a b => M 50 (24 * a + b)) (gsA (GSx (F 1) (akS m3 (mtc (M 56)) (M 200) (F 6)) (apS (F 1) m3 (fun a b => M 50 (24 * a + b)))) (F 1) i) (gsA (GSx (F 1) (akS m3 (mtc (M 56)) (M 200) (F 6)) (apS (F 1) m3 (fun a b => M 50 (24 * a + b)))) (F 1) j)) (fun i j => akS m3 (mtc (M 56)) (M 200) (F 6) (gsA (GSx (F 1) (akS m3 (mtc (M 56)) (M 200) (F 6)) (apS (F 1) m3 (fun a b => M 50 (24 * a + b)))) (F 1) i) (gsA (GSx (F 1) (akS m3 (mtc (M 56)) (M 200) (F 6)) (apS (F 1) m3 (fun a b => M 50 (24 * a + b)))) (F 1) j)) (rkS n f16 k)) (rT n f16))) ∧ XH E A B (va_up (va_up F 12 f12) 16 f16) (va_up (va_up (va_up (va_up (va_up (va_up (va_up (va_up (va_up M 3 m3) 9 m9) 10 m10) 11 m11) 15 m15) 17 m17) 18 m18) 51 m51) 52 m52) G T H)) args s (rm_X0_layGrid).cells (rm_X0_layGrid).slots A = zQQ := ⟨_, rfl⟩
  rw [hQQ]
  have rF1 : 0 ≤ F 1 ∧ F 1 ≤ 24 := hX.2.1 1 (0, 24) rfl
  have rF6 : 0 ≤ F 6 ∧ F 6 ≤ 8 := hX.2.1 6 (0, 8) rfl
  have rF16 : 0 ≤ F 16 ∧ F 16 ≤ 8 := hX.2.1 16 (0, 8) rfl
  have h24 : ∀ t, 0 ≤ M 200 t ∧ M 200 t ≤ 24 := fun t => hX.2.2.1 200 (0, 24) rfl t
  have hcl : ∀ q, -2 ≤ M 56 q ∧ M 56 q ≤ 23 := fun q => hX.2.2.1 56 (-2, 23) rfl q
  have hs3 : ∀ q, 0 ≤ M 3 q ∧ M 3 q ≤ 23 := fun q => hX.2.2.1 3 (0, 23) rfl q
  refine lv_aload_n C.x C.b dX0_layGrid_0 rfl (lv_at hl 0 rfl) ?_
  refine r_callVv (As := []) (rest := []) (cells' := 0) (slots' := 0) C (met_X0_layAkin l E A B F M G T) (lw_V q233 q235 qs10 q86 q236) hd_X0_layAkin rfl (by decide) (x_this C hX) hX hS hl.1 rfl (Nat.le_of_ble_eq_true rfl) dX0_layGrid_1 rfl rfl ⟨Nat.le_of_ble_eq_true rfl, Nat.le_of_ble_eq_true rfl⟩ (fun H locs hp hS => ?_)
  obtain ⟨wn, sg, w9, w10, w11, ak, apt, hsg, hak, hap, hX⟩ := hp
  replace hsg : SgOK ((F 1)) ((M 0)) ((F 2)) sg := hsg
  replace hak : ∀ a b : Int, 0 ≤ a → a < 24 → 0 ≤ b → b < 24 → ak (24 * a + b) = akS sg (mtc ((M 56))) ((M 200)) ((F 6)) a b := hak
  replace hap : ∀ x u : Int, 0 ≤ x → x < 24 → 0 ≤ u → u < 24 → apt (24 * x + u) = sel (x = u) 0 (apS ((F 1)) sg (fun a b => (M 50) (24 * a + b)) x u) := hap
  have hX : XH E A B (va_up F 12 wn) (va_up (va_up (va_up (va_up (va_up (va_up M 3 sg) 9 w9) 10 w10) 11 w11) 51 ak) 52 apt) G T H := hX.to rfl rfl ((congrArg (fun z => va_up z 52 apt) ((congrArg (fun z => va_up z 51 ak) ((congrArg (fun z => va_up z 11 w11) ((congrArg (fun z => va_up z 10 w10) ((congrArg (fun z => va_up z 9 w9) rfl).trans rfl)).trans rfl)).trans rfl)).trans rfl)).trans rfl) rfl rfl
  have hk0 : ∀ k : Int, 0 ≤ k → k < 576 → 0 ≤ ak k ∧ ak k ≤ 73728 := fun k a b => by
    have e : k = 24 * (k / 24) + k % 24 := by omega
    rw [e, hak _ _ (by omega) (by omega) (by omega) (by omega)]
    exact akS_r h24 rF6
  refine lv_aload_n C.x C.b dX0_layGrid_4 rfl (lv_at hl 0 rfl) ?_
  refine r_const C dX0_layGrid_5 ?_
  refine x_pi C hX hS 16 (by decide) rfl (by decide) rfl rfl q752 (fun _ h => h) (b := (0, 8)) rfl (show 0 ≤ 0 ∧ 0 ≤ 8 from (by omega)) (F' := (va_up (va_up F 12 wn) 16 0)) rfl dX0_layGrid_6 (fun H locs hX hS => ?_)
  refine r_const C dX0_layGrid_9 ?_
  refine lv_istore_n (lv' := [(2, .int (zi 0)), (0, .ref (B 49 0)), (1, .int (zi n))]) C.x C.b dX0_layGrid_10 rfl hl (by decide) rfl (fun ls hl => ?_)
  have L11 : ∀ (fu : Nat) (v2 : Int) (f16 : Int) (m15 : Int → Int) (h2 : 0 ≤ v2 ∧ v2 ≤ F 1) (hg : f16 = gmS (GSx (F 1) (akS sg (mtc (M 56)) (M 200) (F 6)) (apS (F 1) sg (fun a b => M 50 (24 * a + b)))) v2) (hgs : ∀ k : Int, 0 ≤ k → k < f16 → m15 k = gsA (GSx (F 1) (akS sg (mtc (M 56)) (M 200) (F 6)) (apS (F 1) sg (fun a b => M 50 (24 * a + b)))) v2 k) (hm : Int.toNat (F 1 - v2) < fu) (H : Heap) (locs : List Loc) (ls : Array Slot) (hX : XH E A B (va_up (va_up F 12 wn) 16 f16) (va_up (va_up (va_up (va_up (va_up (va_up (va_up M 3 sg) 9 w9) 10 w10) 11 w11) 15 m15) 51 ak) 52 apt) G T H) (hS : va_S A s.heap H locs) (hl : lv_has ls 6 [(0, .ref (B 49 0)), (1, .int (zi n)), (2, .int (zi v2))]), W p l e rm_X0_layGrid s m args below meth c H locs 0 0 QQ (F0 m 11 ls []) := by
    intro fu
    induction fu with
    | zero => intro v2 f16 m15 h2 hg hgs hm; exact absurd hm (Nat.not_lt_zero _)
    | succ fu ih11 =>
      intro v2 f16 m15 h2 hg hgs hm H locs ls hX hS hl
      refine lv_iload_n C.x C.b dX0_layGrid_11 rfl (lv_at hl 2 rfl) ?_
      refine lv_aload_n C.x C.b dX0_layGrid_12 rfl (lv_at hl 0 rfl) ?_
      refine x_gi C hX 1 (by decide) rfl q737 (fun _ h => h) (F 1) rfl (b := (0, 24)) rfl dX0_layGrid_13 (fun _ => ?_)
      have J100_1 : ∀ (hgmF : f16 = gmS (GSx (F 1) (akS sg (mtc (M 56)) (M 200) (F 6)) (apS (F 1) sg (fun a b => M 50 (24 * a + b)))) (F 1)) (hgsF : ∀ k : Int, 0 ≤ k → k < f16 → m15 k = gsA (GSx (F 1) (akS sg (mtc (M 56)) (M 200) (F 6)) (apS (F 1) sg (fun a b => M 50 (24 * a + b)))) (F 1) k) (H : Heap) (locs : List Loc) (ls : Array Slot) (hX : XH E A B (va_up (va_up F 12 wn) 16 f16) (va_up (va_up (va_up (va_up (va_up (va_up (va_up M 3 sg) 9 w9) 10 w10) 11 w11) 15 m15) 51 ak) 52 apt) G T H) (hS : va_S A s.heap H locs) (hl : lv_has ls 6 [(0, .ref (B 49 0)), (1, .int (zi n)), (2, .int (zi v2))]), W p l e rm_X0_layGrid s m args below meth c H locs 0 0 QQ (F0 m 100 ls []) := by
        intro hgmF hgsF H locs ls hX hS hl
        have hg8 := gmS_r (P := (GSx (F 1) (akS sg (mtc (M 56)) (M 200) (F 6)) (apS (F 1) sg (fun a b => M 50 (24 * a + b))))) (n := F 1) rF1.1
        rw [← hgmF] at hg8
        refine lv_aload_n C.x C.b dX0_layGrid_100 rfl (lv_at hl 0 rfl) ?_
        refine x_ga C hX 17 (by decide) rfl q753 (fun _ h => h) dX0_layGrid_101 ?_
        refine r_const C dX0_layGrid_104 ?_
        refine r_callSv (As := [.ref (B 17 0), .int (zi 0)]) (rest := []) (cells' := 0) (slots' := 0) C (met_fill1 l E A B (va_up (va_up F 12 wn) 16 f16) (va_up (va_up (va_up (va_up (va_up (va_up (va_up M 3 sg) 9 w9) 10 w10) 11 w11) 15 m15) 51 ak) 52 apt) G T 17 8 0 rfl (by decide) (by decide) (fun b hb => by cases hb; exact (show 0 ≤ 0 ∧ 0 ≤ 2 from (by omega)))) (lw_S q223 q224 q100 q225) hd_J10_fill rfl (by decide) hX hS hl.1 rfl (Nat.le_of_ble_eq_true rfl) dX0_layGrid_105 rfl rfl ⟨Nat.le_of_ble_eq_true rfl, Nat.le_of_ble_eq_true rfl⟩ (fun H locs hp hS => ?_)
        have hX : XH E A B (va_up (va_up F 12 wn) 16 f16) (va_up (va_up (va_up (va_up (va_up (va_up (va_up (va_up M 3 sg) 9 w9) 10 w10) 11 w11) 15 m15) 17 (ffill (M 17) 0 8 0)) 51 ak) 52 apt) G T H := hp.to rfl rfl (up_in (by decide) (up_in (by decide) rfl)) rfl rfl
        refine r_ldc C 2147483647 (by decide) q262 dX0_layGrid_108 ?_
        refine lv_istore_n (lv' := [(2, .int (zi 2147483647)), (0, .ref (B 49 0)), (1, .int (zi n))]) C.x C.b dX0_layGrid_110 rfl hl (by decide) rfl (fun ls hl => ?_)
        have vl0 : vl n (ffill (M 17) 0 8 0) f16 = 0 := (vl_cg (g := fun _ => 0) hg8.1 (fun j a b => ffill_in ⟨a, by omega⟩)).trans (vl_0 hg8.1)
        refine r_const C dX0_layGrid_111 ?_
        refine lv_istore_n (lv' := [(3, .int (zi 1)), (2, .int (zi 2147483647)), (0, .ref (B 49 0)), (1, .int (zi n))]) C.x C.b dX0_layGrid_112 rfl hl (by decide) rfl (fun ls hl => ?_)
        have L113 : ∀ (fu : Nat) (v2_113 : Int) (v3 : Prop) (xv3 : Int) (hv3 : xv3 = bI v3) (m17 : Int → Int) (m18 : Int → Int) (hv2 : 0 ≤ v2_113 ∧ v2_113 ≤ 2147483647) (hT : Bx (v3 → (Dg n m17 f16 ∧ ((vl n m17 f16) = 0 → v2_113 = 2147483647) ∧ (0 < (vl n m17 f16) → (v2_113 = (fun k => qS f16 (fun i j => apt (24 * m15 i + m15 j)) (fun i j => ak (24 * m15 i + m15 j)) (rkS n f16 k)) (mnI (fun k => qS f16 (fun i j => apt (24 * m15 i + m15 j)) (fun i j => ak (24 * m15 i + m15 j)) (rkS n f16 k)) (vl n m17 f16)) ∧ ∀ i : Int, 0 ≤ i → i < f16 → m18 i = rkS n f16 (mnI (fun k => qS f16 (fun i j => apt (24 * m15 i + m15 j)) (fun i j => ak (24 * m15 i + m15 j)) (rkS n f16 k)) (vl n m17 f16)) i))))) (hF : Bx (¬ v3 → (v2_113 = (fun k => qS f16 (fun i j => apt (24 * m15 i + m15 j)) (fun i j => ak (24 * m15 i + m15 j)) (rkS n f16 k)) (mnI (fun k => qS f16 (fun i j => apt (24 * m15 i + m15 j)) (fun i j => ak (24 * m15 i + m15 j)) (rkS n f16 k)) (rT n f16)) ∧ ∀ i : Int, 0 ≤ i → i < f16 → m18 i = rkS n f16 (mnI (fun k => qS f16 (fun i j => apt (24 * m15 i + m15 j)) (fun i j => ak (24 * m15 i + m15 j)) (rkS n f16 k)) (rT n f16)) i))) (hm : Int.toNat (sel v3 (rT n f16 - (vl n m17 f16) + 1) 0) < fu) (H : Heap) (locs : List Loc) (ls : Array Slot) (hX : XH E A B (va_up (va_up F 12 wn) 16 f16) (va_up (va_up (va_up (va_up (va_up (va_up (va_up (va_up (va_up M 3 sg) 9 w9) 10 w10) 11 w11) 15 m15) 17 m17) 18 m18) 51 ak) 52 apt) G T H) (hS : va_S A s.heap H locs) (hl : lv_has ls 6 [(0, .ref (B 49 0)), (1, .int (zi n)), (2, .int (zi v2_113)), (3, .int (zi xv3))]), W p l e rm_X0_layGrid s m args below meth c H locs 0 0 QQ (F0 m 113 ls []) := by
          intro fu
          induction fu with
          | zero => intro v2_113 v3 xv3 hv3 m17 m18 hv2 hT hF hm; exact absurd hm (Nat.not_lt_zero _)
          | succ fu ih113 =>
            intro v2_113 v3 xv3 hv3 m17 m18 hv2 hT hF hm H locs ls hX hS hl
            subst hv3
            refine lv_iload_n C.x C.b dX0_layGrid_113 rfl (lv_at hl 3 rfl) ?_
            refine r_if_eq_b (tgt := 216) C dX0_layGrid_114 (by decide) (fun c_2 => ?_) (fun c_2 => ?_)
            · refine lv_iload_n C.x C.b dX0_layGrid_216 rfl (lv_at hl 2 rfl) ?_
              have hFF := hF.o (by assumption)
              have eqg : (fun k => qS f16 (fun i j => apt (24 * m15 i + m15 j)) (fun i j => ak (24 * m15 i + m15 j)) (rkS n f16 k)) = (fun k => qS f16 (fun i j => apS (F 1) sg (fun a b => M 50 (24 * a + b)) (gsA (GSx (F 1) (akS sg (mtc (M 56)) (M 200) (F 6)) (apS (F 1) sg (fun a b => M 50 (24 * a + b)))) (F 1) i) (gsA (GSx (F 1) (akS sg (mtc (M 56)) (M 200) (F 6)) (apS (F 1) sg (fun a b => M 50 (24 * a + b)))) (F 1) j)) (fun i j => akS sg (mtc (M 56)) (M 200) (F 6) (gsA (GSx (F 1) (akS sg (mtc (M 56)) (M 200) (F 6)) (apS (F 1) sg (fun a b => M 50 (24 * a + b)))) (F 1) i) (gsA (GSx (F 1) (akS sg (mtc (M 56)) (M 200) (F 6)) (apS (F 1) sg (fun a b => M 50 (24 * a + b)))) (F 1) j)) (rkS n f16 k)) := funext (fun k => qS_cg (fun _ _ _ => rfl) (fun i j a b d => by
                have gi := gsA_r (P := (GSx (F 1) (akS sg (mtc (M 56)) (M 200) (F 6)) (apS (F 1) sg (fun a b => M 50 (24 * a + b))))) (k := i) rF1.1 ⟨by omega, by omega⟩
                have gj := gsA_r (P := (GSx (F 1) (akS sg (mtc (M 56)) (M 200) (F 6)) (apS (F 1) sg (fun a b => M 50 (24 * a + b))))) (k := j) rF1.1 ⟨by omega, by omega⟩
                have gl := gsA_inj (P := (GSx (F 1) (akS sg (mtc (M 56)) (M 200) (F 6)) (apS (F 1) sg (fun a b => M 50 (24 * a + b))))) (j := j) (k := i) rF1.1 ⟨a, b⟩ (by omega)
                refine ⟨?_, ?_⟩
                · show apt (24 * m15 i + m15 j) = _
                  rw [hgsF i (by omega) d, hgsF j a (by omega), hap _ _ gi.1 (by omega) gj.1 (by omega), sel_f (by omega)]
                · show ak (24 * m15 i + m15 j) = _
                  rw [hgsF i (by omega) d, hgsF j a (by omega), hak _ _ gi.1 (by omega) gj.1 (by omega)]))
              rw [eqg] at hFF
              rw [← hQQ]
              exact r_iret C hS (Nat.le_of_ble_eq_true rfl) (Nat.le_of_ble_eq_true rfl) dX0_layGrid_217 ⟨wn, f16, sg, w9, w10, w11, m15, m17, m18, ak, apt, hsg, hak, hap, hgmF, hgsF, hFF.2, (by rw [← hFF.1]; exact hv2), hFF.1, hX⟩
            · have ht3 : v3 := by assumption
              have hTT := hT.o ht3
              have hDg := hTT.1
              have hk1 := rT_lt hg8.1 hn.1 hDg
              have hm29 := hm
              refine lv_aload_n C.x C.b dX0_layGrid_117 rfl (lv_at hl 0 rfl) ?_
              refine r_callVi (As := []) (rest := []) (cells' := 0) (slots' := 0) C (met_X0_quarrel l E A B (va_up (va_up F 12 wn) 16 f16) (va_up (va_up (va_up (va_up (va_up (va_up (va_up (va_up (va_up M 3 sg) 9 w9) 10 w10) 11 w11) 15 m15) 17 m17) 18 m18) 51 ak) 52 apt) G T (show ∀ k : Int, 0 ≤ k → k < 576 → 0 ≤ ak k ∧ ak k ≤ 73728 from hk0)) (lw_V q263 q265 qs15 q86 q266) hd_X0_quarrel rfl (by decide) (x_this C hX) hX hS hl.1 rfl (Nat.le_of_ble_eq_true rfl) dX0_layGrid_118 rfl rfl ⟨Nat.le_of_ble_eq_true rfl, Nat.le_of_ble_eq_true rfl⟩ (fun rr H locs hp hS => ?_)
              obtain ⟨hqr, hrr, hX⟩ := hp
              have hrr : rr = qS (f16) (fun i j => apt (24 * m15 i + m15 j)) (fun i j => ak (24 * m15 i + m15 j)) (m17) := hrr
              subst hrr
              replace hqr : 0 ≤ qS (f16) (fun i j => apt (24 * m15 i + m15 j)) (fun i j => ak (24 * m15 i + m15 j)) (m17) ∧ qS (f16) (fun i j => apt (24 * m15 i + m15 j)) (fun i j => ak (24 * m15 i + m15 j)) (m17) ≤ 4718592 := hqr
              refine lv_istore (lv' := [(4, .int (zi (qS (f16) (fun i j => apt (24 * m15 i + m15 j)) (fun i j => ak (24 * m15 i + m15 j)) (m17)))), (0, .ref (B 49 0)), (1, .int (zi n)), (2, .int (zi v2_113)), (3, .int (zi (bI v3)))]) C.x C.b dX0_layGrid_121 hl (by decide) rfl (fun ls hl => ?_)
              obtain ⟨qv, hqv⟩ : ∃ z : Int, z = qS (f16) (fun i j => apt (24 * m15 i + m15 j)) (fun i j => ak (24 * m15 i + m15 j)) (m17) := ⟨_, rfl⟩
              rw [← hqv] at hl
              rw [← hqv] at hqr
              have hqg : qv = (fun k => qS f16 (fun i j => apt (24 * m15 i + m15 j)) (fun i j => ak (24 * m15 i + m15 j)) (rkS n f16 k)) (vl n m17 f16) := hqv.trans (qS_cg (fun i a b => rkS_g hg8.1 hDg i a b) (fun i j a b d => ⟨rfl, rfl⟩))
              have hpos : ¬ qv < v2_113 → 0 < (vl n m17 f16) := fun q => by
                rcases Int.lt_or_le 0 (vl n m17 f16) with w | w
                · exact w
                · have := hTT.2.1 (by omega); omega
              have hupd := fun z : qv < v2_113 => mn_up (g := (fun k => qS f16 (fun i j => apt (24 * m15 i + m15 j)) (fun i j => ak (24 * m15 i + m15 j)) (rkS n f16 k))) (b := v2_113) hk1.1 hqg (fun q => (hTT.2.2 q).1) (Or.inr z)
              have hnou := fun (z : ¬ qv < v2_113) => mn_no (g := (fun k => qS f16 (fun i j => apt (24 * m15 i + m15 j)) (fun i j => ak (24 * m15 i + m15 j)) (rkS n f16 k))) (hpos z) hqg (hTT.2.2 (hpos z)).1 z
              refine lv_iload C.x C.b dX0_layGrid_123 (lv_at hl 0 rfl) ?_
              refine lv_iload_n C.x C.b dX0_layGrid_125 rfl (lv_at hl 3 rfl) ?_
              have J147_3 : ∀ (z2 : Int) (z18 : Int → Int) (hz2 : 0 ≤ z2 ∧ z2 ≤ 2147483647) (hz : z2 = (fun k => qS f16 (fun i j => apt (24 * m15 i + m15 j)) (fun i j => ak (24 * m15 i + m15 j)) (rkS n f16 k)) (mnI (fun k => qS f16 (fun i j => apt (24 * m15 i + m15 j)) (fun i j => ak (24 * m15 i + m15 j)) (rkS n f16 k)) ((vl n m17 f16) + 1)) ∧ ∀ i : Int, 0 ≤ i → i < f16 → z18 i = rkS n f16 (mnI (fun k => qS f16 (fun i j => apt (24 * m15 i + m15 j)) (fun i j => ak (24 * m15 i + m15 j)) (rkS n f16 k)) ((vl n m17 f16) + 1)) i) (H : Heap) (locs : List Loc) (ls : Array Slot) (hX : XH E A B (va_up (va_up F 12 wn) 16 f16) (va_up (va_up (va_up (va_up (va_up (va_up (va_up (va_up (va_up M 3 sg) 9 w9) 10 w10) 11 w11) 15 m15) 17 m17) 18 z18) 51 ak) 52 apt) G T H) (hS : va_S A s.heap H locs) (hl : lv_has ls 6 [(4, .int (zi qv)), (0, .ref (B 49 0)), (1, .int (zi n)), (2, .int (zi z2)), (3, .int (zi (bI v3)))]), W p l e rm_X0_layGrid s m args below meth c H locs 0 0 QQ (F0 m 147 ls []) := by
                intro z2 z18 hz2 hz H locs ls hX hS hl
                refine lv_aload_n C.x C.b dX0_layGrid_147 rfl (lv_at hl 1 rfl) ?_
                refine x_gi C hX 16 (by decide) rfl q752 (fun _ h => h) f16 rfl (b := (0, 8)) rfl dX0_layGrid_148 (fun r148 => ?_)
                have r148 : 0 ≤ f16 ∧ f16 ≤ 8 := r148
                refine r_const C dX0_layGrid_151 ?_
                refine r_isub C dX0_layGrid_152 ?_
                refine lv_istore (lv' := [(5, .int (zi (f16 - 1))), (4, .int (zi qv)), (0, .ref (B 49 0)), (1, .int (zi n)), (2, .int (zi z2)), (3, .int (zi (bI v3)))]) C.x C.b dX0_layGrid_153 hl (by decide) rfl (fun ls hl => ?_)
                have L155 : ∀ (fu : Nat) (v5 : Int) (m17_155 : Int → Int) (h5 : -1 ≤ v5 ∧ v5 ≤ f16 - 1) (hR : ∀ j : Int, v5 < j → j < f16 → m17 j = n - 1 ∧ m17_155 j = 0) (hS_ : ∀ j : Int, 0 ≤ j → j ≤ v5 → m17_155 j = m17 j) (hm : Int.toNat (v5 + 1) < fu) (H : Heap) (locs : List Loc) (ls : Array Slot) (hX : XH E A B (va_up (va_up F 12 wn) 16 f16) (va_up (va_up (va_up (va_up (va_up (va_up (va_up (va_up (va_up M 3 sg) 9 w9) 10 w10) 11 w11) 15 m15) 17 m17_155) 18 z18) 51 ak) 52 apt) G T H) (hS : va_S A s.heap H locs) (hl : lv_has ls 6 [(0, .ref (B 49 0)), (1, .int (zi n)), (2, .int (zi z2)), (3, .int (zi (bI v3))), (4, .int (zi qv)), (5, .int (zi v5))]), W p l e rm_X0_layGrid s m args below meth c H locs 0 0 QQ (F0 m 155 ls []) := by
                  intro fu
                  induction fu with
                  | zero => intro v5 m17_155 h5 hR hS_ hm; exact absurd hm (Nat.not_lt_zero _)
                  | succ fu ih155 =>
                    intro v5 m17_155 h5 hR hS_ hm H locs ls hX hS hl
                    refine lv_iload C.x C.b dX0_layGrid_155 (lv_at hl 5 rfl) ?_
                    refine r_if_lt (tgt := 187) C (by omega) dX0_layGrid_157 (by decide) (fun c_4 => ?_) (fun c_4 => ?_)
                    · have hall := fun (z : v5 < 0) => rT_end (R := n) (n := f16) (f := m17) hg8.1 (fun j a b => (hR j (by omega) b).1)
                      have hupv := fun (z : 0 ≤ v5) => vl_up (R := n) (f := m17) (g := fup m17_155 v5 (m17_155 v5 + 1)) (n := f16) (i := v5) ⟨z, by omega⟩ (fun j a b => by rw [fup_n _ _ (by omega)]; exact hS_ j a (by omega)) (by rw [fup_s, hS_ v5 z (by omega)]) (fun j a b => ⟨(hR j a b).1, by rw [fup_n _ _ (by omega)]; exact (hR j a b).2⟩)
                      have hdgv := fun (z : 0 ≤ v5) (z2 : ¬ m17_155 v5 = n - 1) => hDg.up (i := v5) (g := fup m17_155 v5 (m17_155 v5 + 1)) ⟨z, by omega⟩ (fun j a b => by rw [fup_n _ _ (by omega)]; exact hS_ j a (by omega)) (by rw [fup_s, hS_ v5 z (by omega)]) (by rw [← hS_ v5 z (by omega)]; exact z2) (fun j a b => by rw [fup_n _ _ (by omega)]; exact (hR j a b).2) hn.1
                      refine lv_iload C.x C.b dX0_layGrid_187 (lv_at hl 5 rfl) ?_
                      refine r_if_lt (tgt := 196) C (by omega) dX0_layGrid_189 (by decide) (fun c_5 => ?_) (fun c_5 => ?_)
                      · refine r_const C dX0_layGrid_196 ?_
                        refine lv_istore_n (lv' := [(3, .int (zi 0)), (0, .ref (B 49 0)), (1, .int (zi n)), (2, .int (zi z2)), (4, .int (zi qv)), (5, .int (zi v5))]) C.x C.b dX0_layGrid_197 rfl hl (by decide) rfl (fun ls hl => ?_)
                        refine lv_iload_n C.x C.b dX0_layGrid_198 rfl (lv_at hl 0 rfl) ?_
                        refine r_if_eq (tgt := 213) C (by decide) dX0_layGrid_199 (by decide) (fun c_6 => ?_) (fun c_6 => ?_)
                        · first
                          | have hstF : z2 = (fun k => qS f16 (fun i j => apt (24 * m15 i + m15 j)) (fun i j => ak (24 * m15 i + m15 j)) (rkS n f16 k)) (mnI (fun k => qS f16 (fun i j => apt (24 * m15 i + m15 j)) (fun i j => ak (24 * m15 i + m15 j)) (rkS n f16 k)) (rT n f16)) ∧ ∀ i : Int, 0 ≤ i → i < f16 → z18 i = rkS n f16 (mnI (fun k => qS f16 (fun i j => apt (24 * m15 i + m15 j)) (fun i j => ak (24 * m15 i + m15 j)) (rkS n f16 k)) (rT n f16)) i := by rw [← hall (by omega)]; exact hz
                          | (have hup := hupv (by omega); have hstT : Dg n (fup m17_155 v5 (m17_155 v5 + 1)) f16 ∧ (vl n (fup m17_155 v5 (m17_155 v5 + 1)) f16 = 0 → z2 = 2147483647) ∧ (0 < vl n (fup m17_155 v5 (m17_155 v5 + 1)) f16 → (z2 = (fun k => qS f16 (fun i j => apt (24 * m15 i + m15 j)) (fun i j => ak (24 * m15 i + m15 j)) (rkS n f16 k)) (mnI (fun k => qS f16 (fun i j => apt (24 * m15 i + m15 j)) (fun i j => ak (24 * m15 i + m15 j)) (rkS n f16 k)) (vl n (fup m17_155 v5 (m17_155 v5 + 1)) f16)) ∧ ∀ i : Int, 0 ≤ i → i < f16 → z18 i = rkS n f16 (mnI (fun k => qS f16 (fun i j => apt (24 * m15 i + m15 j)) (fun i j => ak (24 * m15 i + m15 j)) (rkS n f16 k)) (vl n (fup m17_155 v5 (m17_155 v5 + 1)) f16)) i)) := by
                              refine ⟨hdgv (by omega) (by assumption), fun q => ?_, fun q => ?_⟩
                              · rw [hup] at q; omega
                              · rw [hup]; exact hz)
                          refine lv_goto (tgt := 113) C.x C.b dX0_layGrid_213 (by decide) ?_
                          exact ih113 z2 False 0 bI_F.symm m17_155 z18 (by omega) (Bx.i (fun q => by first | exact absurd q id | exact hstT)) (Bx.i (fun q => by first | exact absurd trivial q | exact hstF)) (by rw [sel_t ht3] at hm29; have hk1b := hk1.2; first | (rw [sel_f id]; omega) | (rw [sel_t trivial, hup]; omega)) H locs ls hX hS (lv_sub hl [1, 2, 3, 0] rfl)
                        · exact absurd (by decide) c_6
                      · exact absurd c_4 c_5
                    · refine lv_aload_n C.x C.b dX0_layGrid_160 rfl (lv_at hl 0 rfl) ?_
                      refine x_ga C hX 17 (by decide) rfl q753 (fun _ h => h) dX0_layGrid_161 ?_
                      refine lv_iload C.x C.b dX0_layGrid_164 (lv_at hl 5 rfl) ?_
                      refine x_li1 C hX 17 rfl (by decide) rfl (show 0 ≤ v5 ∧ v5 < 8 from (by omega)) (by decide) (m17_155 v5) rfl dX0_layGrid_166 (fun r166 => ?_)
                      have r166 : 0 ≤ m17_155 v5 ∧ m17_155 v5 ≤ 2 := r166 (0, 2) rfl
                      refine lv_iload_n C.x C.b dX0_layGrid_167 rfl (lv_at hl 1 rfl) ?_
                      refine r_const C dX0_layGrid_168 ?_
                      refine r_isub C dX0_layGrid_169 ?_
                      refine r_icmp_ne (tgt := 187) C (by omega) (by omega) dX0_layGrid_170 (by decide) (fun c_7 => ?_) (fun c_7 => ?_)
                      · have hall := fun (z : v5 < 0) => rT_end (R := n) (n := f16) (f := m17) hg8.1 (fun j a b => (hR j (by omega) b).1)
                        have hupv := fun (z : 0 ≤ v5) => vl_up (R := n) (f := m17) (g := fup m17_155 v5 (m17_155 v5 + 1)) (n := f16) (i := v5) ⟨z, by omega⟩ (fun j a b => by rw [fup_n _ _ (by omega)]; exact hS_ j a (by omega)) (by rw [fup_s, hS_ v5 z (by omega)]) (fun j a b => ⟨(hR j a b).1, by rw [fup_n _ _ (by omega)]; exact (hR j a b).2⟩)
                        have hdgv := fun (z : 0 ≤ v5) (z2 : ¬ m17_155 v5 = n - 1) => hDg.up (i := v5) (g := fup m17_155 v5 (m17_155 v5 + 1)) ⟨z, by omega⟩ (fun j a b => by rw [fup_n _ _ (by omega)]; exact hS_ j a (by omega)) (by rw [fup_s, hS_ v5 z (by omega)]) (by rw [← hS_ v5 z (by omega)]; exact z2) (fun j a b => by rw [fup_n _ _ (by omega)]; exact (hR j a b).2) hn.1
                        refine lv_iload C.x C.b dX0_layGrid_187 (lv_at hl 5 rfl) ?_
                        refine r_if_lt (tgt := 196) C (by omega) dX0_layGrid_189 (by decide) (fun c_8 => ?_) (fun c_8 => ?_)
                        · exact absurd c_8 c_4
                        · refine r_const C dX0_layGrid_192 ?_
                          refine lv_goto (tgt := 197) C.x C.b dX0_layGrid_193 (by decide) ?_
                          refine lv_istore_n (lv' := [(3, .int (zi 1)), (0, .ref (B 49 0)), (1, .int (zi n)), (2, .int (zi z2)), (4, .int (zi qv)), (5, .int (zi v5))]) C.x C.b dX0_layGrid_197 rfl hl (by decide) rfl (fun ls hl => ?_)
                          refine lv_iload_n C.x C.b dX0_layGrid_198 rfl (lv_at hl 0 rfl) ?_
                          refine r_if_eq (tgt := 213) C (by decide) dX0_layGrid_199 (by decide) (fun c_9 => ?_) (fun c_9 => ?_)
                          · exact absurd c_9 (by decide)
                          · have hdv := hDg v5 (by omega) (by omega)
                            have hsv5 := hS_ v5 (by omega) (Int.le_refl _)
                            refine lv_aload_n C.x C.b dX0_layGrid_202 rfl (lv_at hl 1 rfl) ?_
                            refine x_ga C hX 17 (by decide) rfl q753 (fun _ h => h) dX0_layGrid_203 ?_
                            refine lv_iload C.x C.b dX0_layGrid_206 (lv_at hl 5 rfl) ?_
                            refine lv_dup2_11 C.x C.b dX0_layGrid_208 rfl rfl ?_
                            refine x_li1 C hX 17 rfl (by decide) rfl (show 0 ≤ v5 ∧ v5 < 8 from (by omega)) (by decide) (m17_155 v5) rfl dX0_layGrid_209 (fun _ => ?_)
                            refine r_const C dX0_layGrid_210 ?_
                            refine r_iadd C dX0_layGrid_211 ?_
                            refine x_si1 C hX hS 17 rfl (by decide) rfl (show 0 ≤ v5 ∧ v5 < 8 from (by omega)) (by decide) (fun b hb => by cases hb; exact (show 0 ≤ (m17_155 v5) + 1 ∧ (m17_155 v5) + 1 ≤ 2 from (by omega))) (M' := (va_up (va_up (va_up (va_up (va_up (va_up (va_up (va_up (va_up M 3 sg) 9 w9) 10 w10) 11 w11) 15 m15) 17 (fup m17_155 v5 ((m17_155 v5) + 1))) 18 z18) 51 ak) 52 apt)) (up_in (by decide) (up_in (by decide) (up_in (by decide) (up_up _ _ _ _)))) dX0_layGrid_212 (fun H locs hX hS => ?_)
                            first
                            | have hstF : z2 = (fun k => qS f16 (fun i j => apt (24 * m15 i + m15 j)) (fun i j => ak (24 * m15 i + m15 j)) (rkS n f16 k)) (mnI (fun k => qS f16 (fun i j => apt (24 * m15 i + m15 j)) (fun i j => ak (24 * m15 i + m15 j)) (rkS n f16 k)) (rT n f16)) ∧ ∀ i : Int, 0 ≤ i → i < f16 → z18 i = rkS n f16 (mnI (fun k => qS f16 (fun i j => apt (24 * m15 i + m15 j)) (fun i j => ak (24 * m15 i + m15 j)) (rkS n f16 k)) (rT n f16)) i := by rw [← hall (by omega)]; exact hz
                            | (have hup := hupv (by omega); have hstT : Dg n (fup m17_155 v5 (m17_155 v5 + 1)) f16 ∧ (vl n (fup m17_155 v5 (m17_155 v5 + 1)) f16 = 0 → z2 = 2147483647) ∧ (0 < vl n (fup m17_155 v5 (m17_155 v5 + 1)) f16 → (z2 = (fun k => qS f16 (fun i j => apt (24 * m15 i + m15 j)) (fun i j => ak (24 * m15 i + m15 j)) (rkS n f16 k)) (mnI (fun k => qS f16 (fun i j => apt (24 * m15 i + m15 j)) (fun i j => ak (24 * m15 i + m15 j)) (rkS n f16 k)) (vl n (fup m17_155 v5 (m17_155 v5 + 1)) f16)) ∧ ∀ i : Int, 0 ≤ i → i < f16 → z18 i = rkS n f16 (mnI (fun k => qS f16 (fun i j => apt (24 * m15 i + m15 j)) (fun i j => ak (24 * m15 i + m15 j)) (rkS n f16 k)) (vl n (fup m17_155 v5 (m17_155 v5 + 1)) f16)) i)) := by
                                refine ⟨hdgv (by omega) (by assumption), fun q => ?_, fun q => ?_⟩
                                · rw [hup] at q; omega
                                · rw [hup]; exact hz)
                            refine lv_goto (tgt := 113) C.x C.b dX0_layGrid_213 (by decide) ?_
                            exact ih113 z2 True 1 bI_T.symm (fup m17_155 v5 ((m17_155 v5) + 1)) z18 (by omega) (Bx.i (fun q => by first | exact absurd q id | exact hstT)) (Bx.i (fun q => by first | exact absurd trivial q | exact hstF)) (by rw [sel_t ht3] at hm29; have hk1b := hk1.2; first | (rw [sel_f id]; omega) | (rw [sel_t trivial, hup]; omega)) H locs ls hX hS (lv_sub hl [1, 2, 3, 0] rfl)
                      · refine lv_aload_n C.x C.b dX0_layGrid_173 rfl (lv_at hl 0 rfl) ?_
                        refine x_ga C hX 17 (by decide) rfl q753 (fun _ h => h) dX0_layGrid_174 ?_
                        refine lv_iload C.x C.b dX0_layGrid_177 (lv_at hl 5 rfl) ?_
                        refine r_const C dX0_layGrid_179 ?_
                        refine x_si1 C hX hS 17 rfl (by decide) rfl (show 0 ≤ v5 ∧ v5 < 8 from (by omega)) (by decide) (fun b hb => by cases hb; exact (show 0 ≤ 0 ∧ 0 ≤ 2 from (by omega))) (M' := (va_up (va_up (va_up (va_up (va_up (va_up (va_up (va_up (va_up M 3 sg) 9 w9) 10 w10) 11 w11) 15 m15) 17 (fup m17_155 v5 0)) 18 z18) 51 ak) 52 apt)) (up_in (by decide) (up_in (by decide) (up_in (by decide) (up_up _ _ _ _)))) dX0_layGrid_180 (fun H locs hX hS => ?_)
                        refine r_iinc (lv' := [(5, .int (zi (v5 + (-1)))), (0, .ref (B 49 0)), (1, .int (zi n)), (2, .int (zi z2)), (3, .int (zi (bI v3))), (4, .int (zi qv))]) C dX0_layGrid_181 hl (k := 5) rfl (by decide) rfl (fun ls hl => ?_)
                        refine lv_goto (tgt := 155) C.x C.b dX0_layGrid_184 (by decide) ?_
                        exact ih155 (v5 + (-1)) (fup m17_155 v5 0) (by omega) (fun j a b => by
                                by_cases q : j = v5
                                · rw [q, fup_s]; exact ⟨by rw [← hS_ v5 (by omega) (by omega)]; assumption, rfl⟩
                                · rw [fup_n _ _ q]; exact hR j (by omega) b) (fun j a b => by rw [fup_n _ _ (by omega)]; exact hS_ j a (by omega)) (by omega) H locs ls hX hS (lv_sub hl [1, 2, 3, 4, 5, 0] rfl)
                exact L155 _ (f16 - 1) m17 (by omega) (fun j a b => absurd a (by omega)) (fun _ _ _ => rfl) (Nat.lt_succ_self _) H locs ls hX hS (lv_sub hl [2, 3, 4, 5, 1, 0] rfl)
              refine r_icmp_ge (tgt := 147) C (by omega) (by omega) dX0_layGrid_126 (by decide) (fun c_10 => ?_) (fun c_10 => ?_)
              · exact J147_3 v2_113 m18 (by omega) (by first | exact ⟨(hupd (by assumption)).1, fun i a b => by rw [(hupd (by assumption)).2, ← rkS_g hg8.1 hDg i a b]; exact acp_in ⟨a, by omega⟩⟩ | exact ⟨(hnou (by assumption)).1, fun i a b => by rw [(hnou (by assumption)).2]; exact (hTT.2.2 (hpos (by assumption))).2 i a b⟩) H locs ls hX hS hl
              · refine lv_iload C.x C.b dX0_layGrid_129 (lv_at hl 0 rfl) ?_
                refine lv_istore_n (lv' := [(2, .int (zi qv)), (4, .int (zi qv)), (0, .ref (B 49 0)), (1, .int (zi n)), (3, .int (zi (bI v3)))]) C.x C.b dX0_layGrid_131 rfl hl (by decide) rfl (fun ls hl => ?_)
                refine lv_aload_n C.x C.b dX0_layGrid_132 rfl (lv_at hl 2 rfl) ?_
                refine x_ga C hX 17 (by decide) rfl q753 (fun _ h => h) dX0_layGrid_133 ?_
                refine r_const C dX0_layGrid_136 ?_
                refine lv_aload_n C.x C.b dX0_layGrid_137 rfl (lv_at hl 2 rfl) ?_
                refine x_ga C hX 18 (by decide) rfl q754 (fun _ h => h) dX0_layGrid_138 ?_
                refine r_const C dX0_layGrid_141 ?_
                refine r_bipush C (by decide) dX0_layGrid_142 ?_
                refine x_acopy C hX hS hl.1 17 18 (n := 8) rfl rfl (by decide) (by decide) (by decide) (fun b hb j => by cases hb; exact hX.2.2.1 17 (0, 2) rfl j) q267 q269 q268 q101 (Nat.le_of_ble_eq_true rfl) (Nat.le_of_ble_eq_true rfl) dX0_layGrid_144 (M' := (va_up (va_up (va_up (va_up (va_up (va_up (va_up (va_up (va_up M 3 sg) 9 w9) 10 w10) 11 w11) 15 m15) 17 m17) 18 (acp m17 m18 8)) 51 ak) 52 apt)) (up_in (by decide) (up_in (by decide) (up_up _ _ _ _))) (fun H locs hX hS => ?_)
                exact J147_3 qv (acp m17 m18 8) (by omega) (by first | exact ⟨(hupd (by assumption)).1, fun i a b => by rw [(hupd (by assumption)).2, ← rkS_g hg8.1 hDg i a b]; exact acp_in ⟨a, by omega⟩⟩ | exact ⟨(hnou (by assumption)).1, fun i a b => by rw [(hnou (by assumption)).2]; exact (hTT.2.2 (hpos (by assumption))).2 i a b⟩) H locs ls hX hS (lv_sub hl [1, 2, 3, 0, 4] rfl)
        exact L113 _ 2147483647 True 1 bI_T.symm (ffill (M 17) 0 8 0) (M 18) (by omega) (Bx.i (fun _ => ⟨fun j a b => by rw [ffill_in ⟨a, by omega⟩]; omega, fun _ => rfl, fun z => absurd z (by rw [vl0]; omega)⟩)) (Bx.i (fun q => absurd trivial q)) (Nat.lt_succ_self _) H locs ls (hX.to rfl rfl ((up_id (va_up (va_up (va_up (va_up (va_up (va_up (va_up (va_up M 3 sg) 9 w9) 10 w10) 11 w11) 15 m15) 17 (ffill (M 17) 0 8 0)) 51 ak) 52 apt) (k := 18) (a := (M 18)) rfl).symm.trans (up_in (by decide) (up_in (by decide) rfl))) rfl rfl) hS (lv_sub hl [2, 3, 1, 0] rfl)
      refine r_icmp_ge (tgt := 100) C (by omega) (by omega) dX0_layGrid_16 (by decide) (fun c_11 => ?_) (fun c_11 => ?_)
      · exact J100_1 (by first | exact (gs_rest h2.1 h2.2 hg hgs (by omega)).1 | (have e : v2 = F 1 := (by omega); rw [e] at hg; exact hg)) (by first | exact (gs_rest h2.1 h2.2 hg hgs (by omega)).2 | (have e : v2 = F 1 := (by omega); rw [e] at hgs; exact hgs)) H locs ls hX hS hl
      · refine lv_aload_n C.x C.b dX0_layGrid_19 rfl (lv_at hl 0 rfl) ?_
        refine x_gi C hX 16 (by decide) rfl q752 (fun _ h => h) f16 rfl (b := (0, 8)) rfl dX0_layGrid_20 (fun r20 => ?_)
        have r20 : 0 ≤ f16 ∧ f16 ≤ 8 := r20
        refine r_bipush C (by decide) dX0_layGrid_23 ?_
        refine r_icmp_ge (tgt := 100) C (by omega) (by decide) dX0_layGrid_25 (by decide) (fun c_12 => ?_) (fun c_12 => ?_)
        · exact J100_1 (by first | exact (gs_rest h2.1 h2.2 hg hgs (by omega)).1 | (have e : v2 = F 1 := (by omega); rw [e] at hg; exact hg)) (by first | exact (gs_rest h2.1 h2.2 hg hgs (by omega)).2 | (have e : v2 = F 1 := (by omega); rw [e] at hgs; exact hgs)) H locs ls hX hS hl
        · refine r_const C dX0_layGrid_28 ?_
          refine lv_istore_n (lv' := [(3, .int (zi 0)), (0, .ref (B 49 0)), (1, .int (zi n)), (2, .int (zi v2))]) C.x C.b dX0_layGrid_29 rfl hl (by decide) rfl (fun ls hl => ?_)
          refine r_const C dX0_layGrid_30 ?_
          refine lv_istore (lv' := [(4, .int (zi 0)), (3, .int (zi 0)), (0, .ref (B 49 0)), (1, .int (zi n)), (2, .int (zi v2))]) C.x C.b dX0_layGrid_31 hl (by decide) rfl (fun ls hl => ?_)
          have L33 : ∀ (fu : Nat) (v3 : Int) (v4 : Int) (h4 : 0 ≤ v4 ∧ v4 ≤ F 1) (hs3 : v3 = isum (fun j => ak (24 * v2 + j) + apt (24 * v2 + j)) v4) (hm : Int.toNat (F 1 - v4) < fu) (H : Heap) (locs : List Loc) (ls : Array Slot) (hX : XH E A B (va_up (va_up F 12 wn) 16 f16) (va_up (va_up (va_up (va_up (va_up (va_up (va_up M 3 sg) 9 w9) 10 w10) 11 w11) 15 m15) 51 ak) 52 apt) G T H) (hS : va_S A s.heap H locs) (hl : lv_has ls 6 [(0, .ref (B 49 0)), (1, .int (zi n)), (2, .int (zi v2)), (3, .int (zi v3)), (4, .int (zi v4))]), W p l e rm_X0_layGrid s m args below meth c H locs 0 0 QQ (F0 m 33 ls []) := by
            intro fu
            induction fu with
            | zero => intro v3 v4 h4 hs3 hm; exact absurd hm (Nat.not_lt_zero _)
            | succ fu ih33 =>
              intro v3 v4 h4 hs3 hm H locs ls hX hS hl
              refine lv_iload C.x C.b dX0_layGrid_33 (lv_at hl 4 rfl) ?_
              refine lv_aload_n C.x C.b dX0_layGrid_35 rfl (lv_at hl 0 rfl) ?_
              refine x_gi C hX 1 (by decide) rfl q737 (fun _ h => h) (F 1) rfl (b := (0, 24)) rfl dX0_layGrid_36 (fun _ => ?_)
              refine r_icmp_ge (tgt := 70) C (by omega) (by omega) dX0_layGrid_39 (by decide) (fun c_13 => ?_) (fun c_13 => ?_)
              · have hs4 : v3 = isum (fun j => ak (24 * v2 + j) + apt (24 * v2 + j)) (F 1) := by rw [hs3, show v4 = F 1 by omega]
                have r52 : ∀ k, 0 ≤ apt k ∧ apt k ≤ 9 := fun k => hX.2.2.1 52 (0, 9) rfl k
                have hs5 := isum_le (f := (fun j => ak (24 * v2 + j) + apt (24 * v2 + j))) (b := 73737) rF1.1 (fun j a b => by have := hk0 (24 * v2 + j) (by omega) (by omega); have := r52 (24 * v2 + j); show 0 ≤ ak (24 * v2 + j) + apt (24 * v2 + j) ∧ ak (24 * v2 + j) + apt (24 * v2 + j) ≤ 73737; omega)
                rw [← hs4] at hs5
                have hPv : 0 < v3 ↔ (GSx (F 1) (akS sg (mtc (M 56)) (M 200) (F 6)) (apS (F 1) sg (fun a b => M 50 (24 * a + b)))) v2 := by
                  rw [hs4]
                  exact gs_sum rF1.1 (fun j a b => by show ak (24 * v2 + j) + apt (24 * v2 + j) = _; rw [hak v2 j (by omega) (by omega) a (by omega), hap v2 j (by omega) (by omega) a (by omega)]) (fun j => (akS_r h24 rF6).1) (fun j a b => by rw [← hap v2 j (by omega) (by omega) a (by omega)]; exact (r52 _).1)
                refine lv_iload_n C.x C.b dX0_layGrid_70 rfl (lv_at hl 3 rfl) ?_
                refine r_if_le (tgt := 94) C (by omega) dX0_layGrid_71 (by decide) (fun c_14 => ?_) (fun c_14 => ?_)
                · refine r_iinc (lv' := [(2, .int (zi (v2 + 1))), (0, .ref (B 49 0)), (1, .int (zi n)), (3, .int (zi v3)), (4, .int (zi v4))]) C dX0_layGrid_94 hl (k := 2) rfl (by decide) rfl (fun ls hl => ?_)
                  refine lv_goto (tgt := 11) C.x C.b dX0_layGrid_97 (by decide) ?_
                  exact ih11 (v2 + 1) f16 m15 (by omega) (by first | exact (gs_yes h2.1 hg hgs (hPv.1 (by assumption)) (by omega)).1 | exact (gs_no h2.1 hg hgs (fun z => absurd (hPv.2 z.1) (by assumption))).1) (by first | exact (gs_yes h2.1 hg hgs (hPv.1 (by assumption)) (by omega)).2 | exact (gs_no h2.1 hg hgs (fun z => absurd (hPv.2 z.1) (by assumption))).2) (by omega) H locs ls hX hS (lv_sub hl [1, 2, 0] rfl)
                · refine lv_aload_n C.x C.b dX0_layGrid_74 rfl (lv_at hl 0 rfl) ?_
                  refine x_ga C hX 15 (by decide) rfl q751 (fun _ h => h) dX0_layGrid_75 ?_
                  refine lv_aload_n C.x C.b dX0_layGrid_78 rfl (lv_at hl 0 rfl) ?_
                  refine x_gi C hX 16 (by decide) rfl q752 (fun _ h => h) f16 rfl (b := (0, 8)) rfl dX0_layGrid_79 (fun _ => ?_)
                  refine lv_iload_n C.x C.b dX0_layGrid_82 rfl (lv_at hl 2 rfl) ?_
                  refine x_si1 C hX hS 15 rfl (by decide) rfl (show 0 ≤ f16 ∧ f16 < 8 from (by omega)) (by decide) (fun b hb => by cases hb; exact (show 0 ≤ v2 ∧ v2 ≤ 23 from (by omega))) (M' := (va_up (va_up (va_up (va_up (va_up (va_up (va_up M 3 sg) 9 w9) 10 w10) 11 w11) 15 (fup m15 f16 v2)) 51 ak) 52 apt)) (up_in (by decide) (up_in (by decide) (up_up _ _ _ _))) dX0_layGrid_83 (fun H locs hX hS => ?_)
                  refine lv_aload_n C.x C.b dX0_layGrid_84 rfl (lv_at hl 0 rfl) ?_
                  refine lv_dup C.x C.b dX0_layGrid_85 rfl ?_
                  refine x_gi C hX 16 (by decide) rfl q752 (fun _ h => h) f16 rfl (b := (0, 8)) rfl dX0_layGrid_86 (fun _ => ?_)
                  refine r_const C dX0_layGrid_89 ?_
                  refine r_iadd C dX0_layGrid_90 ?_
                  refine x_pi C hX hS 16 (by decide) rfl (by decide) rfl rfl q752 (fun _ h => h) (b := (0, 8)) rfl (show 0 ≤ f16 + 1 ∧ f16 + 1 ≤ 8 from (by omega)) (F' := (va_up (va_up F 12 wn) 16 (f16 + 1))) (up_up _ _ _ _) dX0_layGrid_91 (fun H locs hX hS => ?_)
                  refine r_iinc (lv' := [(2, .int (zi (v2 + 1))), (0, .ref (B 49 0)), (1, .int (zi n)), (3, .int (zi v3)), (4, .int (zi v4))]) C dX0_layGrid_94 hl (k := 2) rfl (by decide) rfl (fun ls hl => ?_)
                  refine lv_goto (tgt := 11) C.x C.b dX0_layGrid_97 (by decide) ?_
                  exact ih11 (v2 + 1) (f16 + 1) (fup m15 f16 v2) (by omega) (by first | exact (gs_yes h2.1 hg hgs (hPv.1 (by assumption)) (by omega)).1 | exact (gs_no h2.1 hg hgs (fun z => absurd (hPv.2 z.1) (by assumption))).1) (by first | exact (gs_yes h2.1 hg hgs (hPv.1 (by assumption)) (by omega)).2 | exact (gs_no h2.1 hg hgs (fun z => absurd (hPv.2 z.1) (by assumption))).2) (by omega) H locs ls hX hS (lv_sub hl [1, 2, 0] rfl)
              · have r52 : 0 ≤ apt (24 * v2 + v4) ∧ apt (24 * v2 + v4) ≤ 9 := hX.2.2.1 52 (0, 9) rfl _
                refine lv_iload_n C.x C.b dX0_layGrid_42 rfl (lv_at hl 3 rfl) ?_
                refine lv_aload_n C.x C.b dX0_layGrid_43 rfl (lv_at hl 0 rfl) ?_
                refine x_ga C hX 13 (by decide) rfl q749 (fun _ h => h) dX0_layGrid_44 ?_
                refine lv_iload_n C.x C.b dX0_layGrid_47 rfl (lv_at hl 2 rfl) ?_
                refine x_la C hX 13 rfl rfl rfl (by decide) rfl rfl (show 0 ≤ v2 ∧ v2 < 24 from (by omega)) (by omega) (by decide) dX0_layGrid_48 ?_
                refine lv_iload C.x C.b dX0_layGrid_49 (lv_at hl 4 rfl) ?_
                refine x_li C hX 51 rfl (by decide) rfl (show 0 ≤ v2 ∧ v2 < 24 from (by omega)) (show 0 ≤ v4 ∧ v4 < 24 from (by omega)) (by decide) (ak (24 * v2 + v4)) rfl dX0_layGrid_51 (fun _ => ?_)
                refine lv_aload_n C.x C.b dX0_layGrid_52 rfl (lv_at hl 0 rfl) ?_
                refine x_ga C hX 14 (by decide) rfl q750 (fun _ h => h) dX0_layGrid_53 ?_
                refine lv_iload_n C.x C.b dX0_layGrid_56 rfl (lv_at hl 2 rfl) ?_
                refine x_la C hX 14 rfl rfl rfl (by decide) rfl rfl (show 0 ≤ v2 ∧ v2 < 24 from (by omega)) (by omega) (by decide) dX0_layGrid_57 ?_
                refine lv_iload C.x C.b dX0_layGrid_58 (lv_at hl 4 rfl) ?_
                refine x_li C hX 52 rfl (by decide) rfl (show 0 ≤ v2 ∧ v2 < 24 from (by omega)) (show 0 ≤ v4 ∧ v4 < 24 from (by omega)) (by decide) (apt (24 * v2 + v4)) rfl dX0_layGrid_60 (fun r60 => ?_)
                have r60 : 0 ≤ apt (24 * v2 + v4) ∧ apt (24 * v2 + v4) ≤ 9 := r60 (0, 9) rfl
                refine r_iadd C dX0_layGrid_61 ?_
                refine r_iadd C dX0_layGrid_62 ?_
                refine lv_istore_n (lv' := [(3, .int (zi (v3 + ((ak (24 * v2 + v4)) + (apt (24 * v2 + v4)))))), (0, .ref (B 49 0)), (1, .int (zi n)), (2, .int (zi v2)), (4, .int (zi v4))]) C.x C.b dX0_layGrid_63 rfl hl (by decide) rfl (fun ls hl => ?_)
                refine r_iinc (lv' := [(4, .int (zi (v4 + 1))), (3, .int (zi (v3 + ((ak (24 * v2 + v4)) + (apt (24 * v2 + v4)))))), (0, .ref (B 49 0)), (1, .int (zi n)), (2, .int (zi v2))]) C dX0_layGrid_64 hl (k := 4) rfl (by decide) rfl (fun ls hl => ?_)
                refine lv_goto (tgt := 33) C.x C.b dX0_layGrid_67 (by decide) ?_
                exact ih33 (v3 + ((ak (24 * v2 + v4)) + (apt (24 * v2 + v4)))) (v4 + 1) (by omega) (isum_st h4.1 hs3 rfl) (by omega) H locs ls hX hS (lv_sub hl [2, 3, 4, 1, 0] rfl)
          exact L33 _ 0 0 (by omega) rfl (Nat.lt_succ_self _) H locs ls hX hS (lv_sub hl [2, 3, 4, 1, 0] rfl)
  exact L11 _ 0 0 (M 15) (by omega) rfl (fun k a b => absurd a (by omega)) (Nat.lt_succ_self _) H locs ls (hX.to rfl rfl ((up_id (va_up (va_up (va_up (va_up (va_up (va_up M 3 sg) 9 w9) 10 w10) 11 w11) 51 ak) 52 apt) (k := 15) (a := (M 15)) rfl).symm.trans (up_in (by decide) (up_in (by decide) rfl))) rfl rfl) hS (lv_sub hl [1, 2, 0] rfl)

theorem hd_X0_grid : yX0_grid.cls = RX0 ∧ yX0_grid.cls ≠ "java/lang/invoke/MethodHandle" ∧ yX0_grid.cls ≠ "java/lang/invoke/VarHandle" ∧ (parseMethodDescriptor yX0_grid.desc).map (fun d => d.parameters.length) = some 2 := by decide +kernel
abbrev rm_X0_grid : Room := { frames := 5, cells := 0, slots := 0, locals := 124 }
set_option maxHeartbeats 8000000 in
theorem met_X0_grid (l : Launch) (E : us_E) (A : Nat → Prop) (B : Nat → Int → Nat) (F : Nat → Int) (M : Nat → Int → Int) (G : Nat → Int → Option Nat) (T : x_T) (n : Int) (w : Int) (hn : -2147483648 ≤ n ∧ n < 2147483648) (hw : -2147483648 ≤ w ∧ w < 2147483648) : cMet l yX0_grid cX0_grid 4 (some .int) rm_X0_grid A E [.ref (B 49 0), .int (zi n), .int (zi w)] (fun H => XH E A B F M G T H) (qi A (fun r H => ∃ f12 : Int, ∃ f16 : Int, ∃ m3 : Int → Int, ∃ m9 : Int → Int, ∃ m10 : Int → Int, ∃ m11 : Int → Int, ∃ m15 : Int → Int, ∃ m17 : Int → Int, ∃ m18 : Int → Int, ∃ m51 : Int → Int, ∃ m52 : Int → Int, ((1 ≤ n ∧ n ≤ 3) → SgOK (F 1) (M 0) (F 2) m3) ∧ (r = sel (1 ≤ n ∧ n ≤ 3) (sel (w = 0) ((fun k => qS (gmS (GSx (F 1) (akS m3 (mtc (M 56)) (M 200) (F 6)) (apS (F 1) m3 (fun a b => M 50 (24 * a + b)))) (F 1)) (fun i j => apS (F 1) m3 (fun a b => M 50 (24 * a + b)) (gsA (GSx (F 1) (akS m3 (mtc (M 56)) (M 200) (F 6)) (apS (F 1) m3 (fun a b => M 50 (24 * a + b)))) (F 1) i) (gsA (GSx (F 1) (akS m3 (mtc (M 56)) (M 200) (F 6)) (apS (F 1) m3 (fun a b => M 50 (24 * a + b)))) (F 1) j)) (fun i j => akS m3 (mtc (M 56)) (M 200) (F 6) (gsA (GSx (F 1) (akS m3 (mtc (M 56)) (M 200) (F 6)) (apS (F 1) m3 (fun a b => M 50 (24 * a + b)))) (F 1) i) (gsA (GSx (F 1) (akS m3 (mtc (M 56)) (M 200) (F 6)) (apS (F 1) m3 (fun a b => M 50 (24 * a + b)))) (F 1) j)) (rkS n (gmS (GSx (F 1) (akS m3 (mtc (M 56)) (M 200) (F 6)) (apS (F 1) m3 (fun a b => M 50 (24 * a + b)))) (F 1)) k)) (mnI (fun k => qS (gmS (GSx (F 1) (akS m3 (mtc (M 56)) (M 200) (F 6)) (apS (F 1) m3 (fun a b => M 50 (24 * a + b)))) (F 1)) (fun i j => apS (F 1) m3 (fun a b => M 50 (24 * a + b)) (gsA (GSx (F 1) (akS m3 (mtc (M 56)) (M 200) (F 6)) (apS (F 1) m3 (fun a b => M 50 (24 * a + b)))) (F 1) i) (gsA (GSx (F 1) (akS m3 (mtc (M 56)) (M 200) (F 6)) (apS (F 1) m3 (fun a b => M 50 (24 * a + b)))) (F 1) j)) (fun i j => akS m3 (mtc (M 56)) (M 200) (F 6) (gsA (GSx (F 1) (akS m3 (mtc (M 56)) (M 200) (F 6)) (apS (F 1) m3 (fun a b => M 50 (24 * a + b)))) (F 1) i) (gsA (GSx (F 1) (akS m3 (mtc (M 56)) (M 200) (F 6)) (apS (F 1) m3 (fun a b => M 50 (24 * a + b)))) (F 1) j)) (rkS n (gmS (GSx (F 1) (akS m3 (mtc (M 56)) (M 200) (F 6)) (apS (F 1) m3 (fun a b => M 50 (24 * a + b)))) (F 1)) k)) (rT n (gmS (GSx (F 1) (akS m3 (mtc (M 56)) (M 200) (F 6)) (apS (F 1) m3 (fun a b => M 50 (24 * a + b)))) (F 1))))) (sel (w = 1) (gmS (GSx (F 1) (akS m3 (mtc (M 56)) (M 200) (F 6)) (apS (F 1) m3 (fun a b => M 50 (24 * a + b)))) (F 1)) (sel (10 ≤ w ∧ w ≤ 9 + (gmS (GSx (F 1) (akS m3 (mtc (M 56)) (M 200) (F 6)) (apS (F 1) m3 (fun a b => M 50 (24 * a + b)))) (F 1))) (gsA (GSx (F 1) (akS m3 (mtc (M 56)) (M 200) (F 6)) (apS (F 1) m3 (fun a b => M 50 (24 * a + b)))) (F 1) (w - 10)) (sel (30 ≤ w ∧ w ≤ 29 + (gmS (GSx (F 1) (akS m3 (mtc (M 56)) (M 200) (F 6)) (apS (F 1) m3 (fun a b => M 50 (24 * a + b)))) (F 1))) (rkS n (gmS (GSx (F 1) (akS m3 (mtc (M 56)) (M 200) (F 6)) (apS (F 1) m3 (fun a b => M 50 (24 * a + b)))) (F 1)) (mnI (fun k => qS (gmS (GSx (F 1) (akS m3 (mtc (M 56)) (M 200) (F 6)) (apS (F 1) m3 (fun a b => M 50 (24 * a + b)))) (F 1)) (fun i j => apS (F 1) m3 (fun a b => M 50 (24 * a + b)) (gsA (GSx (F 1) (akS m3 (mtc (M 56)) (M 200) (F 6)) (apS (F 1) m3 (fun a b => M 50 (24 * a + b)))) (F 1) i) (gsA (GSx (F 1) (akS m3 (mtc (M 56)) (M 200) (F 6)) (apS (F 1) m3 (fun a b => M 50 (24 * a + b)))) (F 1) j)) (fun i j => akS m3 (mtc (M 56)) (M 200) (F 6) (gsA (GSx (F 1) (akS m3 (mtc (M 56)) (M 200) (F 6)) (apS (F 1) m3 (fun a b => M 50 (24 * a + b)))) (F 1) i) (gsA (GSx (F 1) (akS m3 (mtc (M 56)) (M 200) (F 6)) (apS (F 1) m3 (fun a b => M 50 (24 * a + b)))) (F 1) j)) (rkS n (gmS (GSx (F 1) (akS m3 (mtc (M 56)) (M 200) (F 6)) (apS (F 1) m3 (fun a b => M 50 (24 * a + b)))) (F 1)) k)) (rT n (gmS (GSx (F 1) (akS m3 (mtc (M 56)) (M 200) (F 6)) (apS (F 1) m3 (fun a b => M 50 (24 * a + b)))) (F 1)))) (w - 30)) (-1))))) (-1)) ∧ XH E A B (va_up (va_up F 12 f12) 16 f16) (va_up (va_up (va_up (va_up (va_up (va_up (va_up (va_up (va_up M 3 m3) 9 m9) 10 m10) 11 m11) 15 m15) 17 m17) 18 m18) 51 m51) 52 m52) G T H)) := by
  refine cMet.of (by decide) (Nat.le_of_ble_eq_true rfl) (fun p e s m args below meth c C hnm hX hS ls hl => ?_)
  have C : Cx p s m args meth c A RX0 cX0_grid 4 (some .int) E := C
  have hX : XH E A B F M G T s.heap := hX
  have hl : lv_has ls 4 [(0, .ref (B 49 0)), (1, .int (zi n)), (2, .int (zi w))] := hl
  generalize hH : s.heap = H at hX
  have hS : va_S A s.heap H [] := by rw [← hH]; exact hS
  generalize hlocs : ([] : List Loc) = locs at hS ⊢
  obtain ⟨QQ, hQQ⟩ : ∃ zQQ, MQ below (qi A (fun r H => ∃ f12 : Int, ∃ f16 : Int, ∃ m3 : Int → Int, ∃ m9 : Int → Int, ∃ m10 : Int → Int, ∃ m11 : Int → Int, ∃ m15 : Int → Int, ∃ m17 : Int → Int, ∃ m18 : Int → Int, ∃ m51 : Int → Int, ∃ m52 : Int → Int, ((1 ≤ n ∧ n ≤ 3) → SgOK (F 1) (M 0) (F 2) m3) ∧ (r = sel (1 ≤ n ∧ n ≤ 3) (sel (w = 0) ((fun k => qS (gmS (GSx (F 1) (akS m3 (mtc (M 56)) (M 200) (F 6)) (apS (F 1) m3 (fun a b => M 50 (24 * a + b)))) (F 1)) (fun i j => apS (F 1) m3 (fun a b => M 50 (24 * a + b)) (gsA (GSx (F 1) (akS m3 (mtc (M 56)) (M 200) (F 6)) (apS (F 1) m3 (fun a b => M 50 (24 * a + b)))) (F 1) i) (gsA (GSx (F 1) (akS m3 (mtc (M 56)) (M 200) (F 6)) (apS (F 1) m3 (fun a b => M 50 (24 * a + b)))) (F 1) j)) (fun i j => akS m3 (mtc (M 56)) (M 200) (F 6) (gsA (GSx (F 1) (akS m3 (mtc (M 56)) (M 200) (F 6)) (apS (F 1) m3 (fun a b => M 50 (24 * a + b)))) (F 1) i) (gsA (GSx (F 1) (akS m3 (mtc (M 56)) (M 200) (F 6)) (apS (F 1) m3 (fun a b => M 50 (24 * a + b)))) (F 1) j)) (rkS n (gmS (GSx (F 1) (akS m3 (mtc (M 56)) (M 200) (F 6)) (apS (F 1) m3 (fun a b => M 50 (24 * a + b)))) (F 1)) k)) (mnI (fun k => qS (gmS (GSx (F 1) (akS m3 (mtc (M 56)) (M 200) (F 6)) (apS (F 1) m3 (fun a b => M 50 (24 * a + b)))) (F 1)) (fun i j => apS (F 1) m3 (fun a b => M 50 (24 * a + b)) (gsA (GSx (F 1) (akS m3 (mtc (M 56)) (M 200) (F 6)) (apS (F 1) m3 (fun a b => M 50 (24 * a + b)))) (F 1) i) (gsA (GSx (F 1) (akS m3 (mtc (M 56)) (M 200) (F 6)) (apS (F 1) m3 (fun a b => M 50 (24 * a + b)))) (F 1) j)) (fun i j => akS m3 (mtc (M 56)) (M 200) (F 6) (gsA (GSx (F 1) (akS m3 (mtc (M 56)) (M 200) (F 6)) (apS (F 1) m3 (fun a b => M 50 (24 * a + b)))) (F 1) i) (gsA (GSx (F 1) (akS m3 (mtc (M 56)) (M 200) (F 6)) (apS (F 1) m3 (fun a b => M 50 (24 * a + b)))) (F 1) j)) (rkS n (gmS (GSx (F 1) (akS m3 (mtc (M 56)) (M 200) (F 6)) (apS (F 1) m3 (fun a b => M 50 (24 * a + b)))) (F 1)) k)) (rT n (gmS (GSx (F 1) (akS m3 (mtc (M 56)) (M 200) (F 6)) (apS (F 1) m3 (fun a b => M 50 (24 * a + b)))) (F 1))))) (sel (w = 1) (gmS (GSx (F 1) (akS m3 (mtc (M 56)) (M 200) (F 6)) (apS (F 1) m3 (fun a b => M 50 (24 * a + b)))) (F 1)) (sel (10 ≤ w ∧ w ≤ 9 + (gmS (GSx (F 1) (akS m3 (mtc (M 56)) (M 200) (F 6)) (apS (F 1) m3 (fun a b => M 50 (24 * a + b)))) (F 1))) (gsA (GSx (F 1) (akS m3 (mtc (M 56)) (M 200) (F 6)) (apS (F 1) m3 (fun a b => M 50 (24 * a + b)))) (F 1) (w - 10)) (sel (30 ≤ w ∧ w ≤ 29 + (gmS (GSx (F 1) (akS m3 (mtc (M 56)) (M 200) (F 6)) (apS (F 1) m3 (fun a b => M 50 (24 * a + b)))) (F 1))) (rkS n (gmS (GSx (F 1) (akS m3 (mtc (M 56)) (M 200) (F 6)) (apS (F 1) m3 (fun a b => M 50 (24 * a + b)))) (F 1)) (mnI (fun k => qS (gmS (GSx (F 1) (akS m3 (mtc (M 56)) (M 200) (F 6)) (apS (F 1) m3 (fun a b => M 50 (24 * a + b)))) (F 1)) (fun i j => apS (F 1) m3 (fun a b => M 50 (24 * a + b)) (gsA (GSx (F 1) (akS m3 (mtc (M 56)) (M 200) (F 6)) (apS (F 1) m3 (fun a b => M 50 (24 * a + b)))) (F 1) i) (gsA (GSx (F 1) (akS m3 (mtc (M 56)) (M 200) (F 6)) (apS (F 1) m3 (fun a b => M 50 (24 * a + b)))) (F 1) j)) (fun i j => akS m3 (mtc (M 56)) (M 200) (F 6) (gsA (GSx (F 1) (akS m3 (mtc (M 56)) (M 200) (F 6)) (apS (F 1) m3 (fun a b => M 50 (24 * a + b)))) (F 1) i) (gsA (GSx (F 1) (akS m3 (mtc (M 56)) (M 200) (F 6)) (apS (F 1) m3 (fun a b => M 50 (24 * a + b)))) (F 1) j)) (rkS n (gmS (GSx (F 1) (akS m3 (mtc (M 56)) (M 200) (F 6)) (apS (F 1) m3 (fun a b => M 50 (24 * a + b)))) (F 1)) k)) (rT n (gmS (GSx (F 1) (akS m3 (mtc (M 56)) (M 200) (F 6)) (apS (F 1) m3 (fun a b => M 50 (24 * a + b)))) (F 1)))) (w - 30)) (-1))))) (-1)) ∧ XH E A B (va_up (va_up F 12 f12) 16 f16) (va_up (va_up (va_up (va_up (va_up (va_up (va_up (va_up (va_up M 3 m3) 9 m9) 10 m10) 11 m11) 15 m15) 17 m17) 18 m18) 51 m51) 52 m52) G T H)) args s (rm_X0_grid).cells (rm_X0_grid).slots A = zQQ := ⟨_, rfl⟩
  rw [hQQ]
  have rF1 : 0 ≤ F 1 ∧ F 1 ≤ 24 := hX.2.1 1 (0, 24) rfl
  refine lv_iload_n C.x C.b dX0_grid_0 rfl (lv_at hl 1 rfl) ?_
  refine r_i2l C (by omega) dX0_grid_1 ?_
  refine r_lconst C 1 rfl dX0_grid_2 ?_
  refine r_ldc2 C 3 (by decide) q152 dX0_grid_3 ?_
  refine r_callSi (As := [.long (zl n), .long (zl 1), .long (zl 3)]) (rest := []) (cells' := 0) (slots' := 0) C (met_X0_isIn l E A H n 1 3 (show -9223372036854775808 ≤ n ∧ n < 9223372036854775808 from (by omega)) (show -9223372036854775808 ≤ (1 : Int) ∧ (1 : Int) < 9223372036854775808 from (by omega)) (show -9223372036854775808 ≤ (3 : Int) ∧ (3 : Int) < 9223372036854775808 from (by omega))) (lw_S q117 q118 q86 q119) hd_X0_isIn rfl (by decide) rfl hS hl.1 rfl (Nat.le_of_ble_eq_true rfl) dX0_grid_6 rfl rfl ⟨Nat.le_of_ble_eq_true rfl, Nat.le_of_ble_eq_true rfl⟩ (fun rr H locs hp hS => ?_)
  obtain ⟨hrr, hH⟩ := hp
  have hrr : rr = bI ((1 : Int) ≤ n ∧ n ≤ (3 : Int)) := hrr
  subst hrr
  have hX : XH E A B F M G T H := by rw [hH]; exact hX
  refine r_if_ne_b (tgt := 14) C dX0_grid_9 (by decide) (fun c_1 => ?_) (fun c_1 => ?_)
  · refine lv_aload_n C.x C.b dX0_grid_14 rfl (lv_at hl 0 rfl) ?_
    refine lv_iload_n C.x C.b dX0_grid_15 rfl (lv_at hl 1 rfl) ?_
    refine r_callVi (As := [.int (zi n)]) (rest := []) (cells' := 0) (slots' := 0) C (met_X0_layGrid l E A B F M G T n (show 1 ≤ n ∧ n ≤ 3 from (by omega))) (lw_V q258 q260 qs14 q86 q261) hd_X0_layGrid rfl (by decide) (x_this C hX) hX hS hl.1 rfl (Nat.le_of_ble_eq_true rfl) dX0_grid_16 rfl rfl ⟨Nat.le_of_ble_eq_true rfl, Nat.le_of_ble_eq_true rfl⟩ (fun rr H locs hp hS => ?_)
    obtain ⟨wn, gm, sg, w9, w10, w11, gs, rw_, br, ak, apt, hsg, hak, hap, hgm, hgs, hbr, hbb, hrr, hX⟩ := hp
    have hrr : rr = (fun k => qS gm (fun i j => apS ((F 1)) sg (fun a b => (M 50) (24 * a + b)) (gsA (GSx ((F 1)) (akS sg (mtc ((M 56))) ((M 200)) ((F 6))) (apS ((F 1)) sg (fun a b => (M 50) (24 * a + b)))) ((F 1)) i) (gsA (GSx ((F 1)) (akS sg (mtc ((M 56))) ((M 200)) ((F 6))) (apS ((F 1)) sg (fun a b => (M 50) (24 * a + b)))) ((F 1)) j)) (fun i j => akS sg (mtc ((M 56))) ((M 200)) ((F 6)) (gsA (GSx ((F 1)) (akS sg (mtc ((M 56))) ((M 200)) ((F 6))) (apS ((F 1)) sg (fun a b => (M 50) (24 * a + b)))) ((F 1)) i) (gsA (GSx ((F 1)) (akS sg (mtc ((M 56))) ((M 200)) ((F 6))) (apS ((F 1)) sg (fun a b => (M 50) (24 * a + b)))) ((F 1)) j)) (rkS n gm k)) (mnI (fun k => qS gm (fun i j => apS ((F 1)) sg (fun a b => (M 50) (24 * a + b)) (gsA (GSx ((F 1)) (akS sg (mtc ((M 56))) ((M 200)) ((F 6))) (apS ((F 1)) sg (fun a b => (M 50) (24 * a + b)))) ((F 1)) i) (gsA (GSx ((F 1)) (akS sg (mtc ((M 56))) ((M 200)) ((F 6))) (apS ((F 1)) sg (fun a b => (M 50) (24 * a + b)))) ((F 1)) j)) (fun i j => akS sg (mtc ((M 56))) ((M 200)) ((F 6)) (gsA (GSx ((F 1)) (akS sg (mtc ((M 56))) ((M 200)) ((F 6))) (apS ((F 1)) sg (fun a b => (M 50) (24 * a + b)))) ((F 1)) i) (gsA (GSx ((F 1)) (akS sg (mtc ((M 56))) ((M 200)) ((F 6))) (apS ((F 1)) sg (fun a b => (M 50) (24 * a + b)))) ((F 1)) j)) (rkS n gm k)) (rT n gm)) := hrr
    subst hrr
    replace hsg : SgOK ((F 1)) ((M 0)) ((F 2)) sg := hsg
    replace hak : ∀ a b : Int, 0 ≤ a → a < 24 → 0 ≤ b → b < 24 → ak (24 * a + b) = akS sg (mtc ((M 56))) ((M 200)) ((F 6)) a b := hak
    replace hap : ∀ x u : Int, 0 ≤ x → x < 24 → 0 ≤ u → u < 24 → apt (24 * x + u) = sel (x = u) 0 (apS ((F 1)) sg (fun a b => (M 50) (24 * a + b)) x u) := hap
    replace hgm : gm = gmS (GSx ((F 1)) (akS sg (mtc ((M 56))) ((M 200)) ((F 6))) (apS ((F 1)) sg (fun a b => (M 50) (24 * a + b)))) ((F 1)) := hgm
    replace hgs : ∀ k : Int, 0 ≤ k → k < gm → gs k = gsA (GSx ((F 1)) (akS sg (mtc ((M 56))) ((M 200)) ((F 6))) (apS ((F 1)) sg (fun a b => (M 50) (24 * a + b)))) ((F 1)) k := hgs
    replace hbr : ∀ i : Int, 0 ≤ i → i < gm → br i = rkS n gm (mnI (fun k => qS gm (fun i j => apS ((F 1)) sg (fun a b => (M 50) (24 * a + b)) (gsA (GSx ((F 1)) (akS sg (mtc ((M 56))) ((M 200)) ((F 6))) (apS ((F 1)) sg (fun a b => (M 50) (24 * a + b)))) ((F 1)) i) (gsA (GSx ((F 1)) (akS sg (mtc ((M 56))) ((M 200)) ((F 6))) (apS ((F 1)) sg (fun a b => (M 50) (24 * a + b)))) ((F 1)) j)) (fun i j => akS sg (mtc ((M 56))) ((M 200)) ((F 6)) (gsA (GSx ((F 1)) (akS sg (mtc ((M 56))) ((M 200)) ((F 6))) (apS ((F 1)) sg (fun a b => (M 50) (24 * a + b)))) ((F 1)) i) (gsA (GSx ((F 1)) (akS sg (mtc ((M 56))) ((M 200)) ((F 6))) (apS ((F 1)) sg (fun a b => (M 50) (24 * a + b)))) ((F 1)) j)) (rkS n gm k)) (rT n gm)) i := hbr
    replace hbb : 0 ≤ (fun k => qS gm (fun i j => apS ((F 1)) sg (fun a b => (M 50) (24 * a + b)) (gsA (GSx ((F 1)) (akS sg (mtc ((M 56))) ((M 200)) ((F 6))) (apS ((F 1)) sg (fun a b => (M 50) (24 * a + b)))) ((F 1)) i) (gsA (GSx ((F 1)) (akS sg (mtc ((M 56))) ((M 200)) ((F 6))) (apS ((F 1)) sg (fun a b => (M 50) (24 * a + b)))) ((F 1)) j)) (fun i j => akS sg (mtc ((M 56))) ((M 200)) ((F 6)) (gsA (GSx ((F 1)) (akS sg (mtc ((M 56))) ((M 200)) ((F 6))) (apS ((F 1)) sg (fun a b => (M 50) (24 * a + b)))) ((F 1)) i) (gsA (GSx ((F 1)) (akS sg (mtc ((M 56))) ((M 200)) ((F 6))) (apS ((F 1)) sg (fun a b => (M 50) (24 * a + b)))) ((F 1)) j)) (rkS n gm k)) (mnI (fun k => qS gm (fun i j => apS ((F 1)) sg (fun a b => (M 50) (24 * a + b)) (gsA (GSx ((F 1)) (akS sg (mtc ((M 56))) ((M 200)) ((F 6))) (apS ((F 1)) sg (fun a b => (M 50) (24 * a + b)))) ((F 1)) i) (gsA (GSx ((F 1)) (akS sg (mtc ((M 56))) ((M 200)) ((F 6))) (apS ((F 1)) sg (fun a b => (M 50) (24 * a + b)))) ((F 1)) j)) (fun i j => akS sg (mtc ((M 56))) ((M 200)) ((F 6)) (gsA (GSx ((F 1)) (akS sg (mtc ((M 56))) ((M 200)) ((F 6))) (apS ((F 1)) sg (fun a b => (M 50) (24 * a + b)))) ((F 1)) i) (gsA (GSx ((F 1)) (akS sg (mtc ((M 56))) ((M 200)) ((F 6))) (apS ((F 1)) sg (fun a b => (M 50) (24 * a + b)))) ((F 1)) j)) (rkS n gm k)) (rT n gm)) ∧ (fun k => qS gm (fun i j => apS ((F 1)) sg (fun a b => (M 50) (24 * a + b)) (gsA (GSx ((F 1)) (akS sg (mtc ((M 56))) ((M 200)) ((F 6))) (apS ((F 1)) sg (fun a b => (M 50) (24 * a + b)))) ((F 1)) i) (gsA (GSx ((F 1)) (akS sg (mtc ((M 56))) ((M 200)) ((F 6))) (apS ((F 1)) sg (fun a b => (M 50) (24 * a + b)))) ((F 1)) j)) (fun i j => akS sg (mtc ((M 56))) ((M 200)) ((F 6)) (gsA (GSx ((F 1)) (akS sg (mtc ((M 56))) ((M 200)) ((F 6))) (apS ((F 1)) sg (fun a b => (M 50) (24 * a + b)))) ((F 1)) i) (gsA (GSx ((F 1)) (akS sg (mtc ((M 56))) ((M 200)) ((F 6))) (apS ((F 1)) sg (fun a b => (M 50) (24 * a + b)))) ((F 1)) j)) (rkS n gm k)) (mnI (fun k => qS gm (fun i j => apS ((F 1)) sg (fun a b => (M 50) (24 * a + b)) (gsA (GSx ((F 1)) (akS sg (mtc ((M 56))) ((M 200)) ((F 6))) (apS ((F 1)) sg (fun a b => (M 50) (24 * a + b)))) ((F 1)) i) (gsA (GSx ((F 1)) (akS sg (mtc ((M 56))) ((M 200)) ((F 6))) (apS ((F 1)) sg (fun a b => (M 50) (24 * a + b)))) ((F 1)) j)) (fun i j => akS sg (mtc ((M 56))) ((M 200)) ((F 6)) (gsA (GSx ((F 1)) (akS sg (mtc ((M 56))) ((M 200)) ((F 6))) (apS ((F 1)) sg (fun a b => (M 50) (24 * a + b)))) ((F 1)) i) (gsA (GSx ((F 1)) (akS sg (mtc ((M 56))) ((M 200)) ((F 6))) (apS ((F 1)) sg (fun a b => (M 50) (24 * a + b)))) ((F 1)) j)) (rkS n gm k)) (rT n gm)) ≤ 2147483647 := hbb
    have hX : XH E A B (va_up (va_up F 12 wn) 16 gm) (va_up (va_up (va_up (va_up (va_up (va_up (va_up (va_up (va_up M 3 sg) 9 w9) 10 w10) 11 w11) 15 gs) 17 rw_) 18 br) 51 ak) 52 apt) G T H := hX.to rfl ((congrArg (fun z => va_up z 16 gm) rfl).trans rfl) ((congrArg (fun z => va_up z 52 apt) ((congrArg (fun z => va_up z 51 ak) ((congrArg (fun z => va_up z 18 br) ((congrArg (fun z => va_up z 17 rw_) ((congrArg (fun z => va_up z 15 gs) ((congrArg (fun z => va_up z 11 w11) ((congrArg (fun z => va_up z 10 w10) ((congrArg (fun z => va_up z 9 w9) rfl).trans rfl)).trans rfl)).trans rfl)).trans rfl)).trans rfl)).trans rfl)).trans rfl)).trans rfl) rfl rfl
    have hgr := gmS_r (P := (GSx (F 1) (akS sg (mtc (M 56)) (M 200) (F 6)) (apS (F 1) sg (fun a b => M 50 (24 * a + b))))) (n := F 1) rF1.1
    rw [← hgm] at hgr
    refine lv_istore_n (lv' := [(3, .int (zi ((fun k => qS gm (fun i j => apS ((F 1)) sg (fun a b => (M 50) (24 * a + b)) (gsA (GSx ((F 1)) (akS sg (mtc ((M 56))) ((M 200)) ((F 6))) (apS ((F 1)) sg (fun a b => (M 50) (24 * a + b)))) ((F 1)) i) (gsA (GSx ((F 1)) (akS sg (mtc ((M 56))) ((M 200)) ((F 6))) (apS ((F 1)) sg (fun a b => (M 50) (24 * a + b)))) ((F 1)) j)) (fun i j => akS sg (mtc ((M 56))) ((M 200)) ((F 6)) (gsA (GSx ((F 1)) (akS sg (mtc ((M 56))) ((M 200)) ((F 6))) (apS ((F 1)) sg (fun a b => (M 50) (24 * a + b)))) ((F 1)) i) (gsA (GSx ((F 1)) (akS sg (mtc ((M 56))) ((M 200)) ((F 6))) (apS ((F 1)) sg (fun a b => (M 50) (24 * a + b)))) ((F 1)) j)) (rkS n gm k)) (mnI (fun k => qS gm (fun i j => apS ((F 1)) sg (fun a b => (M 50) (24 * a + b)) (gsA (GSx ((F 1)) (akS sg (mtc ((M 56))) ((M 200)) ((F 6))) (apS ((F 1)) sg (fun a b => (M 50) (24 * a + b)))) ((F 1)) i) (gsA (GSx ((F 1)) (akS sg (mtc ((M 56))) ((M 200)) ((F 6))) (apS ((F 1)) sg (fun a b => (M 50) (24 * a + b)))) ((F 1)) j)) (fun i j => akS sg (mtc ((M 56))) ((M 200)) ((F 6)) (gsA (GSx ((F 1)) (akS sg (mtc ((M 56))) ((M 200)) ((F 6))) (apS ((F 1)) sg (fun a b => (M 50) (24 * a + b)))) ((F 1)) i) (gsA (GSx ((F 1)) (akS sg (mtc ((M 56))) ((M 200)) ((F 6))) (apS ((F 1)) sg (fun a b => (M 50) (24 * a + b)))) ((F 1)) j)) (rkS n gm k)) (rT n gm))))), (0, .ref (B 49 0)), (1, .int (zi n)), (2, .int (zi w))]) C.x C.b dX0_grid_19 rfl hl (by decide) rfl (fun ls hl => ?_)
    refine lv_iload_n C.x C.b dX0_grid_20 rfl (lv_at hl 3 rfl) ?_
    refine r_i2l C (by omega) dX0_grid_21 ?_
    refine r_ldc2 C 10 (by decide) q173 dX0_grid_22 ?_
    refine r_bipush C (by decide) dX0_grid_25 ?_
    refine lv_aload_n C.x C.b dX0_grid_27 rfl (lv_at hl 1 rfl) ?_
    refine x_gi C hX 16 (by decide) rfl q752 (fun _ h => h) gm rfl (b := (0, 8)) rfl dX0_grid_28 (fun r28 => ?_)
    have r28 : 0 ≤ gm ∧ gm ≤ 8 := r28
    refine r_iadd C dX0_grid_31 ?_
    refine r_i2l C (by omega) dX0_grid_32 ?_
    refine r_callSi (As := [.long (zl w), .long (zl 10), .long (zl (9 + gm))]) (rest := []) (cells' := 0) (slots' := 0) C (met_X0_isIn l E A H w 10 (9 + gm) (show -9223372036854775808 ≤ w ∧ w < 9223372036854775808 from (by omega)) (show -9223372036854775808 ≤ (10 : Int) ∧ (10 : Int) < 9223372036854775808 from (by omega)) (show -9223372036854775808 ≤ (9 + gm) ∧ (9 + gm) < 9223372036854775808 from (by omega))) (lw_S q117 q118 q86 q119) hd_X0_isIn rfl (by decide) rfl hS hl.1 rfl (Nat.le_of_ble_eq_true rfl) dX0_grid_33 rfl rfl ⟨Nat.le_of_ble_eq_true rfl, Nat.le_of_ble_eq_true rfl⟩ (fun rr H locs hp hS => ?_)
    obtain ⟨hrr, hH⟩ := hp
    have hrr : rr = bI ((10 : Int) ≤ w ∧ w ≤ (9 + gm)) := hrr
    subst hrr
    have hX : XH E A B (va_up (va_up F 12 wn) 16 gm) (va_up (va_up (va_up (va_up (va_up (va_up (va_up (va_up (va_up M 3 sg) 9 w9) 10 w10) 11 w11) 15 gs) 17 rw_) 18 br) 51 ak) 52 apt) G T H := by rw [hH]; exact hX
    refine r_if_eq_b (tgt := 49) C dX0_grid_36 (by decide) (fun c_2 => ?_) (fun c_2 => ?_)
    · refine lv_iload_n C.x C.b dX0_grid_49 rfl (lv_at hl 3 rfl) ?_
      refine r_i2l C (by omega) dX0_grid_50 ?_
      refine r_ldc2 C 30 (by decide) q270 dX0_grid_51 ?_
      refine r_bipush C (by decide) dX0_grid_54 ?_
      refine lv_aload_n C.x C.b dX0_grid_56 rfl (lv_at hl 1 rfl) ?_
      refine x_gi C hX 16 (by decide) rfl q752 (fun _ h => h) gm rfl (b := (0, 8)) rfl dX0_grid_57 (fun _ => ?_)
      refine r_iadd C dX0_grid_60 ?_
      refine r_i2l C (by omega) dX0_grid_61 ?_
      refine r_callSi (As := [.long (zl w), .long (zl 30), .long (zl (29 + gm))]) (rest := []) (cells' := 0) (slots' := 0) C (met_X0_isIn l E A H w 30 (29 + gm) (show -9223372036854775808 ≤ w ∧ w < 9223372036854775808 from (by omega)) (show -9223372036854775808 ≤ (30 : Int) ∧ (30 : Int) < 9223372036854775808 from (by omega)) (show -9223372036854775808 ≤ (29 + gm) ∧ (29 + gm) < 9223372036854775808 from (by omega))) (lw_S q117 q118 q86 q119) hd_X0_isIn rfl (by decide) rfl hS hl.1 rfl (Nat.le_of_ble_eq_true rfl) dX0_grid_62 rfl rfl ⟨Nat.le_of_ble_eq_true rfl, Nat.le_of_ble_eq_true rfl⟩ (fun rr H locs hp hS => ?_)
      obtain ⟨hrr, hH⟩ := hp
      have hrr : rr = bI ((30 : Int) ≤ w ∧ w ≤ (29 + gm)) := hrr
      subst hrr
      have hX : XH E A B (va_up (va_up F 12 wn) 16 gm) (va_up (va_up (va_up (va_up (va_up (va_up (va_up (va_up (va_up M 3 sg) 9 w9) 10 w10) 11 w11) 15 gs) 17 rw_) 18 br) 51 ak) 52 apt) G T H := by rw [hH]; exact hX
      refine r_if_eq_b (tgt := 78) C dX0_grid_65 (by decide) (fun c_3 => ?_) (fun c_3 => ?_)
      · refine lv_iload_n C.x C.b dX0_grid_78 rfl (lv_at hl 3 rfl) ?_
        refine r_if_ne (tgt := 86) C (by omega) dX0_grid_79 (by decide) (fun c_4 => ?_) (fun c_4 => ?_)
        · refine lv_iload_n C.x C.b dX0_grid_86 rfl (lv_at hl 3 rfl) ?_
          refine r_const C dX0_grid_87 ?_
          refine r_icmp_ne (tgt := 98) C (by omega) (by decide) dX0_grid_88 (by decide) (fun c_5 => ?_) (fun c_5 => ?_)
          · refine r_const C dX0_grid_98 ?_
            rw [← hQQ]
            exact r_iret C hS (Nat.le_of_ble_eq_true rfl) (Nat.le_of_ble_eq_true rfl) dX0_grid_99 ⟨wn, gm, sg, w9, w10, w11, gs, rw_, br, ak, apt, (fun _ => hsg), (by rw [sel_t (c := 1 ≤ n ∧ n ≤ 3) (by assumption), ← hgm]; first | (rw [sel_t (c := w = 0) (by omega)]; done) | (rw [sel_f (c := w = 0) (by omega), sel_t (c := w = 1) (by omega)]; done) | (rw [sel_f (c := w = 0) (by omega), sel_f (c := w = 1) (by omega), sel_f (by assumption), sel_f (by assumption)]; done)), hX⟩
          · refine lv_aload_n C.x C.b dX0_grid_91 rfl (lv_at hl 1 rfl) ?_
            refine x_gi C hX 16 (by decide) rfl q752 (fun _ h => h) gm rfl (b := (0, 8)) rfl dX0_grid_92 (fun _ => ?_)
            refine lv_goto (tgt := 99) C.x C.b dX0_grid_95 (by decide) ?_
            rw [← hQQ]
            exact r_iret C hS (Nat.le_of_ble_eq_true rfl) (Nat.le_of_ble_eq_true rfl) dX0_grid_99 ⟨wn, gm, sg, w9, w10, w11, gs, rw_, br, ak, apt, (fun _ => hsg), (by rw [sel_t (c := 1 ≤ n ∧ n ≤ 3) (by assumption), ← hgm]; first | (rw [sel_t (c := w = 0) (by omega)]; done) | (rw [sel_f (c := w = 0) (by omega), sel_t (c := w = 1) (by omega)]; done) | (rw [sel_f (c := w = 0) (by omega), sel_f (c := w = 1) (by omega), sel_f (by assumption), sel_f (by assumption)]; done)), hX⟩
        · refine lv_iload_n C.x C.b dX0_grid_82 rfl (lv_at hl 0 rfl) ?_
          refine lv_goto (tgt := 99) C.x C.b dX0_grid_83 (by decide) ?_
          rw [← hQQ]
          exact r_iret C hS (Nat.le_of_ble_eq_true rfl) (Nat.le_of_ble_eq_true rfl) dX0_grid_99 ⟨wn, gm, sg, w9, w10, w11, gs, rw_, br, ak, apt, (fun _ => hsg), (by rw [sel_t (c := 1 ≤ n ∧ n ≤ 3) (by assumption), ← hgm]; first | (rw [sel_t (c := w = 0) (by omega)]; done) | (rw [sel_f (c := w = 0) (by omega), sel_t (c := w = 1) (by omega)]; done) | (rw [sel_f (c := w = 0) (by omega), sel_f (c := w = 1) (by omega), sel_f (by assumption), sel_f (by assumption)]; done)), hX⟩
      · refine lv_aload_n C.x C.b dX0_grid_68 rfl (lv_at hl 1 rfl) ?_
        refine x_ga C hX 18 (by decide) rfl q754 (fun _ h => h) dX0_grid_69 ?_
        refine lv_iload_n C.x C.b dX0_grid_72 rfl (lv_at hl 3 rfl) ?_
        refine r_bipush C (by decide) dX0_grid_73 ?_
        refine r_isub C dX0_grid_75 ?_
        refine x_li1 C hX 18 rfl (by decide) rfl (show 0 ≤ (w - 30) ∧ (w - 30) < 8 from (by omega)) (by decide) (br (w - 30)) rfl dX0_grid_76 (fun r76 => ?_)
        have r76 : 0 ≤ br (w - 30) ∧ br (w - 30) ≤ 2 := r76 (0, 2) rfl
        rw [← hQQ]
        exact r_iret C hS (Nat.le_of_ble_eq_true rfl) (Nat.le_of_ble_eq_true rfl) dX0_grid_77 ⟨wn, gm, sg, w9, w10, w11, gs, rw_, br, ak, apt, (fun _ => hsg), (by rw [sel_t (c := 1 ≤ n ∧ n ≤ 3) (by assumption), ← hgm, sel_f (c := w = 0) (by omega), sel_f (c := w = 1) (by omega), sel_f (by assumption), sel_t (by assumption)]; exact hbr _ (by omega) (by omega)), hX⟩
    · refine lv_aload_n C.x C.b dX0_grid_39 rfl (lv_at hl 1 rfl) ?_
      refine x_ga C hX 15 (by decide) rfl q751 (fun _ h => h) dX0_grid_40 ?_
      refine lv_iload_n C.x C.b dX0_grid_43 rfl (lv_at hl 3 rfl) ?_
      refine r_bipush C (by decide) dX0_grid_44 ?_
      refine r_isub C dX0_grid_46 ?_
      refine x_li1 C hX 15 rfl (by decide) rfl (show 0 ≤ (w - 10) ∧ (w - 10) < 8 from (by omega)) (by decide) (gs (w - 10)) rfl dX0_grid_47 (fun r47 => ?_)
      have r47 : 0 ≤ gs (w - 10) ∧ gs (w - 10) ≤ 23 := r47 (0, 23) rfl
      rw [← hQQ]
      exact r_iret C hS (Nat.le_of_ble_eq_true rfl) (Nat.le_of_ble_eq_true rfl) dX0_grid_48 ⟨wn, gm, sg, w9, w10, w11, gs, rw_, br, ak, apt, (fun _ => hsg), (by rw [sel_t (c := 1 ≤ n ∧ n ≤ 3) (by assumption), ← hgm, sel_f (c := w = 0) (by omega), sel_f (c := w = 1) (by omega), sel_t (by assumption)]; exact hgs _ (by omega) (by omega)), hX⟩
  · refine r_const C dX0_grid_12 ?_
    rw [← hQQ]
    exact r_iret C hS (Nat.le_of_ble_eq_true rfl) (Nat.le_of_ble_eq_true rfl) dX0_grid_13 ⟨(F 12), (F 16), (M 3), (M 9), (M 10), (M 11), (M 15), (M 17), (M 18), (M 51), (M 52), (fun q => absurd q (by assumption)), (Eq.symm (sel_f (by assumption))), (hX.to rfl (((up_id F (k := 12) (a := (F 12)) rfl).symm.trans rfl).trans ((up_id (va_up F 12 (F 12)) (k := 16) (a := (F 16)) rfl).symm.trans rfl)) ((((((((((up_id M (k := 3) (a := (M 3)) rfl).symm.trans rfl).trans ((up_id (va_up M 3 (M 3)) (k := 9) (a := (M 9)) rfl).symm.trans rfl)).trans ((up_id (va_up (va_up M 3 (M 3)) 9 (M 9)) (k := 10) (a := (M 10)) rfl).symm.trans rfl)).trans ((up_id (va_up (va_up (va_up M 3 (M 3)) 9 (M 9)) 10 (M 10)) (k := 11) (a := (M 11)) rfl).symm.trans rfl)).trans ((up_id (va_up (va_up (va_up (va_up M 3 (M 3)) 9 (M 9)) 10 (M 10)) 11 (M 11)) (k := 15) (a := (M 15)) rfl).symm.trans rfl)).trans ((up_id (va_up (va_up (va_up (va_up (va_up M 3 (M 3)) 9 (M 9)) 10 (M 10)) 11 (M 11)) 15 (M 15)) (k := 17) (a := (M 17)) rfl).symm.trans rfl)).trans ((up_id (va_up (va_up (va_up (va_up (va_up (va_up M 3 (M 3)) 9 (M 9)) 10 (M 10)) 11 (M 11)) 15 (M 15)) 17 (M 17)) (k := 18) (a := (M 18)) rfl).symm.trans rfl)).trans ((up_id (va_up (va_up (va_up (va_up (va_up (va_up (va_up M 3 (M 3)) 9 (M 9)) 10 (M 10)) 11 (M 11)) 15 (M 15)) 17 (M 17)) 18 (M 18)) (k := 51) (a := (M 51)) rfl).symm.trans rfl)).trans ((up_id (va_up (va_up (va_up (va_up (va_up (va_up (va_up (va_up M 3 (M 3)) 9 (M 9)) 10 (M 10)) 11 (M 11)) 15 (M 15)) 17 (M 17)) 18 (M 18)) 51 (M 51)) (k := 52) (a := (M 52)) rfl).symm.trans rfl)) rfl rfl)⟩
