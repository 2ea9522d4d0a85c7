set_option maxRecDepth 100000

theorem plE {S f b s : Int} : (¬ S < 0 ∧ ((f = -4 ∧ (b = -4 ∨ b = s)) ∨ (¬ f = -4 ∧ (f = S ∧ (b = -4 ∨ b = s))))) ↔ (0 ≤ S ∧ (f = -4 ∨ f = S) ∧ (b = -4 ∨ b = s)) := by constructor <;> intro h <;> omega

theorem hd_X4_size : yX4_size.cls = RX4 ∧ yX4_size.cls ≠ "java/lang/invoke/MethodHandle" ∧ yX4_size.cls ≠ "java/lang/invoke/VarHandle" ∧ (parseMethodDescriptor yX4_size.desc).map (fun d => d.parameters.length) = some 0 := by decide +kernel
abbrev rm_X4_size : Room := { frames := 0, cells := 0, slots := 0, locals := 0 }
set_option maxHeartbeats 8000000 in
theorem met_X4_size (l : Launch) (E : us_E) (A : Nat → Prop) (B : Nat → Int → Nat) (F : Nat → Int) (M : Nat → Int → Int) (G : Nat → Int → Option Nat) (T : x_T) (a : Int) (ha : 0 ≤ a ∧ a < F 24) : cMet l yX4_size cX4_size 1 (some .int) rm_X4_size A E [.ref (B 57 a)] (fun H => XH E A B F M G T H) (qi A (fun r H => (0 ≤ M 201 a ∧ M 201 a ≤ 8) ∧ (r = M 201 a) ∧ XH E A B F M G T H)) := by
  refine cMet.of (by decide) (Nat.le_of_ble_eq_true rfl) (fun p e s m args below meth c C hnm hX hS ls hl => ?_)
  have C : Cx p s m args meth c A RX4 cX4_size 1 (some .int) E := C
  have hX : XH E A B F M G T s.heap := hX
  have hl : lv_has ls 1 [(0, .ref (B 57 a))] := hl
  generalize hH : s.heap = H at hX
  have hS : va_S A s.heap H [] := by rw [← hH]; exact hS
  generalize hlocs : ([] : List Loc) = locs at hS ⊢
  obtain ⟨QQ, hQQ⟩ : ∃ zQQ, MQ below (qi A (fun r H => (0 ≤ M 201 a ∧ M 201 a ≤ 8) ∧ (r = M 201 a) ∧ XH E A B F M G T H)) args s (rm_X4_size).cells (rm_X4_size).slots A = zQQ := ⟨_, rfl⟩
  rw [hQQ]
  refine lv_aload_n C.x C.b dX4_size_0 rfl (lv_at hl 0 rfl) ?_
  refine x_go C hX 57 (by decide) (show 0 ≤ a ∧ a < F 24 from (by omega)).1 (xK_57 (show 0 ≤ a ∧ a < F 24 from (by omega))) rfl in_X5 0 (by decide) q319 (fun _ h => h) (.ref (B 58 a)) rfl dX4_size_1 ?_
  have rl4 : 0 ≤ M 201 a ∧ M 201 a ≤ 8 := hX.2.2.1 201 (0, 8) rfl _
  refine x_len C hX 58 (i := a) rfl rfl (xpr_58 (show 0 ≤ a ∧ a < F 24 from (by omega))) (by decide) (show 0 ≤ a ∧ a < F 24 from (by omega)).1 rfl (M 201 a) (by omega) dX4_size_4 ?_
  rw [← hQQ]
  exact r_iret C hS (Nat.le_of_ble_eq_true rfl) (Nat.le_of_ble_eq_true rfl) dX4_size_5 ⟨(by first | rfl | assumption | exact (sel_t (by omega)).symm | exact (sel_f (by omega)).symm | omega), (by first | rfl | exact (sel_t (by omega)).symm | exact (sel_f (by omega)).symm | omega), hX⟩

theorem hd_X0_clear : yX0_clear.cls = RX0 ∧ yX0_clear.cls ≠ "java/lang/invoke/MethodHandle" ∧ yX0_clear.cls ≠ "java/lang/invoke/VarHandle" ∧ (parseMethodDescriptor yX0_clear.desc).map (fun d => d.parameters.length) = some 0 := by decide +kernel
abbrev rm_X0_clear : Room := { frames := 1, cells := 0, slots := 0, locals := 23 }
set_option maxHeartbeats 8000000 in
theorem met_X0_clear (l : Launch) (E : us_E) (A : Nat → Prop) (B : Nat → Int → Nat) (F : Nat → Int) (M : Nat → Int → Int) (G : Nat → Int → Option Nat) (T : x_T) : cMet l yX0_clear cX0_clear 1 none rm_X0_clear A E [.ref (B 49 0)] (fun H => XH E A B F M G T H) (qv A (fun H => ∃ m28 : Int → Int, ∃ m29 : Int → Int, (m28 = ffill (M 28) 0 4 (-4)) ∧ (m29 = ffill (M 29) 0 24 (-4)) ∧ XH E A B F (va_up (va_up M 28 m28) 29 m29) G T H)) := by
  refine cMet.of (by decide) (Nat.le_of_ble_eq_true rfl) (fun p e s m args below meth c C hnm hX hS ls hl => ?_)
  have C : Cx p s m args meth c A RX0 cX0_clear 1 none E := C
  have hX : XH E A B F M G T s.heap := hX
  have hl : lv_has ls 1 [(0, .ref (B 49 0))] := hl
  generalize hH : s.heap = H at hX
  have hS : va_S A s.heap H [] := by rw [← hH]; exact hS
  generalize hlocs : ([] : List Loc) = locs at hS ⊢
  obtain ⟨QQ, hQQ⟩ : ∃ zQQ, MQ below (qv A (fun H => ∃ m28 : Int → Int, ∃ m29 : Int → Int, (m28 = ffill (M 28) 0 4 (-4)) ∧ (m29 = ffill (M 29) 0 24 (-4)) ∧ XH E A B F (va_up (va_up M 28 m28) 29 m29) G T H)) args s (rm_X0_clear).cells (rm_X0_clear).slots A = zQQ := ⟨_, rfl⟩
  rw [hQQ]
  refine lv_aload_n C.x C.b dX0_clear_0 rfl (lv_at hl 0 rfl) ?_
  refine x_ga C hX 28 (by decide) rfl q764 (fun _ h => h) dX0_clear_1 ?_
  refine r_bipush C (by decide) dX0_clear_4 ?_
  refine r_callSv (As := [.ref (B 28 0), .int (zi (-4))]) (rest := []) (cells' := 0) (slots' := 0) C (met_fill1 l E A B F M G T 28 4 (-4) rfl (by decide) (by decide) (fun b hb => by cases hb; exact (show -4 ≤ (-4) ∧ (-4) ≤ 23 from (by omega)))) (lw_S q223 q224 q100 q225) hd_J10_fill rfl (by decide) hX hS hl.1 rfl (Nat.le_of_ble_eq_true rfl) dX0_clear_6 rfl rfl ⟨Nat.le_of_ble_eq_true rfl, Nat.le_of_ble_eq_true rfl⟩ (fun H locs hp hS => ?_)
  have hX : XH E A B F (va_up M 28 (ffill (M 28) 0 4 (-4))) G T H := hp.to rfl rfl rfl rfl rfl
  refine lv_aload_n C.x C.b dX0_clear_9 rfl (lv_at hl 0 rfl) ?_
  refine x_ga C hX 29 (by decide) rfl q765 (fun _ h => h) dX0_clear_10 ?_
  refine r_bipush C (by decide) dX0_clear_13 ?_
  refine r_callSv (As := [.ref (B 29 0), .int (zi (-4))]) (rest := []) (cells' := 0) (slots' := 0) C (met_fill1 l E A B F (va_up M 28 (ffill (M 28) 0 4 (-4))) G T 29 24 (-4) rfl (by decide) (by decide) (fun b hb => by cases hb; exact (show -4 ≤ (-4) ∧ (-4) ≤ 3 from (by omega)))) (lw_S q223 q224 q100 q225) hd_J10_fill rfl (by decide) hX hS hl.1 rfl (Nat.le_of_ble_eq_true rfl) dX0_clear_15 rfl rfl ⟨Nat.le_of_ble_eq_true rfl, Nat.le_of_ble_eq_true rfl⟩ (fun H locs hp hS => ?_)
  have hX : XH E A B F (va_up (va_up M 28 (ffill (M 28) 0 4 (-4))) 29 (ffill (M 29) 0 24 (-4))) G T H := hp.to rfl rfl rfl rfl rfl
  rw [← hQQ]
  exact r_vret C hS (Nat.le_of_ble_eq_true rfl) (Nat.le_of_ble_eq_true rfl) dX0_clear_18 ⟨(ffill (M 28) 0 4 (-4)), (ffill (M 29) 0 24 (-4)), (by first | rfl | assumption | exact (sel_t (by omega)).symm | exact (sel_f (by omega)).symm | omega), (by first | rfl | assumption | exact (sel_t (by omega)).symm | exact (sel_f (by omega)).symm | omega), hX⟩

theorem hd_X0_places : yX0_places.cls = RX0 ∧ yX0_places.cls ≠ "java/lang/invoke/MethodHandle" ∧ yX0_places.cls ≠ "java/lang/invoke/VarHandle" ∧ (parseMethodDescriptor yX0_places.desc).map (fun d => d.parameters.length) = some 3 := by decide +kernel
abbrev rm_X0_places : Room := { frames := 1, cells := 0, slots := 0, locals := 22 }
set_option maxHeartbeats 8000000 in
theorem met_X0_places (l : Launch) (E : us_E) (A : Nat → Prop) (B : Nat → Int → Nat) (F : Nat → Int) (M : Nat → Int → Int) (G : Nat → Int → Option Nat) (T : x_T) (R0 : Int → Int → Prop) (a : Int) (t : Int) (i : Int) (ha : 0 ≤ a ∧ a < F 24) (ht : 0 ≤ t ∧ t < F 6) (hi : 0 ≤ i ∧ i < 24) (hbj : BJ R0 (M 28) (M 29)) : cMet l yX0_places cX0_places 8 (some .boolean) rm_X0_places A E [.ref (B 49 0), .ref (B 57 a), .ref (B 55 t), .int (zi i)] (fun H => XH E A B F M G T H) (qi A (fun r H => ∃ m28 : Int → Int, ∃ m29 : Int → Int, ((i + M 201 a ≤ M 200 t ∧ Cs R0 (pl (M 3) (M 56) t i) (fun x => M 58 (8 * a + x)) (M 201 a)) → BJ (Rx R0 (pl (M 3) (M 56) t i) (fun x => M 58 (8 * a + x)) (M 201 a)) m28 m29) ∧ (r = bI (i + M 201 a ≤ M 200 t ∧ Cs R0 (pl (M 3) (M 56) t i) (fun x => M 58 (8 * a + x)) (M 201 a))) ∧ XH E A B F (va_up (va_up M 28 m28) 29 m29) G T H)) := by
  refine cMet.of (by decide) (Nat.le_of_ble_eq_true rfl) (fun p e s m args below meth c C hnm hX hS ls hl => ?_)
  have C : Cx p s m args meth c A RX0 cX0_places 8 (some .boolean) E := C
  have hX : XH E A B F M G T s.heap := hX
  have hl : lv_has ls 8 [(0, .ref (B 49 0)), (1, .ref (B 57 a)), (2, .ref (B 55 t)), (3, .int (zi i))] := hl
  generalize hH : s.heap = H at hX
  have hS : va_S A s.heap H [] := by rw [← hH]; exact hS
  generalize hlocs : ([] : List Loc) = locs at hS ⊢
  obtain ⟨QQ, hQQ⟩ : ∃ zQQ, MQ below (qi A (fun r H => ∃ m28 : Int → Int, ∃ m29 : Int → Int, ((i + M 201 a ≤ M 200 t ∧ Cs R0 (pl (M 3) (M 56) t i) (fun x => M 58 (8 * a + x)) (M 201 a)) → BJ (Rx R0 (pl (M 3) (M 56) t i) (fun x => M 58 (8 * a + x)) (M 201 a)) m28 m29) ∧ (r = bI (i + M 201 a ≤ M 200 t ∧ Cs R0 (pl (M 3) (M 56) t i) (fun x => M 58 (8 * a + x)) (M 201 a))) ∧ XH E A B F (va_up (va_up M 28 m28) 29 m29) G T H)) args s (rm_X0_places).cells (rm_X0_places).slots A = zQQ := ⟨_, rfl⟩
  rw [hQQ]
  have hq4 : ∀ x, 0 ≤ M 58 (8 * a + x) ∧ M 58 (8 * a + x) < 4 := fun x => by have := hX.2.2.1 58 (0, 3) rfl (8 * a + x); constructor <;> omega
  refine lv_iload_n C.x C.b dX0_places_0 rfl (lv_at hl 3 rfl) ?_
  refine lv_aload_n C.x C.b dX0_places_1 rfl (lv_at hl 1 rfl) ?_
  refine r_callUi (As := []) (rest := [.int (zi i)]) (cells' := 0) (slots' := 0) C (met_X4_size l E A B F M G T a (show 0 ≤ a ∧ a < (F 24) from (by omega))) (lw_U q342 q343 q345 q346 q102 q347) rfl hd_X4_size.2 rfl (by decide) (x_recv C hX (f := 57) (i := a) (by decide) (show 0 ≤ a ∧ a < F 24 from (by omega)).1 (xK_57 (show 0 ≤ a ∧ a < F 24 from (by omega))) (q := (RX5, TX5, 1)) rfl) hX hS hl.1 rfl (Nat.le_of_ble_eq_true rfl) dX0_places_2 rfl rfl ⟨Nat.le_of_ble_eq_true rfl, Nat.le_of_ble_eq_true rfl⟩ (fun rr H locs hp hS => ?_)
  obtain ⟨hnz, hrr, hX⟩ := hp
  have hrr : rr = (M 201) a := hrr
  subst hrr
  replace hnz : 0 ≤ (M 201) a ∧ (M 201) a ≤ 8 := hnz
  refine r_iadd C dX0_places_5 ?_
  refine lv_aload_n C.x C.b dX0_places_6 rfl (lv_at hl 2 rfl) ?_
  refine r_callVi (As := []) (rest := [.int (zi (i + ((M 201) a)))]) (cells' := 0) (slots' := 0) C (met_X3_size l E A B F M G T t (show 0 ≤ t ∧ t < (F 6) from (by omega))) (lw_V q174 q175 q176 q98 q177) hd_X3_size rfl (by decide) (x_recv C hX (f := 55) (i := t) (by decide) (show 0 ≤ t ∧ t < F 6 from (by omega)).1 (xK_55 (show 0 ≤ t ∧ t < F 6 from (by omega))) (q := (RX3, TX3, 1)) rfl) hX hS hl.1 rfl (Nat.le_of_ble_eq_true rfl) dX0_places_7 rfl rfl ⟨Nat.le_of_ble_eq_true rfl, Nat.le_of_ble_eq_true rfl⟩ (fun rr H locs hp hS => ?_)
  obtain ⟨hsz, hrr, hX⟩ := hp
  have hrr : rr = (M 200) t := hrr
  subst hrr
  replace hsz : 0 ≤ (M 200) t ∧ (M 200) t ≤ 24 := hsz
  have J18_1 : ∀ (t0 : Int) (ht0 : t0 = bI (¬ (((M 200) t) < (i + ((M 201) a))))) (H : Heap) (locs : List Loc) (ls : Array Slot) (hX : XH E A B F M G T H) (hS : va_S A s.heap H locs) (hl : lv_has ls 8 [(0, .ref (B 49 0)), (1, .ref (B 57 a)), (2, .ref (B 55 t)), (3, .int (zi i))]), W p l e rm_X0_places s m args below meth c H locs 0 0 QQ (F0 m 18 ls [.int (zi t0)]) := by
    intro t0 ht0 H locs ls hX hS hl
    subst ht0
    refine lv_istore (lv' := [(4, .int (zi (bI (¬ (((M 200) t) < (i + ((M 201) a))))))), (0, .ref (B 49 0)), (1, .ref (B 57 a)), (2, .ref (B 55 t)), (3, .int (zi i))]) C.x C.b dX0_places_18 hl (by decide) rfl (fun ls hl => ?_)
    refine r_const C dX0_places_20 ?_
    refine lv_istore (lv' := [(5, .int (zi 0)), (4, .int (zi (bI (¬ (((M 200) t) < (i + ((M 201) a))))))), (0, .ref (B 49 0)), (1, .ref (B 57 a)), (2, .ref (B 55 t)), (3, .int (zi i))]) C.x C.b dX0_places_21 hl (by decide) rfl (fun ls hl => ?_)
    have L23 : ∀ (fu : Nat) (v4 : Prop) (xv4 : Int) (hv4 : xv4 = bI v4) (v5 : Int) (m28 : Int → Int) (m29 : Int → Int) (h5 : 0 ≤ v5 ∧ v5 ≤ M 201 a) (hu : Bx (v4 → (i + M 201 a ≤ M 200 t ∧ Cs R0 (pl (M 3) (M 56) t i) (fun x => M 58 (8 * a + x)) v5) ∧ BJ (Rx R0 (pl (M 3) (M 56) t i) (fun x => M 58 (8 * a + x)) v5) m28 m29)) (hn : Bx (¬ v4 → ¬ (i + M 201 a ≤ M 200 t ∧ Cs R0 (pl (M 3) (M 56) t i) (fun x => M 58 (8 * a + x)) (M 201 a)))) (hm : Int.toNat (M 201 a - v5) < fu) (H : Heap) (locs : List Loc) (ls : Array Slot) (hX : XH E A B F (va_up (va_up M 28 m28) 29 m29) G T H) (hS : va_S A s.heap H locs) (hl : lv_has ls 8 [(0, .ref (B 49 0)), (1, .ref (B 57 a)), (2, .ref (B 55 t)), (3, .int (zi i)), (4, .int (zi xv4)), (5, .int (zi v5))]), W p l e rm_X0_places s m args below meth c H locs 0 0 QQ (F0 m 23 ls []) := by
      intro fu
      induction fu with
      | zero => intro v4 xv4 hv4 v5 m28 m29 h5 hu hn hm; exact absurd hm (Nat.not_lt_zero _)
      | succ fu ih23 =>
        intro v4 xv4 hv4 v5 m28 m29 h5 hu hn hm H locs ls hX hS hl
        subst hv4
        refine lv_iload C.x C.b dX0_places_23 (lv_at hl 5 rfl) ?_
        refine lv_aload_n C.x C.b dX0_places_25 rfl (lv_at hl 1 rfl) ?_
        refine r_callUi (As := []) (rest := [.int (zi v5)]) (cells' := 0) (slots' := 0) C (met_X4_size l E A B F (va_up (va_up M 28 m28) 29 m29) G T a (show 0 ≤ a ∧ a < (F 24) from (by omega))) (lw_U q342 q343 q345 q346 q102 q347) rfl hd_X4_size.2 rfl (by decide) (x_recv C hX (f := 57) (i := a) (by decide) (show 0 ≤ a ∧ a < F 24 from (by omega)).1 (xK_57 (show 0 ≤ a ∧ a < F 24 from (by omega))) (q := (RX5, TX5, 1)) rfl) hX hS hl.1 rfl (Nat.le_of_ble_eq_true rfl) dX0_places_26 rfl rfl ⟨Nat.le_of_ble_eq_true rfl, Nat.le_of_ble_eq_true rfl⟩ (fun rr H locs hp hS => ?_)
        obtain ⟨hnz2, hrr, hX⟩ := hp
        have hrr : rr = (M 201) a := hrr
        subst hrr
        replace hnz2 : 0 ≤ (M 201) a ∧ (M 201) a ≤ 8 := hnz2
        refine r_icmp_ge (tgt := 146) C (by omega) (by omega) dX0_places_29 (by decide) (fun c_2 => ?_) (fun c_2 => ?_)
        · refine lv_iload C.x C.b dX0_places_146 (lv_at hl 4 rfl) ?_
          rw [← hQQ]
          exact r_zret C (bI_e _) hS (Nat.le_of_ble_eq_true rfl) (Nat.le_of_ble_eq_true rfl) dX0_places_148 ⟨m28, m29, (fun z => by first | exact absurd z (hn.o (by assumption)) | (rw [← show v5 = M 201 a by omega]; exact (hu.o (Classical.byContradiction (fun q => hn.o q z))).2)), (bI_c ⟨fun q => by first | exact absurd q (by assumption) | exact ⟨(hu.o q).1.1, by rw [← show v5 = M 201 a by omega]; exact (hu.o q).1.2⟩, fun z => by first | assumption | exact Classical.byContradiction (fun q => hn.o q z)⟩), hX⟩
        · refine lv_iload C.x C.b dX0_places_32 (lv_at hl 4 rfl) ?_
          refine r_if_eq_b (tgt := 146) C dX0_places_34 (by decide) (fun c_3 => ?_) (fun c_3 => ?_)
          · refine lv_iload C.x C.b dX0_places_146 (lv_at hl 4 rfl) ?_
            rw [← hQQ]
            exact r_zret C (bI_e _) hS (Nat.le_of_ble_eq_true rfl) (Nat.le_of_ble_eq_true rfl) dX0_places_148 ⟨m28, m29, (fun z => by first | exact absurd z (hn.o (by assumption)) | (rw [← show v5 = M 201 a by omega]; exact (hu.o (Classical.byContradiction (fun q => hn.o q z))).2)), (bI_c ⟨fun q => by first | exact absurd q (by assumption) | exact ⟨(hu.o q).1.1, by rw [← show v5 = M 201 a by omega]; exact (hu.o q).1.2⟩, fun z => by first | assumption | exact Classical.byContradiction (fun q => hn.o q z)⟩), hX⟩
          · have hu1 := hu.o (by assumption)
            have hle := hu1.1.1
            refine lv_aload_n C.x C.b dX0_places_37 rfl (lv_at hl 0 rfl) ?_
            refine lv_aload_n C.x C.b dX0_places_38 rfl (lv_at hl 2 rfl) ?_
            refine lv_iload_n C.x C.b dX0_places_39 rfl (lv_at hl 3 rfl) ?_
            refine lv_iload C.x C.b dX0_places_40 (lv_at hl 5 rfl) ?_
            refine r_iadd C dX0_places_42 ?_
            refine r_callVi (As := [.ref (B 55 t), .int (zi (i + v5))]) (rest := []) (cells' := 0) (slots' := 0) C (met_X0_signAt l E A B F (va_up (va_up M 28 m28) 29 m29) G T t (i + v5) (show 0 ≤ t ∧ t < (F 6) from (by omega)) (show 0 ≤ (i + v5) ∧ (i + v5) < (M 200) t from (by omega))) (lw_V q178 q180 qs6 q86 q181) hd_X0_signAt rfl (by decide) (x_this C hX) hX hS hl.1 rfl (Nat.le_of_ble_eq_true rfl) dX0_places_43 rfl rfl ⟨Nat.le_of_ble_eq_true rfl, Nat.le_of_ble_eq_true rfl⟩ (fun rr H locs hp hS => ?_)
            obtain ⟨hat, hrr, hX⟩ := hp
            have hrr : rr = sa ((M 3)) ((M 56) (24 * t + (i + v5))) := hrr
            subst hrr
            replace hat : -2 ≤ sa ((M 3)) ((M 56) (24 * t + (i + v5))) ∧ sa ((M 3)) ((M 56) (24 * t + (i + v5))) ≤ 23 := hat
            refine lv_istore (lv' := [(6, .int (zi (sa ((M 3)) ((M 56) (24 * t + (i + v5)))))), (0, .ref (B 49 0)), (1, .ref (B 57 a)), (2, .ref (B 55 t)), (3, .int (zi i)), (4, .int (zi (bI v4))), (5, .int (zi v5))]) C.x C.b dX0_places_46 hl (by decide) rfl (fun ls hl => ?_)
            refine lv_aload_n C.x C.b dX0_places_48 rfl (lv_at hl 2 rfl) ?_
            refine x_go C hX 57 (by decide) (show 0 ≤ a ∧ a < F 24 from (by omega)).1 (xK_57 (show 0 ≤ a ∧ a < F 24 from (by omega))) rfl in_X5 0 (by decide) q320 (fun x h => u_same (C.t _ q321) x h) (.ref (B 58 a)) rfl dX0_places_49 ?_
            refine lv_iload C.x C.b dX0_places_52 (lv_at hl 6 rfl) ?_
            have rl54 : 0 ≤ M 201 a ∧ M 201 a ≤ 8 := hX.2.2.1 201 (0, 8) rfl _
            refine x_ld C hX 58 (i := a) rfl rfl (xpr_58 (show 0 ≤ a ∧ a < F 24 from (by omega))) (by decide) (show 0 ≤ a ∧ a < F 24 from (by omega)).1 rfl (show 0 ≤ v5 ∧ v5 < (((M 201 a).toNat : Nat) : Int) from (by omega)) (by omega) (by omega) (M 58 (8 * a + v5)) rfl dX0_places_54 (fun r54 => ?_)
            have r54 : 0 ≤ M 58 (8 * a + v5) ∧ M 58 (8 * a + v5) ≤ 3 := r54 (0, 3) rfl
            refine lv_istore (lv' := [(7, .int (zi (M 58 (8 * a + v5)))), (6, .int (zi (sa ((M 3)) ((M 56) (24 * t + (i + v5)))))), (0, .ref (B 49 0)), (1, .ref (B 57 a)), (2, .ref (B 55 t)), (3, .int (zi i)), (4, .int (zi (bI v4))), (5, .int (zi v5))]) C.x C.b dX0_places_55 hl (by decide) rfl (fun ls hl => ?_)
            have hS24 : sa (M 3) (M 56 (24 * t + (i + v5))) < 24 := by omega
            have hyes := fun (z : (¬ (sa (M 3) (M 56 (24 * t + (i + v5)))) < 0) ∧ (((m28 (M 58 (8 * a + v5)) = -4) ∧ ((m29 (sa (M 3) (M 56 (24 * t + (i + v5)))) = -4) ∨ (m29 (sa (M 3) (M 56 (24 * t + (i + v5)))) = M 58 (8 * a + v5)))) ∨ ((¬ m28 (M 58 (8 * a + v5)) = -4) ∧ ((m28 (M 58 (8 * a + v5)) = sa (M 3) (M 56 (24 * t + (i + v5)))) ∧ ((m29 (sa (M 3) (M 56 (24 * t + (i + v5)))) = -4) ∨ (m29 (sa (M 3) (M 56 (24 * t + (i + v5)))) = M 58 (8 * a + v5))))))) => pl_yes (p := (pl (M 3) (M 56) t i)) (q := (fun x => M 58 (8 * a + x))) (f := m28) (b := m29) h5.1 hu1.1.2 hu1.2 hq4 ⟨(plE.1 z).1, hS24⟩ (plE.1 z).2.1 (plE.1 z).2.2
            have hno := fun (z : ¬ ((¬ (sa (M 3) (M 56 (24 * t + (i + v5)))) < 0) ∧ (((m28 (M 58 (8 * a + v5)) = -4) ∧ ((m29 (sa (M 3) (M 56 (24 * t + (i + v5)))) = -4) ∨ (m29 (sa (M 3) (M 56 (24 * t + (i + v5)))) = M 58 (8 * a + v5)))) ∨ ((¬ m28 (M 58 (8 * a + v5)) = -4) ∧ ((m28 (M 58 (8 * a + v5)) = sa (M 3) (M 56 (24 * t + (i + v5)))) ∧ ((m29 (sa (M 3) (M 56 (24 * t + (i + v5)))) = -4) ∨ (m29 (sa (M 3) (M 56 (24 * t + (i + v5)))) = M 58 (8 * a + v5)))))))) => pl_no (k := M 201 a) (p := (pl (M 3) (M 56) t i)) (q := (fun x => M 58 (8 * a + x))) (f := m28) (b := m29) h5.1 (by omega) hu1.2 hq4 hS24 (fun y => z (plE.2 y))
            refine lv_iload C.x C.b dX0_places_57 (lv_at hl 1 rfl) ?_
            have J115_4 : ∀ (t0 : Int) (ht0 : t0 = bI ((¬ ((sa ((M 3)) ((M 56) (24 * t + (i + v5)))) < 0)) ∧ ((((m28 (M 58 (8 * a + v5))) = (-4)) ∧ (((m29 (sa ((M 3)) ((M 56) (24 * t + (i + v5))))) = (-4)) ∨ ((m29 (sa ((M 3)) ((M 56) (24 * t + (i + v5))))) = (M 58 (8 * a + v5))))) ∨ ((¬ ((m28 (M 58 (8 * a + v5))) = (-4))) ∧ (((m28 (M 58 (8 * a + v5))) = (sa ((M 3)) ((M 56) (24 * t + (i + v5))))) ∧ (((m29 (sa ((M 3)) ((M 56) (24 * t + (i + v5))))) = (-4)) ∨ ((m29 (sa ((M 3)) ((M 56) (24 * t + (i + v5))))) = (M 58 (8 * a + v5))))))))) (H : Heap) (locs : List Loc) (ls : Array Slot) (hX : XH E A B F (va_up (va_up M 28 m28) 29 m29) G T H) (hS : va_S A s.heap H locs) (hl : lv_has ls 8 [(7, .int (zi (M 58 (8 * a + v5)))), (6, .int (zi (sa ((M 3)) ((M 56) (24 * t + (i + v5)))))), (0, .ref (B 49 0)), (1, .ref (B 57 a)), (2, .ref (B 55 t)), (3, .int (zi i)), (4, .int (zi (bI v4))), (5, .int (zi v5))]), W p l e rm_X0_places s m args below meth c H locs 0 0 QQ (F0 m 115 ls [.int (zi t0)]) := by
              intro t0 ht0 H locs ls hX hS hl
              subst ht0
              refine lv_istore (lv' := [(4, .int (zi (bI ((¬ ((sa ((M 3)) ((M 56) (24 * t + (i + v5)))) < 0)) ∧ ((((m28 (M 58 (8 * a + v5))) = (-4)) ∧ (((m29 (sa ((M 3)) ((M 56) (24 * t + (i + v5))))) = (-4)) ∨ ((m29 (sa ((M 3)) ((M 56) (24 * t + (i + v5))))) = (M 58 (8 * a + v5))))) ∨ ((¬ ((m28 (M 58 (8 * a + v5))) = (-4))) ∧ (((m28 (M 58 (8 * a + v5))) = (sa ((M 3)) ((M 56) (24 * t + (i + v5))))) ∧ (((m29 (sa ((M 3)) ((M 56) (24 * t + (i + v5))))) = (-4)) ∨ ((m29 (sa ((M 3)) ((M 56) (24 * t + (i + v5))))) = (M 58 (8 * a + v5))))))))))), (7, .int (zi (M 58 (8 * a + v5)))), (6, .int (zi (sa ((M 3)) ((M 56) (24 * t + (i + v5)))))), (0, .ref (B 49 0)), (1, .ref (B 57 a)), (2, .ref (B 55 t)), (3, .int (zi i)), (5, .int (zi v5))]) C.x C.b dX0_places_115 hl (by decide) rfl (fun ls hl => ?_)
              refine lv_iload C.x C.b dX0_places_117 (lv_at hl 0 rfl) ?_
              refine r_if_eq_b (tgt := 140) C dX0_places_119 (by decide) (fun c_5 => ?_) (fun c_5 => ?_)
              · refine r_iinc (lv' := [(5, .int (zi (v5 + 1))), (4, .int (zi (bI ((¬ ((sa ((M 3)) ((M 56) (24 * t + (i + v5)))) < 0)) ∧ ((((m28 (M 58 (8 * a + v5))) = (-4)) ∧ (((m29 (sa ((M 3)) ((M 56) (24 * t + (i + v5))))) = (-4)) ∨ ((m29 (sa ((M 3)) ((M 56) (24 * t + (i + v5))))) = (M 58 (8 * a + v5))))) ∨ ((¬ ((m28 (M 58 (8 * a + v5))) = (-4))) ∧ (((m28 (M 58 (8 * a + v5))) = (sa ((M 3)) ((M 56) (24 * t + (i + v5))))) ∧ (((m29 (sa ((M 3)) ((M 56) (24 * t + (i + v5))))) = (-4)) ∨ ((m29 (sa ((M 3)) ((M 56) (24 * t + (i + v5))))) = (M 58 (8 * a + v5))))))))))), (7, .int (zi (M 58 (8 * a + v5)))), (6, .int (zi (sa ((M 3)) ((M 56) (24 * t + (i + v5)))))), (0, .ref (B 49 0)), (1, .ref (B 57 a)), (2, .ref (B 55 t)), (3, .int (zi i))]) C dX0_places_140 hl (k := 7) rfl (by decide) rfl (fun ls hl => ?_)
                refine lv_goto (tgt := 23) C.x C.b dX0_places_143 (by decide) ?_
                exact ih23 ((¬ ((sa ((M 3)) ((M 56) (24 * t + (i + v5)))) < 0)) ∧ ((((m28 (M 58 (8 * a + v5))) = (-4)) ∧ (((m29 (sa ((M 3)) ((M 56) (24 * t + (i + v5))))) = (-4)) ∨ ((m29 (sa ((M 3)) ((M 56) (24 * t + (i + v5))))) = (M 58 (8 * a + v5))))) ∨ ((¬ ((m28 (M 58 (8 * a + v5))) = (-4))) ∧ (((m28 (M 58 (8 * a + v5))) = (sa ((M 3)) ((M 56) (24 * t + (i + v5))))) ∧ (((m29 (sa ((M 3)) ((M 56) (24 * t + (i + v5))))) = (-4)) ∨ ((m29 (sa ((M 3)) ((M 56) (24 * t + (i + v5))))) = (M 58 (8 * a + v5)))))))) (bI ((¬ ((sa ((M 3)) ((M 56) (24 * t + (i + v5)))) < 0)) ∧ ((((m28 (M 58 (8 * a + v5))) = (-4)) ∧ (((m29 (sa ((M 3)) ((M 56) (24 * t + (i + v5))))) = (-4)) ∨ ((m29 (sa ((M 3)) ((M 56) (24 * t + (i + v5))))) = (M 58 (8 * a + v5))))) ∨ ((¬ ((m28 (M 58 (8 * a + v5))) = (-4))) ∧ (((m28 (M 58 (8 * a + v5))) = (sa ((M 3)) ((M 56) (24 * t + (i + v5))))) ∧ (((m29 (sa ((M 3)) ((M 56) (24 * t + (i + v5))))) = (-4)) ∨ ((m29 (sa ((M 3)) ((M 56) (24 * t + (i + v5))))) = (M 58 (8 * a + v5))))))))) rfl (v5 + 1) m28 m29 (by omega) (Bx.i (fun q => by first | exact absurd q (by assumption) | exact ⟨⟨hle, (hyes (by assumption)).1⟩, (hyes (by assumption)).2⟩)) (Bx.i (fun q z => by first | exact absurd (by assumption) q | exact absurd z.2 (hno (by assumption)))) (by omega) H locs ls hX hS (lv_sub hl [4, 5, 6, 7, 1, 0] rfl)
              · refine lv_aload_n C.x C.b dX0_places_122 rfl (lv_at hl 3 rfl) ?_
                refine x_ga C hX 28 (by decide) rfl q764 (fun _ h => h) dX0_places_123 ?_
                refine lv_iload C.x C.b dX0_places_126 (lv_at hl 1 rfl) ?_
                refine lv_iload C.x C.b dX0_places_128 (lv_at hl 2 rfl) ?_
                refine x_si1 C hX hS 28 rfl (by decide) rfl (show 0 ≤ (M 58 (8 * a + v5)) ∧ (M 58 (8 * a + v5)) < 4 from (by omega)) (by decide) (fun b hb => by cases hb; exact (show -4 ≤ sa ((M 3)) ((M 56) (24 * t + (i + v5))) ∧ sa ((M 3)) ((M 56) (24 * t + (i + v5))) ≤ 23 from (by omega))) (M' := (va_up (va_up M 28 (fup m28 (M 58 (8 * a + v5)) (sa ((M 3)) ((M 56) (24 * t + (i + v5)))))) 29 m29)) (up_in (by decide) (up_up _ _ _ _)) dX0_places_130 (fun H locs hX hS => ?_)
                refine lv_aload_n C.x C.b dX0_places_131 rfl (lv_at hl 3 rfl) ?_
                refine x_ga C hX 29 (by decide) rfl q765 (fun _ h => h) dX0_places_132 ?_
                refine lv_iload C.x C.b dX0_places_135 (lv_at hl 2 rfl) ?_
                refine lv_iload C.x C.b dX0_places_137 (lv_at hl 1 rfl) ?_
                refine x_si1 C hX hS 29 rfl (by decide) rfl (show 0 ≤ (sa ((M 3)) ((M 56) (24 * t + (i + v5)))) ∧ (sa ((M 3)) ((M 56) (24 * t + (i + v5)))) < 24 from (by omega)) (by decide) (fun b hb => by cases hb; exact (show -4 ≤ M 58 (8 * a + v5) ∧ M 58 (8 * a + v5) ≤ 3 from (by omega))) (M' := (va_up (va_up M 28 (fup m28 (M 58 (8 * a + v5)) (sa ((M 3)) ((M 56) (24 * t + (i + v5)))))) 29 (fup m29 (sa ((M 3)) ((M 56) (24 * t + (i + v5)))) (M 58 (8 * a + v5))))) (up_up _ _ _ _) dX0_places_139 (fun H locs hX hS => ?_)
                refine r_iinc (lv' := [(5, .int (zi (v5 + 1))), (4, .int (zi (bI ((¬ ((sa ((M 3)) ((M 56) (24 * t + (i + v5)))) < 0)) ∧ ((((m28 (M 58 (8 * a + v5))) = (-4)) ∧ (((m29 (sa ((M 3)) ((M 56) (24 * t + (i + v5))))) = (-4)) ∨ ((m29 (sa ((M 3)) ((M 56) (24 * t + (i + v5))))) = (M 58 (8 * a + v5))))) ∨ ((¬ ((m28 (M 58 (8 * a + v5))) = (-4))) ∧ (((m28 (M 58 (8 * a + v5))) = (sa ((M 3)) ((M 56) (24 * t + (i + v5))))) ∧ (((m29 (sa ((M 3)) ((M 56) (24 * t + (i + v5))))) = (-4)) ∨ ((m29 (sa ((M 3)) ((M 56) (24 * t + (i + v5))))) = (M 58 (8 * a + v5))))))))))), (7, .int (zi (M 58 (8 * a + v5)))), (6, .int (zi (sa ((M 3)) ((M 56) (24 * t + (i + v5)))))), (0, .ref (B 49 0)), (1, .ref (B 57 a)), (2, .ref (B 55 t)), (3, .int (zi i))]) C dX0_places_140 hl (k := 7) rfl (by decide) rfl (fun ls hl => ?_)
                refine lv_goto (tgt := 23) C.x C.b dX0_places_143 (by decide) ?_
                exact ih23 ((¬ ((sa ((M 3)) ((M 56) (24 * t + (i + v5)))) < 0)) ∧ ((((m28 (M 58 (8 * a + v5))) = (-4)) ∧ (((m29 (sa ((M 3)) ((M 56) (24 * t + (i + v5))))) = (-4)) ∨ ((m29 (sa ((M 3)) ((M 56) (24 * t + (i + v5))))) = (M 58 (8 * a + v5))))) ∨ ((¬ ((m28 (M 58 (8 * a + v5))) = (-4))) ∧ (((m28 (M 58 (8 * a + v5))) = (sa ((M 3)) ((M 56) (24 * t + (i + v5))))) ∧ (((m29 (sa ((M 3)) ((M 56) (24 * t + (i + v5))))) = (-4)) ∨ ((m29 (sa ((M 3)) ((M 56) (24 * t + (i + v5))))) = (M 58 (8 * a + v5)))))))) (bI ((¬ ((sa ((M 3)) ((M 56) (24 * t + (i + v5)))) < 0)) ∧ ((((m28 (M 58 (8 * a + v5))) = (-4)) ∧ (((m29 (sa ((M 3)) ((M 56) (24 * t + (i + v5))))) = (-4)) ∨ ((m29 (sa ((M 3)) ((M 56) (24 * t + (i + v5))))) = (M 58 (8 * a + v5))))) ∨ ((¬ ((m28 (M 58 (8 * a + v5))) = (-4))) ∧ (((m28 (M 58 (8 * a + v5))) = (sa ((M 3)) ((M 56) (24 * t + (i + v5))))) ∧ (((m29 (sa ((M 3)) ((M 56) (24 * t + (i + v5))))) = (-4)) ∨ ((m29 (sa ((M 3)) ((M 56) (24 * t + (i + v5))))) = (M 58 (8 * a + v5))))))))) rfl (v5 + 1) (fup m28 (M 58 (8 * a + v5)) (sa ((M 3)) ((M 56) (24 * t + (i + v5))))) (fup m29 (sa ((M 3)) ((M 56) (24 * t + (i + v5)))) (M 58 (8 * a + v5))) (by omega) (Bx.i (fun q => by first | exact absurd q (by assumption) | exact ⟨⟨hle, (hyes (by assumption)).1⟩, (hyes (by assumption)).2⟩)) (Bx.i (fun q z => by first | exact absurd (by assumption) q | exact absurd z.2 (hno (by assumption)))) (by omega) H locs ls hX hS (lv_sub hl [4, 5, 6, 7, 1, 0] rfl)
            refine r_if_lt (tgt := 114) C (by omega) dX0_places_59 (by decide) (fun c_6 => ?_) (fun c_6 => ?_)
            · refine r_const C dX0_places_114 ?_
              exact J115_4 0 ((bI_f (fun q => (fun q => q c_6) q.1)).symm) H locs ls hX hS hl
            · refine lv_aload_n C.x C.b dX0_places_62 rfl (lv_at hl 2 rfl) ?_
              refine x_ga C hX 28 (by decide) rfl q764 (fun _ h => h) dX0_places_63 ?_
              refine lv_iload C.x C.b dX0_places_66 (lv_at hl 0 rfl) ?_
              refine x_li1 C hX 28 rfl (by decide) rfl (show 0 ≤ (M 58 (8 * a + v5)) ∧ (M 58 (8 * a + v5)) < 4 from (by omega)) (by decide) (m28 (M 58 (8 * a + v5))) rfl dX0_places_68 (fun r68 => ?_)
              have r68 : -4 ≤ m28 (M 58 (8 * a + v5)) ∧ m28 (M 58 (8 * a + v5)) ≤ 23 := r68 (-4, 23) rfl
              refine r_bipush C (by decide) dX0_places_69 ?_
              refine r_icmp_eq (tgt := 86) C (by omega) (by decide) dX0_places_71 (by decide) (fun c_7 => ?_) (fun c_7 => ?_)
              · refine lv_aload_n C.x C.b dX0_places_86 rfl (lv_at hl 2 rfl) ?_
                refine x_ga C hX 29 (by decide) rfl q765 (fun _ h => h) dX0_places_87 ?_
                refine lv_iload C.x C.b dX0_places_90 (lv_at hl 1 rfl) ?_
                refine x_li1 C hX 29 rfl (by decide) rfl (show 0 ≤ (sa ((M 3)) ((M 56) (24 * t + (i + v5)))) ∧ (sa ((M 3)) ((M 56) (24 * t + (i + v5)))) < 24 from (by omega)) (by decide) (m29 (sa ((M 3)) ((M 56) (24 * t + (i + v5))))) rfl dX0_places_92 (fun r92 => ?_)
                have r92 : -4 ≤ m29 (sa ((M 3)) ((M 56) (24 * t + (i + v5)))) ∧ m29 (sa ((M 3)) ((M 56) (24 * t + (i + v5)))) ≤ 3 := r92 (-4, 3) rfl
                refine r_bipush C (by decide) dX0_places_93 ?_
                refine r_icmp_eq (tgt := 110) C (by omega) (by decide) dX0_places_95 (by decide) (fun c_8 => ?_) (fun c_8 => ?_)
                · refine r_const C dX0_places_110 ?_
                  refine lv_goto (tgt := 115) C.x C.b dX0_places_111 (by decide) ?_
                  exact J115_4 1 ((bI_t ⟨c_6, (Or.inl ⟨c_7, (Or.inl c_8)⟩)⟩).symm) H locs ls hX hS hl
                · refine lv_aload_n C.x C.b dX0_places_98 rfl (lv_at hl 2 rfl) ?_
                  refine x_ga C hX 29 (by decide) rfl q765 (fun _ h => h) dX0_places_99 ?_
                  refine lv_iload C.x C.b dX0_places_102 (lv_at hl 1 rfl) ?_
                  refine x_li1 C hX 29 rfl (by decide) rfl (show 0 ≤ (sa ((M 3)) ((M 56) (24 * t + (i + v5)))) ∧ (sa ((M 3)) ((M 56) (24 * t + (i + v5)))) < 24 from (by omega)) (by decide) (m29 (sa ((M 3)) ((M 56) (24 * t + (i + v5))))) rfl dX0_places_104 (fun _ => ?_)
                  refine lv_iload C.x C.b dX0_places_105 (lv_at hl 0 rfl) ?_
                  refine r_icmp_ne (tgt := 114) C (by omega) (by omega) dX0_places_107 (by decide) (fun c_9 => ?_) (fun c_9 => ?_)
                  · refine r_const C dX0_places_114 ?_
                    exact J115_4 0 ((bI_f (fun q => (fun q => q.elim (fun q => (fun q => q.elim c_8 c_9) q.2) (fun q => (fun q => q c_7) q.1)) q.2)).symm) H locs ls hX hS hl
                  · refine r_const C dX0_places_110 ?_
                    refine lv_goto (tgt := 115) C.x C.b dX0_places_111 (by decide) ?_
                    exact J115_4 1 ((bI_t ⟨c_6, (Or.inl ⟨c_7, (Or.inr c_9)⟩)⟩).symm) H locs ls hX hS hl
              · refine lv_aload_n C.x C.b dX0_places_74 rfl (lv_at hl 2 rfl) ?_
                refine x_ga C hX 28 (by decide) rfl q764 (fun _ h => h) dX0_places_75 ?_
                refine lv_iload C.x C.b dX0_places_78 (lv_at hl 0 rfl) ?_
                refine x_li1 C hX 28 rfl (by decide) rfl (show 0 ≤ (M 58 (8 * a + v5)) ∧ (M 58 (8 * a + v5)) < 4 from (by omega)) (by decide) (m28 (M 58 (8 * a + v5))) rfl dX0_places_80 (fun _ => ?_)
                refine lv_iload C.x C.b dX0_places_81 (lv_at hl 1 rfl) ?_
                refine r_icmp_ne (tgt := 114) C (by omega) (by omega) dX0_places_83 (by decide) (fun c_10 => ?_) (fun c_10 => ?_)
                · refine r_const C dX0_places_114 ?_
                  exact J115_4 0 ((bI_f (fun q => (fun q => q.elim (fun q => c_7 q.1) (fun q => (fun q => c_10 q.1) q.2)) q.2)).symm) H locs ls hX hS hl
                · refine lv_aload_n C.x C.b dX0_places_86 rfl (lv_at hl 2 rfl) ?_
                  refine x_ga C hX 29 (by decide) rfl q765 (fun _ h => h) dX0_places_87 ?_
                  refine lv_iload C.x C.b dX0_places_90 (lv_at hl 1 rfl) ?_
                  refine x_li1 C hX 29 rfl (by decide) rfl (show 0 ≤ (sa ((M 3)) ((M 56) (24 * t + (i + v5)))) ∧ (sa ((M 3)) ((M 56) (24 * t + (i + v5)))) < 24 from (by omega)) (by decide) (m29 (sa ((M 3)) ((M 56) (24 * t + (i + v5))))) rfl dX0_places_92 (fun r92 => ?_)
                  have r92 : -4 ≤ m29 (sa ((M 3)) ((M 56) (24 * t + (i + v5)))) ∧ m29 (sa ((M 3)) ((M 56) (24 * t + (i + v5)))) ≤ 3 := r92 (-4, 3) rfl
                  refine r_bipush C (by decide) dX0_places_93 ?_
                  refine r_icmp_eq (tgt := 110) C (by omega) (by decide) dX0_places_95 (by decide) (fun c_11 => ?_) (fun c_11 => ?_)
                  · refine r_const C dX0_places_110 ?_
                    refine lv_goto (tgt := 115) C.x C.b dX0_places_111 (by decide) ?_
                    exact J115_4 1 ((bI_t ⟨c_6, (Or.inr ⟨c_7, ⟨c_10, (Or.inl c_11)⟩⟩)⟩).symm) H locs ls hX hS hl
                  · refine lv_aload_n C.x C.b dX0_places_98 rfl (lv_at hl 2 rfl) ?_
                    refine x_ga C hX 29 (by decide) rfl q765 (fun _ h => h) dX0_places_99 ?_
                    refine lv_iload C.x C.b dX0_places_102 (lv_at hl 1 rfl) ?_
                    refine x_li1 C hX 29 rfl (by decide) rfl (show 0 ≤ (sa ((M 3)) ((M 56) (24 * t + (i + v5)))) ∧ (sa ((M 3)) ((M 56) (24 * t + (i + v5)))) < 24 from (by omega)) (by decide) (m29 (sa ((M 3)) ((M 56) (24 * t + (i + v5))))) rfl dX0_places_104 (fun _ => ?_)
                    refine lv_iload C.x C.b dX0_places_105 (lv_at hl 0 rfl) ?_
                    refine r_icmp_ne (tgt := 114) C (by omega) (by omega) dX0_places_107 (by decide) (fun c_12 => ?_) (fun c_12 => ?_)
                    · refine r_const C dX0_places_114 ?_
                      exact J115_4 0 ((bI_f (fun q => (fun q => q.elim (fun q => c_7 q.1) (fun q => (fun q => (fun q => q.elim c_11 c_12) q.2) q.2)) q.2)).symm) H locs ls hX hS hl
                    · refine r_const C dX0_places_110 ?_
                      refine lv_goto (tgt := 115) C.x C.b dX0_places_111 (by decide) ?_
                      exact J115_4 1 ((bI_t ⟨c_6, (Or.inr ⟨c_7, ⟨c_10, (Or.inr c_12)⟩⟩)⟩).symm) H locs ls hX hS hl
    exact L23 _ (¬ (((M 200) t) < (i + ((M 201) a)))) (bI (¬ (((M 200) t) < (i + ((M 201) a))))) rfl 0 (M 28) (M 29) (by omega) (Bx.i (fun q => ⟨⟨by omega, Cs_z⟩, hbj.cg (fun _ _ => Rx_0 (Int.le_refl 0))⟩)) (Bx.i (fun q z => absurd z.1 (by omega))) (Nat.lt_succ_self _) H locs ls (hX.to rfl rfl (((up_id M (k := 28) (a := (M 28)) rfl).symm.trans rfl).trans ((up_id (va_up M 28 (M 28)) (k := 29) (a := (M 29)) rfl).symm.trans rfl)) rfl rfl) hS (lv_sub hl [2, 3, 4, 5, 1, 0] rfl)
  refine r_icmp_gt (tgt := 17) C (by omega) (by omega) dX0_places_10 (by decide) (fun c_13 => ?_) (fun c_13 => ?_)
  · refine r_const C dX0_places_17 ?_
    exact J18_1 0 ((bI_f (fun q => q c_13)).symm) H locs ls hX hS hl
  · refine r_const C dX0_places_13 ?_
    refine lv_goto (tgt := 18) C.x C.b dX0_places_14 (by decide) ?_
    exact J18_1 1 ((bI_t c_13).symm) H locs ls hX hS hl

theorem CsF {p q : Int → Int} {k i T : Int} : (i + k ≤ T ∧ Cs R00 p q k) ↔ Fits p q k (T - i) := by
  rw [← Cs0]
  exact and_congr ⟨fun h => by omega, fun h => by omega⟩ Iff.rfl
theorem CsG {p1 q1 p2 q2 : Int → Int} {k1 k2 i j T U : Int} (hq : ∀ x, 0 ≤ q1 x ∧ q1 x < 4) : ((i + k1 ≤ T ∧ Cs R00 p1 q1 k1) ∧ (j + k2 ≤ U ∧ Cs (Rx R00 p1 q1 k1) p2 q2 k2)) ↔ (Fits p1 q1 k1 (T - i) ∧ Fits p2 q2 k2 (U - j) ∧ Agr p1 p2 q1 q2 k1 k2) := by
  rw [← CsF, ← CsF]
  constructor
  · rintro ⟨a, b, d⟩
    have z := (Cs1 (fun x h0 h1 => (a.2 x h0 h1).1) (fun x => (hq x).1)).1 d
    exact ⟨a, ⟨b, z.1⟩, z.2⟩
  · rintro ⟨a, ⟨b, d⟩, g⟩
    exact ⟨a, b, (Cs1 (fun x h0 h1 => (a.2 x h0 h1).1) (fun x => (hq x).1)).2 ⟨d, g⟩⟩

theorem hd_X0_dragged : yX0_dragged.cls = RX0 ∧ yX0_dragged.cls ≠ "java/lang/invoke/MethodHandle" ∧ yX0_dragged.cls ≠ "java/lang/invoke/VarHandle" ∧ (parseMethodDescriptor yX0_dragged.desc).map (fun d => d.parameters.length) = some 3 := by decide +kernel
abbrev rm_X0_dragged : Room := { frames := 3, cells := 0, slots := 0, locals := 64 }
set_option maxHeartbeats 8000000 in
theorem met_X0_dragged (l : Launch) (E : us_E) (A : Nat → Prop) (B : Nat → Int → Nat) (F : Nat → Int) (M : Nat → Int → Int) (G : Nat → Int → Option Nat) (T : x_T) (a : Int) (t : Int) (w : Int) (ha : -2147483648 ≤ a ∧ a < 2147483648) (ht : -2147483648 ≤ t ∧ t < 2147483648) (hw : -2147483648 ≤ w ∧ w < 2147483648) : cMet l yX0_dragged cX0_dragged 8 (some .int) rm_X0_dragged A E [.ref (B 49 0), .int (zi a), .int (zi t), .int (zi w)] (fun H => XH E A B F M G T H) (qi A (fun r H => ∃ m3 : Int → Int, ∃ m28 : Int → Int, ∃ m29 : Int → Int, (((0 ≤ a ∧ a < F 24) ∧ (0 ≤ t ∧ t < F 6) ∧ (0 ≤ w ∧ w ≤ 2)) → SgOK (F 1) (M 0) (F 2) m3) ∧ (r = sel ((0 ≤ a ∧ a < F 24) ∧ (0 ≤ t ∧ t < F 6) ∧ (0 ≤ w ∧ w ≤ 2)) (pick3 w (cntF (fun i => Fits (pl m3 (M 56) t i) (fun x => M 58 (8 * a + x)) (M 201 a) (M 200 t - i)) (M 200 t)) (fstF (fun i => Fits (pl m3 (M 56) t i) (fun x => M 58 (8 * a + x)) (M 201 a) (M 200 t - i)) (M 200 t)) (lstF (fun i => Fits (pl m3 (M 56) t i) (fun x => M 58 (8 * a + x)) (M 201 a) (M 200 t - i)) (M 200 t))) (-1)) ∧ XH E A B F (va_up (va_up (va_up M 3 m3) 28 m28) 29 m29) G T H)) := by
  refine cMet.of (by decide) (Nat.le_of_ble_eq_true rfl) (fun p e s m args below meth c C hnm hX hS ls hl => ?_)
  have C : Cx p s m args meth c A RX0 cX0_dragged 8 (some .int) E := C
  have hX : XH E A B F M G T s.heap := hX
  have hl : lv_has ls 8 [(0, .ref (B 49 0)), (1, .int (zi a)), (2, .int (zi t)), (3, .int (zi w))] := hl
  generalize hH : s.heap = H at hX
  have hS : va_S A s.heap H [] := by rw [← hH]; exact hS
  generalize hlocs : ([] : List Loc) = locs at hS ⊢
  obtain ⟨QQ, hQQ⟩ : ∃ zQQ, MQ below (qi A (fun r H => ∃ m3 : Int → Int, ∃ m28 : Int → Int, ∃ m29 : Int → Int, (((0 ≤ a ∧ a < F 24) ∧ (0 ≤ t ∧ t < F 6) ∧ (0 ≤ w ∧ w ≤ 2)) → SgOK (F 1) (M 0) (F 2) m3) ∧ (r = sel ((0 ≤ a ∧ a < F 24) ∧ (0 ≤ t ∧ t < F 6) ∧ (0 ≤ w ∧ w ≤ 2)) (pick3 w (cntF (fun i => Fits (pl m3 (M 56) t i) (fun x => M 58 (8 * a + x)) (M 201 a) (M 200 t - i)) (M 200 t)) (fstF (fun i => Fits (pl m3 (M 56) t i) (fun x => M 58 (8 * a + x)) (M 201 a) (M 200 t - i)) (M 200 t)) (lstF (fun i => Fits (pl m3 (M 56) t i) (fun x => M 58 (8 * a + x)) (M 201 a) (M 200 t - i)) (M 200 t))) (-1)) ∧ XH E A B F (va_up (va_up (va_up M 3 m3) 28 m28) 29 m29) G T H)) args s (rm_X0_dragged).cells (rm_X0_dragged).slots A = zQQ := ⟨_, rfl⟩
  rw [hQQ]
  have rF6 : 0 ≤ F 6 ∧ F 6 ≤ 8 := hX.2.1 6 (0, 8) rfl
  have rF24 : 0 ≤ F 24 ∧ F 24 ≤ 4 := hX.2.1 24 (0, 4) rfl
  have h24 : ∀ t, 0 ≤ M 200 t ∧ M 200 t ≤ 24 := fun t => hX.2.2.1 200 (0, 24) rfl t
  have hcl : ∀ q, -2 ≤ M 56 q ∧ M 56 q ≤ 23 := fun q => hX.2.2.1 56 (-2, 23) rfl q
  have hs3 : ∀ q, 0 ≤ M 3 q ∧ M 3 q ≤ 23 := fun q => hX.2.2.1 3 (0, 23) rfl q
  refine lv_aload_n C.x C.b dX0_dragged_0 rfl (lv_at hl 0 rfl) ?_
  refine lv_iload_n C.x C.b dX0_dragged_1 rfl (lv_at hl 1 rfl) ?_
  refine r_callVi (As := [.int (zi a)]) (rest := []) (cells' := 0) (slots' := 0) C (met_X0_isName l E A B F M G T a (show -2147483648 ≤ a ∧ a < 2147483648 from (by omega))) (lw_V q330 q332 qs18 q86 q333) hd_X0_isName rfl (by decide) (x_this C hX) hX hS hl.1 rfl (Nat.le_of_ble_eq_true rfl) dX0_dragged_2 rfl rfl ⟨Nat.le_of_ble_eq_true rfl, Nat.le_of_ble_eq_true rfl⟩ (fun rr H locs hp hS => ?_)
  obtain ⟨hrr, hX⟩ := hp
  have hrr : rr = bI (0 ≤ a ∧ a < (F 24)) := hrr
  subst hrr
  refine r_if_eq_b (tgt := 28) C dX0_dragged_5 (by decide) (fun c_1 => ?_) (fun c_1 => ?_)
  · refine r_const C dX0_dragged_28 ?_
    rw [← hQQ]
    exact r_iret C hS (Nat.le_of_ble_eq_true rfl) (Nat.le_of_ble_eq_true rfl) dX0_dragged_29 ⟨(M 3), (M 28), (M 29), (fun q => by first | exact absurd q.1 (by assumption) | exact absurd q.2.1 (by assumption) | exact absurd q.2.2 (by assumption)), (by first | exact Eq.symm (sel_f (fun q => absurd q.1 (by assumption))) | exact Eq.symm (sel_f (fun q => absurd q.2.1 (by assumption))) | exact Eq.symm (sel_f (fun q => absurd q.2.2 (by assumption)))), (hX.to rfl rfl ((((up_id M (k := 3) (a := (M 3)) rfl).symm.trans rfl).trans ((up_id (va_up M 3 (M 3)) (k := 28) (a := (M 28)) rfl).symm.trans rfl)).trans ((up_id (va_up (va_up M 3 (M 3)) 28 (M 28)) (k := 29) (a := (M 29)) rfl).symm.trans rfl)) rfl rfl)⟩
  · refine lv_aload_n C.x C.b dX0_dragged_8 rfl (lv_at hl 0 rfl) ?_
    refine lv_iload_n C.x C.b dX0_dragged_9 rfl (lv_at hl 2 rfl) ?_
    refine r_callVi (As := [.int (zi t)]) (rest := []) (cells' := 0) (slots' := 0) C (met_X0_isText l E A B F M G T t (show -2147483648 ≤ t ∧ t < 2147483648 from (by omega))) (lw_V q169 q171 qs5 q86 q172) hd_X0_isText rfl (by decide) (x_this C hX) hX hS hl.1 rfl (Nat.le_of_ble_eq_true rfl) dX0_dragged_10 rfl rfl ⟨Nat.le_of_ble_eq_true rfl, Nat.le_of_ble_eq_true rfl⟩ (fun rr H locs hp hS => ?_)
    obtain ⟨hrr, hX⟩ := hp
    have hrr : rr = bI (0 ≤ t ∧ t < (F 6)) := hrr
    subst hrr
    refine r_if_eq_b (tgt := 28) C dX0_dragged_13 (by decide) (fun c_2 => ?_) (fun c_2 => ?_)
    · refine r_const C dX0_dragged_28 ?_
      rw [← hQQ]
      exact r_iret C hS (Nat.le_of_ble_eq_true rfl) (Nat.le_of_ble_eq_true rfl) dX0_dragged_29 ⟨(M 3), (M 28), (M 29), (fun q => by first | exact absurd q.1 (by assumption) | exact absurd q.2.1 (by assumption) | exact absurd q.2.2 (by assumption)), (by first | exact Eq.symm (sel_f (fun q => absurd q.1 (by assumption))) | exact Eq.symm (sel_f (fun q => absurd q.2.1 (by assumption))) | exact Eq.symm (sel_f (fun q => absurd q.2.2 (by assumption)))), (hX.to rfl rfl ((((up_id M (k := 3) (a := (M 3)) rfl).symm.trans rfl).trans ((up_id (va_up M 3 (M 3)) (k := 28) (a := (M 28)) rfl).symm.trans rfl)).trans ((up_id (va_up (va_up M 3 (M 3)) 28 (M 28)) (k := 29) (a := (M 29)) rfl).symm.trans rfl)) rfl rfl)⟩
    · refine lv_iload_n C.x C.b dX0_dragged_16 rfl (lv_at hl 3 rfl) ?_
      refine r_i2l C (by omega) dX0_dragged_17 ?_
      refine r_lconst C 0 rfl dX0_dragged_18 ?_
      refine r_ldc2 C 2 (by decide) q218 dX0_dragged_19 ?_
      refine r_callSi (As := [.long (zl w), .long (zl 0), .long (zl 2)]) (rest := []) (cells' := 0) (slots' := 0) C (met_X0_isIn l E A H w 0 2 (show -9223372036854775808 ≤ w ∧ w < 9223372036854775808 from (by omega)) (show -9223372036854775808 ≤ (0 : Int) ∧ (0 : Int) < 9223372036854775808 from (by omega)) (show -9223372036854775808 ≤ (2 : Int) ∧ (2 : Int) < 9223372036854775808 from (by omega))) (lw_S q117 q118 q86 q119) hd_X0_isIn rfl (by decide) rfl hS hl.1 rfl (Nat.le_of_ble_eq_true rfl) dX0_dragged_22 rfl rfl ⟨Nat.le_of_ble_eq_true rfl, Nat.le_of_ble_eq_true rfl⟩ (fun rr H locs hp hS => ?_)
      obtain ⟨hrr, hH⟩ := hp
      have hrr : rr = bI ((0 : Int) ≤ w ∧ w ≤ (2 : Int)) := hrr
      subst hrr
      have hX : XH E A B F M G T H := by rw [hH]; exact hX
      refine r_if_ne_b (tgt := 30) C dX0_dragged_25 (by decide) (fun c_3 => ?_) (fun c_3 => ?_)
      · refine lv_aload_n C.x C.b dX0_dragged_30 rfl (lv_at hl 0 rfl) ?_
        refine r_callVv (As := []) (rest := []) (cells' := 0) (slots' := 0) C (met_X0_layAll l E A B F M G T) (lw_V q134 q136 qs1 q86 q137) hd_X0_layAll rfl (by decide) (x_this C hX) hX hS hl.1 rfl (Nat.le_of_ble_eq_true rfl) dX0_dragged_31 rfl rfl ⟨Nat.le_of_ble_eq_true rfl, Nat.le_of_ble_eq_true rfl⟩ (fun H locs hp hS => ?_)
        obtain ⟨sg, hsg, hX⟩ := hp
        replace hsg : SgOK ((F 1)) ((M 0)) ((F 2)) sg := hsg
        have hX : XH E A B F (va_up M 3 sg) G T H := hX.to rfl rfl rfl rfl rfl
        refine r_const C dX0_dragged_34 ?_
        refine lv_istore (lv' := [(4, .int (zi 0)), (0, .ref (B 49 0)), (1, .int (zi a)), (2, .int (zi t)), (3, .int (zi w))]) C.x C.b dX0_dragged_35 hl (by decide) rfl (fun ls hl => ?_)
        refine r_bipush C (by decide) dX0_dragged_37 ?_
        refine lv_istore (lv' := [(5, .int (zi (-4))), (4, .int (zi 0)), (0, .ref (B 49 0)), (1, .int (zi a)), (2, .int (zi t)), (3, .int (zi w))]) C.x C.b dX0_dragged_39 hl (by decide) rfl (fun ls hl => ?_)
        refine r_bipush C (by decide) dX0_dragged_41 ?_
        refine lv_istore (lv' := [(6, .int (zi (-4))), (5, .int (zi (-4))), (4, .int (zi 0)), (0, .ref (B 49 0)), (1, .int (zi a)), (2, .int (zi t)), (3, .int (zi w))]) C.x C.b dX0_dragged_43 hl (by decide) rfl (fun ls hl => ?_)
        refine r_const C dX0_dragged_45 ?_
        refine lv_istore (lv' := [(7, .int (zi 0)), (6, .int (zi (-4))), (5, .int (zi (-4))), (4, .int (zi 0)), (0, .ref (B 49 0)), (1, .int (zi a)), (2, .int (zi t)), (3, .int (zi w))]) C.x C.b dX0_dragged_46 hl (by decide) rfl (fun ls hl => ?_)
        have L48 : ∀ (fu : Nat) (v4 : Int) (v5 : Int) (v6 : Int) (v7 : Int) (m28 : Int → Int) (m29 : Int → Int) (h7 : 0 ≤ v7 ∧ v7 ≤ M 200 t) (h4 : v4 = cntF (fun i => Fits (pl sg (M 56) t i) (fun x => M 58 (8 * a + x)) (M 201 a) (M 200 t - i)) v7) (h5 : v5 = fstF (fun i => Fits (pl sg (M 56) t i) (fun x => M 58 (8 * a + x)) (M 201 a) (M 200 t - i)) v7) (h6 : v6 = lstF (fun i => Fits (pl sg (M 56) t i) (fun x => M 58 (8 * a + x)) (M 201 a) (M 200 t - i)) v7) (hm : Int.toNat (M 200 t - v7) < fu) (H : Heap) (locs : List Loc) (ls : Array Slot) (hX : XH E A B F (va_up (va_up (va_up M 3 sg) 28 m28) 29 m29) G T H) (hS : va_S A s.heap H locs) (hl : lv_has ls 8 [(0, .ref (B 49 0)), (1, .int (zi a)), (2, .int (zi t)), (3, .int (zi w)), (4, .int (zi v4)), (5, .int (zi v5)), (6, .int (zi v6)), (7, .int (zi v7))]), W p l e rm_X0_dragged s m args below meth c H locs 0 0 QQ (F0 m 48 ls []) := by
          intro fu
          induction fu with
          | zero => intro v4 v5 v6 v7 m28 m29 h7 h4 h5 h6 hm; exact absurd hm (Nat.not_lt_zero _)
          | succ fu ih48 =>
            intro v4 v5 v6 v7 m28 m29 h7 h4 h5 h6 hm H locs ls hX hS hl
            refine lv_iload C.x C.b dX0_dragged_48 (lv_at hl 7 rfl) ?_
            refine lv_aload_n C.x C.b dX0_dragged_50 rfl (lv_at hl 0 rfl) ?_
            refine x_ga C hX 5 (by decide) rfl q741 (fun _ h => h) dX0_dragged_51 ?_
            refine lv_iload_n C.x C.b dX0_dragged_54 rfl (lv_at hl 2 rfl) ?_
            refine x_la C hX 5 rfl rfl rfl (by decide) rfl rfl (show 0 ≤ t ∧ t < F 6 from (by omega)) (by omega) (by decide) dX0_dragged_55 ?_
            refine r_callVi (As := []) (rest := [.int (zi v7)]) (cells' := 0) (slots' := 0) C (met_X3_size l E A B F (va_up (va_up (va_up M 3 sg) 28 m28) 29 m29) G T t (show 0 ≤ t ∧ t < (F 6) from (by omega))) (lw_V q174 q175 q176 q98 q177) hd_X3_size rfl (by decide) (x_recv C hX (f := 55) (i := t) (by decide) (show 0 ≤ t ∧ t < F 6 from (by omega)).1 (xK_55 (show 0 ≤ t ∧ t < F 6 from (by omega))) (q := (RX3, TX3, 1)) rfl) hX hS hl.1 rfl (Nat.le_of_ble_eq_true rfl) dX0_dragged_56 rfl rfl ⟨Nat.le_of_ble_eq_true rfl, Nat.le_of_ble_eq_true rfl⟩ (fun rr H locs hp hS => ?_)
            obtain ⟨hsz, hrr, hX⟩ := hp
            have hrr : rr = (M 200) t := hrr
            subst hrr
            replace hsz : 0 ≤ (M 200) t ∧ (M 200) t ≤ 24 := hsz
            refine r_icmp_ge (tgt := 116) C (by omega) (by omega) dX0_dragged_59 (by decide) (fun c_4 => ?_) (fun c_4 => ?_)
            · refine lv_iload_n C.x C.b dX0_dragged_116 rfl (lv_at hl 3 rfl) ?_
              have J137_5 : ∀ (t0 : Int) (ht0 : t0 = sel (w = 0) v4 (sel (w = 1) v5 v6)) (H : Heap) (locs : List Loc) (ls : Array Slot) (hX : XH E A B F (va_up (va_up (va_up M 3 sg) 28 m28) 29 m29) G T H) (hS : va_S A s.heap H locs) (hl : lv_has ls 8 [(0, .ref (B 49 0)), (1, .int (zi a)), (2, .int (zi t)), (3, .int (zi w)), (4, .int (zi v4)), (5, .int (zi v5)), (6, .int (zi v6)), (7, .int (zi v7))]), W p l e rm_X0_dragged s m args below meth c H locs 0 0 QQ (F0 m 137 ls [.int (zi t0)]) := by
                intro t0 ht0 H locs ls hX hS hl
                subst ht0
                have e7 : v7 = M 200 t := by omega
                rw [e7] at h4 h5 h6
                rw [← hQQ]
                exact r_iret C hS (Nat.le_of_ble_eq_true rfl) (Nat.le_of_ble_eq_true rfl) dX0_dragged_137 ⟨sg, m28, m29, (fun _ => hsg), (by rw [sel_t (c := (0 ≤ a ∧ a < F 24) ∧ (0 ≤ t ∧ t < F 6) ∧ (0 ≤ w ∧ w ≤ 2)) ⟨by assumption, by assumption, by assumption⟩, ← h4, ← h5, ← h6]; rfl), hX⟩
              refine r_if_ne (tgt := 125) C (by omega) dX0_dragged_117 (by decide) (fun c_6 => ?_) (fun c_6 => ?_)
              · refine lv_iload_n C.x C.b dX0_dragged_125 rfl (lv_at hl 3 rfl) ?_
                refine r_const C dX0_dragged_126 ?_
                refine r_icmp_ne (tgt := 135) C (by omega) (by decide) dX0_dragged_127 (by decide) (fun c_7 => ?_) (fun c_7 => ?_)
                · refine lv_iload C.x C.b dX0_dragged_135 (lv_at hl 6 rfl) ?_
                  exact J137_5 v6 (((sel_f c_6).trans (sel_f c_7)).symm) H locs ls hX hS hl
                · refine lv_iload C.x C.b dX0_dragged_130 (lv_at hl 5 rfl) ?_
                  refine lv_goto (tgt := 137) C.x C.b dX0_dragged_132 (by decide) ?_
                  exact J137_5 v5 (((sel_f c_6).trans (sel_t c_7)).symm) H locs ls hX hS hl
              · refine lv_iload C.x C.b dX0_dragged_120 (lv_at hl 4 rfl) ?_
                refine lv_goto (tgt := 137) C.x C.b dX0_dragged_122 (by decide) ?_
                exact J137_5 v4 ((sel_t c_6).symm) H locs ls hX hS hl
            · have h24t := h24 t
              have hF : (v7 + M 201 a ≤ M 200 t ∧ Cs R00 (pl sg (M 56) t v7) (fun x => M 58 (8 * a + x)) (M 201 a)) ↔ (fun i => Fits (pl sg (M 56) t i) (fun x => M 58 (8 * a + x)) (M 201 a) (M 200 t - i)) v7 := CsF
              have hfr := fstF_r (P := (fun i => Fits (pl sg (M 56) t i) (fun x => M 58 (8 * a + x)) (M 201 a) (M 200 t - i))) h7.1
              rw [← h5] at hfr
              refine lv_aload_n C.x C.b dX0_dragged_62 rfl (lv_at hl 0 rfl) ?_
              refine r_callVv (As := []) (rest := []) (cells' := 0) (slots' := 0) C (met_X0_clear l E A B F (va_up (va_up (va_up M 3 sg) 28 m28) 29 m29) G T) (lw_V q334 q336 qs19 q86 q337) hd_X0_clear rfl (by decide) (x_this C hX) hX hS hl.1 rfl (Nat.le_of_ble_eq_true rfl) dX0_dragged_63 rfl rfl ⟨Nat.le_of_ble_eq_true rfl, Nat.le_of_ble_eq_true rfl⟩ (fun H locs hp hS => ?_)
              obtain ⟨e28, e29, h28, h29, hX⟩ := hp
              replace h28 : e28 = ffill (m28) 0 4 (-4) := h28
              replace h29 : e29 = ffill (m29) 0 24 (-4) := h29
              have hX : XH E A B F (va_up (va_up (va_up M 3 sg) 28 e28) 29 e29) G T H := hX.to rfl rfl ((congrArg (fun z => va_up z 29 e29) (up_in (by decide) (up_up _ _ _ _))).trans (up_up _ _ _ _)) rfl rfl
              refine lv_aload_n C.x C.b dX0_dragged_66 rfl (lv_at hl 0 rfl) ?_
              refine lv_aload_n C.x C.b dX0_dragged_67 rfl (lv_at hl 0 rfl) ?_
              refine x_ga C hX 23 (by decide) rfl q759 (fun _ h => h) dX0_dragged_68 ?_
              refine lv_iload_n C.x C.b dX0_dragged_71 rfl (lv_at hl 1 rfl) ?_
              refine x_la C hX 23 rfl rfl rfl (by decide) rfl rfl (show 0 ≤ a ∧ a < F 24 from (by omega)) (by omega) (by decide) dX0_dragged_72 ?_
              refine lv_aload_n C.x C.b dX0_dragged_73 rfl (lv_at hl 0 rfl) ?_
              refine x_ga C hX 5 (by decide) rfl q741 (fun _ h => h) dX0_dragged_74 ?_
              refine lv_iload_n C.x C.b dX0_dragged_77 rfl (lv_at hl 2 rfl) ?_
              refine x_la C hX 5 rfl rfl rfl (by decide) rfl rfl (show 0 ≤ t ∧ t < F 6 from (by omega)) (by omega) (by decide) dX0_dragged_78 ?_
              refine lv_iload C.x C.b dX0_dragged_79 (lv_at hl 7 rfl) ?_
              refine r_callVi (As := [.ref (B 57 a), .ref (B 55 t), .int (zi v7)]) (rest := []) (cells' := 0) (slots' := 0) C (met_X0_places l E A B F (va_up (va_up (va_up M 3 sg) 28 e28) 29 e29) G T R00 a t v7 (show 0 ≤ a ∧ a < (F 24) from (by omega)) (show 0 ≤ t ∧ t < (F 6) from (by omega)) (show 0 ≤ v7 ∧ v7 < 24 from (by omega)) (show BJ R00 (e28) (e29) from (BJ_0 (fun s a b => by rw [h28]; exact ffill_in ⟨a, by omega⟩) (fun s a b => by rw [h29]; exact ffill_in ⟨a, by omega⟩)))) (lw_V q338 q340 qs20 q86 q341) hd_X0_places rfl (by decide) (x_this C hX) hX hS hl.1 rfl (Nat.le_of_ble_eq_true rfl) dX0_dragged_81 rfl rfl ⟨Nat.le_of_ble_eq_true rfl, Nat.le_of_ble_eq_true rfl⟩ (fun rr H locs hp hS => ?_)
              obtain ⟨g28, g29, hbp, hrr, hX⟩ := hp
              have hrr : rr = bI (v7 + (M 201) a ≤ (M 200) t ∧ Cs R00 (pl (sg) ((M 56)) t v7) (fun x => (M 58) (8 * a + x)) ((M 201) a)) := hrr
              subst hrr
              replace hbp : (v7 + (M 201) a ≤ (M 200) t ∧ Cs R00 (pl (sg) ((M 56)) t v7) (fun x => (M 58) (8 * a + x)) ((M 201) a)) → BJ (Rx R00 (pl (sg) ((M 56)) t v7) (fun x => (M 58) (8 * a + x)) ((M 201) a)) g28 g29 := hbp
              have hX : XH E A B F (va_up (va_up (va_up M 3 sg) 28 g28) 29 g29) G T H := hX.to rfl rfl ((congrArg (fun z => va_up z 29 g29) (up_in (by decide) (up_up _ _ _ _))).trans (up_up _ _ _ _)) rfl rfl
              have J110_8 : ∀ (v4_110 : Int) (hv4_110 : v4_110 = sel (v7 + (M 201) a ≤ (M 200) t ∧ Cs R00 (pl (sg) ((M 56)) t v7) (fun x => (M 58) (8 * a + x)) ((M 201) a)) (v4 + 1) v4) (v5_110 : Int) (hv5_110 : v5_110 = sel (v7 + (M 201) a ≤ (M 200) t ∧ Cs R00 (pl (sg) ((M 56)) t v7) (fun x => (M 58) (8 * a + x)) ((M 201) a)) (sel (v5 = (-4)) v7 v5) v5) (v6_110 : Int) (hv6_110 : v6_110 = sel (v7 + (M 201) a ≤ (M 200) t ∧ Cs R00 (pl (sg) ((M 56)) t v7) (fun x => (M 58) (8 * a + x)) ((M 201) a)) v7 v6) (H : Heap) (locs : List Loc) (ls : Array Slot) (hX : XH E A B F (va_up (va_up (va_up M 3 sg) 28 g28) 29 g29) G T H) (hS : va_S A s.heap H locs) (hl : lv_has ls 8 [(0, .ref (B 49 0)), (1, .int (zi a)), (2, .int (zi t)), (3, .int (zi w)), (4, .int (zi v4_110)), (5, .int (zi v5_110)), (6, .int (zi v6_110)), (7, .int (zi v7))]), W p l e rm_X0_dragged s m args below meth c H locs 0 0 QQ (F0 m 110 ls []) := by
                intro v4_110 hv4_110 v5_110 hv5_110 v6_110 hv6_110 H locs ls hX hS hl
                subst hv4_110
                subst hv5_110
                subst hv6_110
                refine r_iinc (lv' := [(7, .int (zi (v7 + 1))), (0, .ref (B 49 0)), (1, .int (zi a)), (2, .int (zi t)), (3, .int (zi w)), (4, .int (zi (sel (v7 + (M 201) a ≤ (M 200) t ∧ Cs R00 (pl (sg) ((M 56)) t v7) (fun x => (M 58) (8 * a + x)) ((M 201) a)) (v4 + 1) v4))), (5, .int (zi (sel (v7 + (M 201) a ≤ (M 200) t ∧ Cs R00 (pl (sg) ((M 56)) t v7) (fun x => (M 58) (8 * a + x)) ((M 201) a)) (sel (v5 = (-4)) v7 v5) v5))), (6, .int (zi (sel (v7 + (M 201) a ≤ (M 200) t ∧ Cs R00 (pl (sg) ((M 56)) t v7) (fun x => (M 58) (8 * a + x)) ((M 201) a)) v7 v6)))]) C dX0_dragged_110 hl (k := 7) rfl (by decide) rfl (fun ls hl => ?_)
                refine lv_goto (tgt := 48) C.x C.b dX0_dragged_113 (by decide) ?_
                exact ih48 (sel (v7 + (M 201) a ≤ (M 200) t ∧ Cs R00 (pl (sg) ((M 56)) t v7) (fun x => (M 58) (8 * a + x)) ((M 201) a)) (v4 + 1) v4) (sel (v7 + (M 201) a ≤ (M 200) t ∧ Cs R00 (pl (sg) ((M 56)) t v7) (fun x => (M 58) (8 * a + x)) ((M 201) a)) (sel (v5 = (-4)) v7 v5) v5) (sel (v7 + (M 201) a ≤ (M 200) t ∧ Cs R00 (pl (sg) ((M 56)) t v7) (fun x => (M 58) (8 * a + x)) ((M 201) a)) v7 v6) (v7 + 1) g28 g29 (by omega) (by rw [h4, sel_c hF, sel_a1]; exact (isum_s h7.1).symm) (by rw [h5, sel_c hF]; exact (fstF_s (P := (fun i => Fits (pl sg (M 56) t i) (fun x => M 58 (8 * a + x)) (M 201 a) (M 200 t - i))) h7.1).symm) (by rw [h6, sel_c hF]; exact (lstF_s (P := (fun i => Fits (pl sg (M 56) t i) (fun x => M 58 (8 * a + x)) (M 201 a) (M 200 t - i))) h7.1).symm) (by omega) H locs ls hX hS (lv_sub hl [1, 2, 3, 4, 5, 6, 7, 0] rfl)
              refine r_if_eq_b (tgt := 110) C dX0_dragged_84 (by decide) (fun c_9 => ?_) (fun c_9 => ?_)
              · exact J110_8 v4 ((sel_f c_9).symm) v5 ((sel_f c_9).symm) v6 ((sel_f c_9).symm) H locs ls hX hS hl
              · refine r_iinc (lv' := [(4, .int (zi (v4 + 1))), (0, .ref (B 49 0)), (1, .int (zi a)), (2, .int (zi t)), (3, .int (zi w)), (5, .int (zi v5)), (6, .int (zi v6)), (7, .int (zi v7))]) C dX0_dragged_87 hl (k := 4) rfl (by decide) rfl (fun ls hl => ?_)
                refine lv_iload C.x C.b dX0_dragged_90 (lv_at hl 5 rfl) ?_
                refine r_bipush C (by decide) dX0_dragged_92 ?_
                have J104_10 : ∀ (t0 : Int) (ht0 : t0 = sel (v5 = (-4)) v7 v5) (H : Heap) (locs : List Loc) (ls : Array Slot) (hX : XH E A B F (va_up (va_up (va_up M 3 sg) 28 g28) 29 g29) G T H) (hS : va_S A s.heap H locs) (hl : lv_has ls 8 [(4, .int (zi (v4 + 1))), (0, .ref (B 49 0)), (1, .int (zi a)), (2, .int (zi t)), (3, .int (zi w)), (5, .int (zi v5)), (6, .int (zi v6)), (7, .int (zi v7))]), W p l e rm_X0_dragged s m args below meth c H locs 0 0 QQ (F0 m 104 ls [.int (zi t0)]) := by
                  intro t0 ht0 H locs ls hX hS hl
                  subst ht0
                  refine lv_istore (lv' := [(5, .int (zi (sel (v5 = (-4)) v7 v5))), (4, .int (zi (v4 + 1))), (0, .ref (B 49 0)), (1, .int (zi a)), (2, .int (zi t)), (3, .int (zi w)), (6, .int (zi v6)), (7, .int (zi v7))]) C.x C.b dX0_dragged_104 hl (by decide) rfl (fun ls hl => ?_)
                  refine lv_iload C.x C.b dX0_dragged_106 (lv_at hl 7 rfl) ?_
                  refine lv_istore (lv' := [(6, .int (zi v7)), (5, .int (zi (sel (v5 = (-4)) v7 v5))), (4, .int (zi (v4 + 1))), (0, .ref (B 49 0)), (1, .int (zi a)), (2, .int (zi t)), (3, .int (zi w)), (7, .int (zi v7))]) C.x C.b dX0_dragged_108 hl (by decide) rfl (fun ls hl => ?_)
                  exact J110_8 (v4 + 1) ((sel_t c_9).symm) (sel (v5 = (-4)) v7 v5) ((sel_t c_9).symm) v7 ((sel_t c_9).symm) H locs ls hX hS (lv_sub hl [3, 4, 5, 6, 2, 1, 0, 7] rfl)
                refine r_icmp_ne (tgt := 102) C (by omega) (by decide) dX0_dragged_94 (by decide) (fun c_11 => ?_) (fun c_11 => ?_)
                · refine lv_iload C.x C.b dX0_dragged_102 (lv_at hl 5 rfl) ?_
                  exact J104_10 v5 ((sel_f c_11).symm) H locs ls hX hS hl
                · refine lv_iload C.x C.b dX0_dragged_97 (lv_at hl 7 rfl) ?_
                  refine lv_goto (tgt := 104) C.x C.b dX0_dragged_99 (by decide) ?_
                  exact J104_10 v7 ((sel_t c_11).symm) H locs ls hX hS hl
        exact L48 _ 0 (-4) (-4) 0 (M 28) (M 29) (by have := h24 t; omega) rfl rfl rfl (Nat.lt_succ_self _) H locs ls (hX.to rfl rfl (((up_id (va_up M 3 sg) (k := 28) (a := (M 28)) rfl).symm.trans rfl).trans ((up_id (va_up (va_up M 3 sg) 28 (M 28)) (k := 29) (a := (M 29)) rfl).symm.trans rfl)) rfl rfl) hS (lv_sub hl [4, 5, 6, 7, 3, 2, 1, 0] rfl)
      · refine r_const C dX0_dragged_28 ?_
        rw [← hQQ]
        exact r_iret C hS (Nat.le_of_ble_eq_true rfl) (Nat.le_of_ble_eq_true rfl) dX0_dragged_29 ⟨(M 3), (M 28), (M 29), (fun q => by first | exact absurd q.1 (by assumption) | exact absurd q.2.1 (by assumption) | exact absurd q.2.2 (by assumption)), (by first | exact Eq.symm (sel_f (fun q => absurd q.1 (by assumption))) | exact Eq.symm (sel_f (fun q => absurd q.2.1 (by assumption))) | exact Eq.symm (sel_f (fun q => absurd q.2.2 (by assumption)))), (hX.to rfl rfl ((((up_id M (k := 3) (a := (M 3)) rfl).symm.trans rfl).trans ((up_id (va_up M 3 (M 3)) (k := 28) (a := (M 28)) rfl).symm.trans rfl)).trans ((up_id (va_up (va_up M 3 (M 3)) 28 (M 28)) (k := 29) (a := (M 29)) rfl).symm.trans rfl)) rfl rfl)⟩

theorem hd_X0_together : yX0_together.cls = RX0 ∧ yX0_together.cls ≠ "java/lang/invoke/MethodHandle" ∧ yX0_together.cls ≠ "java/lang/invoke/VarHandle" ∧ (parseMethodDescriptor yX0_together.desc).map (fun d => d.parameters.length) = some 4 := by decide +kernel
abbrev rm_X0_together : Room := { frames := 3, cells := 0, slots := 0, locals := 64 }
set_option maxHeartbeats 8000000 in
theorem met_X0_together (l : Launch) (E : us_E) (A : Nat → Prop) (B : Nat → Int → Nat) (F : Nat → Int) (M : Nat → Int → Int) (G : Nat → Int → Option Nat) (T : x_T) (a : Int) (t : Int) (b : Int) (u : Int) (ha : -2147483648 ≤ a ∧ a < 2147483648) (ht : -2147483648 ≤ t ∧ t < 2147483648) (hb : -2147483648 ≤ b ∧ b < 2147483648) (hu : -2147483648 ≤ u ∧ u < 2147483648) : cMet l yX0_together cX0_together 8 (some .int) rm_X0_together A E [.ref (B 49 0), .int (zi a), .int (zi t), .int (zi b), .int (zi u)] (fun H => XH E A B F M G T H) (qi A (fun r H => ∃ m3 : Int → Int, ∃ m28 : Int → Int, ∃ m29 : Int → Int, ((((0 ≤ a ∧ a < F 24) ∧ (0 ≤ t ∧ t < F 6)) ∧ ((0 ≤ b ∧ b < F 24) ∧ (0 ≤ u ∧ u < F 6))) → SgOK (F 1) (M 0) (F 2) m3) ∧ (r = sel (((0 ≤ a ∧ a < F 24) ∧ (0 ≤ t ∧ t < F 6)) ∧ ((0 ≤ b ∧ b < F 24) ∧ (0 ≤ u ∧ u < F 6))) (isum (fun i => isum (fun j => bI (Fits (pl m3 (M 56) t i) (fun x => M 58 (8 * a + x)) (M 201 a) (M 200 t - i) ∧ Fits (pl m3 (M 56) u j) (fun x => M 58 (8 * b + x)) (M 201 b) (M 200 u - j) ∧ Agr (pl m3 (M 56) t i) (pl m3 (M 56) u j) (fun x => M 58 (8 * a + x)) (fun x => M 58 (8 * b + x)) (M 201 a) (M 201 b))) (M 200 u)) (M 200 t)) (-1)) ∧ XH E A B F (va_up (va_up (va_up M 3 m3) 28 m28) 29 m29) G T H)) := by
  refine cMet.of (by decide) (Nat.le_of_ble_eq_true rfl) (fun p e s m args below meth c C hnm hX hS ls hl => ?_)
  have C : Cx p s m args meth c A RX0 cX0_together 8 (some .int) E := C
  have hX : XH E A B F M G T s.heap := hX
  have hl : lv_has ls 8 [(0, .ref (B 49 0)), (1, .int (zi a)), (2, .int (zi t)), (3, .int (zi b)), (4, .int (zi u))] := hl
  generalize hH : s.heap = H at hX
  have hS : va_S A s.heap H [] := by rw [← hH]; exact hS
  generalize hlocs : ([] : List Loc) = locs at hS ⊢
  obtain ⟨QQ, hQQ⟩ : ∃ zQQ, MQ below (qi A (fun r H => ∃ m3 : Int → Int, ∃ m28 : Int → Int, ∃ m29 : Int → Int, ((((0 ≤ a ∧ a < F 24) ∧ (0 ≤ t ∧ t < F 6)) ∧ ((0 ≤ b ∧ b < F 24) ∧ (0 ≤ u ∧ u < F 6))) → SgOK (F 1) (M 0) (F 2) m3) ∧ (r = sel (((0 ≤ a ∧ a < F 24) ∧ (0 ≤ t ∧ t < F 6)) ∧ ((0 ≤ b ∧ b < F 24) ∧ (0 ≤ u ∧ u < F 6))) (isum (fun i => isum (fun j => bI (Fits (pl m3 (M 56) t i) (fun x => M 58 (8 * a + x)) (M 201 a) (M 200 t - i) ∧ Fits (pl m3 (M 56) u j) (fun x => M 58 (8 * b + x)) (M 201 b) (M 200 u - j) ∧ Agr (pl m3 (M 56) t i) (pl m3 (M 56) u j) (fun x => M 58 (8 * a + x)) (fun x => M 58 (8 * b + x)) (M 201 a) (M 201 b))) (M 200 u)) (M 200 t)) (-1)) ∧ XH E A B F (va_up (va_up (va_up M 3 m3) 28 m28) 29 m29) G T H)) args s (rm_X0_together).cells (rm_X0_together).slots A = zQQ := ⟨_, rfl⟩
  rw [hQQ]
  have rF6 : 0 ≤ F 6 ∧ F 6 ≤ 8 := hX.2.1 6 (0, 8) rfl
  have rF24 : 0 ≤ F 24 ∧ F 24 ≤ 4 := hX.2.1 24 (0, 4) rfl
  have h24 : ∀ t, 0 ≤ M 200 t ∧ M 200 t ≤ 24 := fun t => hX.2.2.1 200 (0, 24) rfl t
  have hcl : ∀ q, -2 ≤ M 56 q ∧ M 56 q ≤ 23 := fun q => hX.2.2.1 56 (-2, 23) rfl q
  have hs3 : ∀ q, 0 ≤ M 3 q ∧ M 3 q ≤ 23 := fun q => hX.2.2.1 3 (0, 23) rfl q
  have hq4 : ∀ x, 0 ≤ M 58 (8 * a + x) ∧ M 58 (8 * a + x) < 4 := fun x => by have := hX.2.2.1 58 (0, 3) rfl (8 * a + x); constructor <;> omega
  refine lv_aload_n C.x C.b dX0_together_0 rfl (lv_at hl 0 rfl) ?_
  refine lv_iload_n C.x C.b dX0_together_1 rfl (lv_at hl 1 rfl) ?_
  refine r_callVi (As := [.int (zi a)]) (rest := []) (cells' := 0) (slots' := 0) C (met_X0_isName l E A B F M G T a (show -2147483648 ≤ a ∧ a < 2147483648 from (by omega))) (lw_V q330 q332 qs18 q86 q333) hd_X0_isName rfl (by decide) (x_this C hX) hX hS hl.1 rfl (Nat.le_of_ble_eq_true rfl) dX0_together_2 rfl rfl ⟨Nat.le_of_ble_eq_true rfl, Nat.le_of_ble_eq_true rfl⟩ (fun rr H locs hp hS => ?_)
  obtain ⟨hrr, hX⟩ := hp
  have hrr : rr = bI (0 ≤ a ∧ a < (F 24)) := hrr
  subst hrr
  refine r_if_eq_b (tgt := 33) C dX0_together_5 (by decide) (fun c_1 => ?_) (fun c_1 => ?_)
  · refine r_const C dX0_together_33 ?_
    rw [← hQQ]
    exact r_iret C hS (Nat.le_of_ble_eq_true rfl) (Nat.le_of_ble_eq_true rfl) dX0_together_34 ⟨(M 3), (M 28), (M 29), (fun q => by first | exact absurd q.1.1 (by assumption) | exact absurd q.1.2 (by assumption) | exact absurd q.2.1 (by assumption) | exact absurd q.2.2 (by assumption)), (by first | exact Eq.symm (sel_f (fun q => absurd q.1.1 (by assumption))) | exact Eq.symm (sel_f (fun q => absurd q.1.2 (by assumption))) | exact Eq.symm (sel_f (fun q => absurd q.2.1 (by assumption))) | exact Eq.symm (sel_f (fun q => absurd q.2.2 (by assumption)))), (hX.to rfl rfl ((((up_id M (k := 3) (a := (M 3)) rfl).symm.trans rfl).trans ((up_id (va_up M 3 (M 3)) (k := 28) (a := (M 28)) rfl).symm.trans rfl)).trans ((up_id (va_up (va_up M 3 (M 3)) 28 (M 28)) (k := 29) (a := (M 29)) rfl).symm.trans rfl)) rfl rfl)⟩
  · refine lv_aload_n C.x C.b dX0_together_8 rfl (lv_at hl 0 rfl) ?_
    refine lv_iload_n C.x C.b dX0_together_9 rfl (lv_at hl 2 rfl) ?_
    refine r_callVi (As := [.int (zi t)]) (rest := []) (cells' := 0) (slots' := 0) C (met_X0_isText l E A B F M G T t (show -2147483648 ≤ t ∧ t < 2147483648 from (by omega))) (lw_V q169 q171 qs5 q86 q172) hd_X0_isText rfl (by decide) (x_this C hX) hX hS hl.1 rfl (Nat.le_of_ble_eq_true rfl) dX0_together_10 rfl rfl ⟨Nat.le_of_ble_eq_true rfl, Nat.le_of_ble_eq_true rfl⟩ (fun rr H locs hp hS => ?_)
    obtain ⟨hrr, hX⟩ := hp
    have hrr : rr = bI (0 ≤ t ∧ t < (F 6)) := hrr
    subst hrr
    refine r_if_eq_b (tgt := 33) C dX0_together_13 (by decide) (fun c_2 => ?_) (fun c_2 => ?_)
    · refine r_const C dX0_together_33 ?_
      rw [← hQQ]
      exact r_iret C hS (Nat.le_of_ble_eq_true rfl) (Nat.le_of_ble_eq_true rfl) dX0_together_34 ⟨(M 3), (M 28), (M 29), (fun q => by first | exact absurd q.1.1 (by assumption) | exact absurd q.1.2 (by assumption) | exact absurd q.2.1 (by assumption) | exact absurd q.2.2 (by assumption)), (by first | exact Eq.symm (sel_f (fun q => absurd q.1.1 (by assumption))) | exact Eq.symm (sel_f (fun q => absurd q.1.2 (by assumption))) | exact Eq.symm (sel_f (fun q => absurd q.2.1 (by assumption))) | exact Eq.symm (sel_f (fun q => absurd q.2.2 (by assumption)))), (hX.to rfl rfl ((((up_id M (k := 3) (a := (M 3)) rfl).symm.trans rfl).trans ((up_id (va_up M 3 (M 3)) (k := 28) (a := (M 28)) rfl).symm.trans rfl)).trans ((up_id (va_up (va_up M 3 (M 3)) 28 (M 28)) (k := 29) (a := (M 29)) rfl).symm.trans rfl)) rfl rfl)⟩
    · refine lv_aload_n C.x C.b dX0_together_16 rfl (lv_at hl 0 rfl) ?_
      refine lv_iload_n C.x C.b dX0_together_17 rfl (lv_at hl 3 rfl) ?_
      refine r_callVi (As := [.int (zi b)]) (rest := []) (cells' := 0) (slots' := 0) C (met_X0_isName l E A B F M G T b (show -2147483648 ≤ b ∧ b < 2147483648 from (by omega))) (lw_V q330 q332 qs18 q86 q333) hd_X0_isName rfl (by decide) (x_this C hX) hX hS hl.1 rfl (Nat.le_of_ble_eq_true rfl) dX0_together_18 rfl rfl ⟨Nat.le_of_ble_eq_true rfl, Nat.le_of_ble_eq_true rfl⟩ (fun rr H locs hp hS => ?_)
      obtain ⟨hrr, hX⟩ := hp
      have hrr : rr = bI (0 ≤ b ∧ b < (F 24)) := hrr
      subst hrr
      refine r_if_eq_b (tgt := 33) C dX0_together_21 (by decide) (fun c_3 => ?_) (fun c_3 => ?_)
      · refine r_const C dX0_together_33 ?_
        rw [← hQQ]
        exact r_iret C hS (Nat.le_of_ble_eq_true rfl) (Nat.le_of_ble_eq_true rfl) dX0_together_34 ⟨(M 3), (M 28), (M 29), (fun q => by first | exact absurd q.1.1 (by assumption) | exact absurd q.1.2 (by assumption) | exact absurd q.2.1 (by assumption) | exact absurd q.2.2 (by assumption)), (by first | exact Eq.symm (sel_f (fun q => absurd q.1.1 (by assumption))) | exact Eq.symm (sel_f (fun q => absurd q.1.2 (by assumption))) | exact Eq.symm (sel_f (fun q => absurd q.2.1 (by assumption))) | exact Eq.symm (sel_f (fun q => absurd q.2.2 (by assumption)))), (hX.to rfl rfl ((((up_id M (k := 3) (a := (M 3)) rfl).symm.trans rfl).trans ((up_id (va_up M 3 (M 3)) (k := 28) (a := (M 28)) rfl).symm.trans rfl)).trans ((up_id (va_up (va_up M 3 (M 3)) 28 (M 28)) (k := 29) (a := (M 29)) rfl).symm.trans rfl)) rfl rfl)⟩
      · refine lv_aload_n C.x C.b dX0_together_24 rfl (lv_at hl 0 rfl) ?_
        refine lv_iload C.x C.b dX0_together_25 (lv_at hl 4 rfl) ?_
        refine r_callVi (As := [.int (zi u)]) (rest := []) (cells' := 0) (slots' := 0) C (met_X0_isText l E A B F M G T u (show -2147483648 ≤ u ∧ u < 2147483648 from (by omega))) (lw_V q169 q171 qs5 q86 q172) hd_X0_isText rfl (by decide) (x_this C hX) hX hS hl.1 rfl (Nat.le_of_ble_eq_true rfl) dX0_together_27 rfl rfl ⟨Nat.le_of_ble_eq_true rfl, Nat.le_of_ble_eq_true rfl⟩ (fun rr H locs hp hS => ?_)
        obtain ⟨hrr, hX⟩ := hp
        have hrr : rr = bI (0 ≤ u ∧ u < (F 6)) := hrr
        subst hrr
        refine r_if_ne_b (tgt := 35) C dX0_together_30 (by decide) (fun c_4 => ?_) (fun c_4 => ?_)
        · refine lv_aload_n C.x C.b dX0_together_35 rfl (lv_at hl 0 rfl) ?_
          refine r_callVv (As := []) (rest := []) (cells' := 0) (slots' := 0) C (met_X0_layAll l E A B F M G T) (lw_V q134 q136 qs1 q86 q137) hd_X0_layAll rfl (by decide) (x_this C hX) hX hS hl.1 rfl (Nat.le_of_ble_eq_true rfl) dX0_together_36 rfl rfl ⟨Nat.le_of_ble_eq_true rfl, Nat.le_of_ble_eq_true rfl⟩ (fun H locs hp hS => ?_)
          obtain ⟨sg, hsg, hX⟩ := hp
          replace hsg : SgOK ((F 1)) ((M 0)) ((F 2)) sg := hsg
          have hX : XH E A B F (va_up M 3 sg) G T H := hX.to rfl rfl rfl rfl rfl
          refine r_const C dX0_together_39 ?_
          refine lv_istore (lv' := [(5, .int (zi 0)), (0, .ref (B 49 0)), (1, .int (zi a)), (2, .int (zi t)), (3, .int (zi b)), (4, .int (zi u))]) C.x C.b dX0_together_40 hl (by decide) rfl (fun ls hl => ?_)
          refine r_const C dX0_together_42 ?_
          refine lv_istore (lv' := [(6, .int (zi 0)), (5, .int (zi 0)), (0, .ref (B 49 0)), (1, .int (zi a)), (2, .int (zi t)), (3, .int (zi b)), (4, .int (zi u))]) C.x C.b dX0_together_43 hl (by decide) rfl (fun ls hl => ?_)
          have L45 : ∀ (fu : Nat) (v5 : Int) (v6 : Int) (m28 : Int → Int) (m29 : Int → Int) (h6 : 0 ≤ v6 ∧ v6 ≤ M 200 t) (hs : v5 = isum (fun i => isum (fun j => bI (Fits (pl sg (M 56) t i) (fun x => M 58 (8 * a + x)) (M 201 a) (M 200 t - i) ∧ Fits (pl sg (M 56) u j) (fun x => M 58 (8 * b + x)) (M 201 b) (M 200 u - j) ∧ Agr (pl sg (M 56) t i) (pl sg (M 56) u j) (fun x => M 58 (8 * a + x)) (fun x => M 58 (8 * b + x)) (M 201 a) (M 201 b))) (M 200 u)) v6) (hm : Int.toNat (M 200 t - v6) < fu) (H : Heap) (locs : List Loc) (ls : Array Slot) (hX : XH E A B F (va_up (va_up (va_up M 3 sg) 28 m28) 29 m29) G T H) (hS : va_S A s.heap H locs) (hl : lv_has ls 8 [(0, .ref (B 49 0)), (1, .int (zi a)), (2, .int (zi t)), (3, .int (zi b)), (4, .int (zi u)), (5, .int (zi v5)), (6, .int (zi v6))]), W p l e rm_X0_together s m args below meth c H locs 0 0 QQ (F0 m 45 ls []) := by
            intro fu
            induction fu with
            | zero => intro v5 v6 m28 m29 h6 hs hm; exact absurd hm (Nat.not_lt_zero _)
            | succ fu ih45 =>
              intro v5 v6 m28 m29 h6 hs hm H locs ls hX hS hl
              refine lv_iload C.x C.b dX0_together_45 (lv_at hl 6 rfl) ?_
              refine lv_aload_n C.x C.b dX0_together_47 rfl (lv_at hl 0 rfl) ?_
              refine x_ga C hX 5 (by decide) rfl q741 (fun _ h => h) dX0_together_48 ?_
              refine lv_iload_n C.x C.b dX0_together_51 rfl (lv_at hl 2 rfl) ?_
              refine x_la C hX 5 rfl rfl rfl (by decide) rfl rfl (show 0 ≤ t ∧ t < F 6 from (by omega)) (by omega) (by decide) dX0_together_52 ?_
              refine r_callVi (As := []) (rest := [.int (zi v6)]) (cells' := 0) (slots' := 0) C (met_X3_size l E A B F (va_up (va_up (va_up M 3 sg) 28 m28) 29 m29) G T t (show 0 ≤ t ∧ t < (F 6) from (by omega))) (lw_V q174 q175 q176 q98 q177) hd_X3_size rfl (by decide) (x_recv C hX (f := 55) (i := t) (by decide) (show 0 ≤ t ∧ t < F 6 from (by omega)).1 (xK_55 (show 0 ≤ t ∧ t < F 6 from (by omega))) (q := (RX3, TX3, 1)) rfl) hX hS hl.1 rfl (Nat.le_of_ble_eq_true rfl) dX0_together_53 rfl rfl ⟨Nat.le_of_ble_eq_true rfl, Nat.le_of_ble_eq_true rfl⟩ (fun rr H locs hp hS => ?_)
              obtain ⟨hsz, hrr, hX⟩ := hp
              have hrr : rr = (M 200) t := hrr
              subst hrr
              replace hsz : 0 ≤ (M 200) t ∧ (M 200) t ≤ 24 := hsz
              refine r_icmp_ge (tgt := 146) C (by omega) (by omega) dX0_together_56 (by decide) (fun c_5 => ?_) (fun c_5 => ?_)
              · refine lv_iload C.x C.b dX0_together_146 (lv_at hl 5 rfl) ?_
                have e7 : v6 = M 200 t := by omega
                rw [e7] at hs
                rw [← hQQ]
                exact r_iret C hS (Nat.le_of_ble_eq_true rfl) (Nat.le_of_ble_eq_true rfl) dX0_together_148 ⟨sg, m28, m29, (fun _ => hsg), (by rw [sel_t (c := ((0 ≤ a ∧ a < F 24) ∧ (0 ≤ t ∧ t < F 6)) ∧ ((0 ≤ b ∧ b < F 24) ∧ (0 ≤ u ∧ u < F 6))) ⟨⟨by assumption, by assumption⟩, ⟨by assumption, by assumption⟩⟩, ← hs]), hX⟩
              · refine r_const C dX0_together_59 ?_
                refine lv_istore (lv' := [(7, .int (zi 0)), (0, .ref (B 49 0)), (1, .int (zi a)), (2, .int (zi t)), (3, .int (zi b)), (4, .int (zi u)), (5, .int (zi v5)), (6, .int (zi v6))]) C.x C.b dX0_together_60 hl (by decide) rfl (fun ls hl => ?_)
                have L62 : ∀ (fu : Nat) (v5 : Int) (v7 : Int) (m28_62 : Int → Int) (m29_62 : Int → Int) (h7 : 0 ≤ v7 ∧ v7 ≤ M 200 u) (hr : v5 = isum (fun i => isum (fun j => bI (Fits (pl sg (M 56) t i) (fun x => M 58 (8 * a + x)) (M 201 a) (M 200 t - i) ∧ Fits (pl sg (M 56) u j) (fun x => M 58 (8 * b + x)) (M 201 b) (M 200 u - j) ∧ Agr (pl sg (M 56) t i) (pl sg (M 56) u j) (fun x => M 58 (8 * a + x)) (fun x => M 58 (8 * b + x)) (M 201 a) (M 201 b))) (M 200 u)) v6 + isum (fun j => bI (Fits (pl sg (M 56) t v6) (fun x => M 58 (8 * a + x)) (M 201 a) (M 200 t - v6) ∧ Fits (pl sg (M 56) u j) (fun x => M 58 (8 * b + x)) (M 201 b) (M 200 u - j) ∧ Agr (pl sg (M 56) t v6) (pl sg (M 56) u j) (fun x => M 58 (8 * a + x)) (fun x => M 58 (8 * b + x)) (M 201 a) (M 201 b))) v7) (hm : Int.toNat (M 200 u - v7) < fu) (H : Heap) (locs : List Loc) (ls : Array Slot) (hX : XH E A B F (va_up (va_up (va_up M 3 sg) 28 m28_62) 29 m29_62) G T H) (hS : va_S A s.heap H locs) (hl : lv_has ls 8 [(0, .ref (B 49 0)), (1, .int (zi a)), (2, .int (zi t)), (3, .int (zi b)), (4, .int (zi u)), (5, .int (zi v5)), (6, .int (zi v6)), (7, .int (zi v7))]), W p l e rm_X0_together s m args below meth c H locs 0 0 QQ (F0 m 62 ls []) := by
                  intro fu
                  induction fu with
                  | zero => intro v5 v7 m28_62 m29_62 h7 hr hm; exact absurd hm (Nat.not_lt_zero _)
                  | succ fu ih62 =>
                    intro v5 v7 m28_62 m29_62 h7 hr hm H locs ls hX hS hl
                    refine lv_iload C.x C.b dX0_together_62 (lv_at hl 7 rfl) ?_
                    refine lv_aload_n C.x C.b dX0_together_64 rfl (lv_at hl 0 rfl) ?_
                    refine x_ga C hX 5 (by decide) rfl q741 (fun _ h => h) dX0_together_65 ?_
                    refine lv_iload C.x C.b dX0_together_68 (lv_at hl 4 rfl) ?_
                    refine x_la C hX 5 rfl rfl rfl (by decide) rfl rfl (show 0 ≤ u ∧ u < F 6 from (by omega)) (by omega) (by decide) dX0_together_70 ?_
                    refine r_callVi (As := []) (rest := [.int (zi v7)]) (cells' := 0) (slots' := 0) C (met_X3_size l E A B F (va_up (va_up (va_up M 3 sg) 28 m28_62) 29 m29_62) G T u (show 0 ≤ u ∧ u < (F 6) from (by omega))) (lw_V q174 q175 q176 q98 q177) hd_X3_size rfl (by decide) (x_recv C hX (f := 55) (i := u) (by decide) (show 0 ≤ u ∧ u < F 6 from (by omega)).1 (xK_55 (show 0 ≤ u ∧ u < F 6 from (by omega))) (q := (RX3, TX3, 1)) rfl) hX hS hl.1 rfl (Nat.le_of_ble_eq_true rfl) dX0_together_71 rfl rfl ⟨Nat.le_of_ble_eq_true rfl, Nat.le_of_ble_eq_true rfl⟩ (fun rr H locs hp hS => ?_)
                    obtain ⟨hsz, hrr, hX⟩ := hp
                    have hrr : rr = (M 200) u := hrr
                    subst hrr
                    replace hsz : 0 ≤ (M 200) u ∧ (M 200) u ≤ 24 := hsz
                    refine r_icmp_ge (tgt := 140) C (by omega) (by omega) dX0_together_74 (by decide) (fun c_6 => ?_) (fun c_6 => ?_)
                    · refine r_iinc (lv' := [(6, .int (zi (v6 + 1))), (0, .ref (B 49 0)), (1, .int (zi a)), (2, .int (zi t)), (3, .int (zi b)), (4, .int (zi u)), (5, .int (zi v5)), (7, .int (zi v7))]) C dX0_together_140 hl (k := 6) rfl (by decide) rfl (fun ls hl => ?_)
                      refine lv_goto (tgt := 45) C.x C.b dX0_together_143 (by decide) ?_
                      exact ih45 v5 (v6 + 1) m28_62 m29_62 (by omega) (isum_out (f := fun j => bI (Fits (pl sg (M 56) t v6) (fun x => M 58 (8 * a + x)) (M 201 a) (M 200 t - v6) ∧ Fits (pl sg (M 56) u j) (fun x => M 58 (8 * b + x)) (M 201 b) (M 200 u - j) ∧ Agr (pl sg (M 56) t v6) (pl sg (M 56) u j) (fun x => M 58 (8 * a + x)) (fun x => M 58 (8 * b + x)) (M 201 a) (M 201 b))) (N := M 200 u) h6.1 hr (by omega) rfl) (by omega) H locs ls hX hS (lv_sub hl [1, 2, 3, 4, 5, 6, 0] rfl)
                    · have h24t := h24 t
                      have h24u := h24 u
                      have hG := CsG (p1 := (pl sg (M 56) t v6)) (q1 := (fun x => M 58 (8 * a + x))) (p2 := pl sg (M 56) u v7) (q2 := (fun x => M 58 (8 * b + x))) (k1 := M 201 a) (k2 := M 201 b) (i := v6) (j := v7) (T := M 200 t) (U := M 200 u) hq4
                      refine lv_aload_n C.x C.b dX0_together_77 rfl (lv_at hl 0 rfl) ?_
                      refine r_callVv (As := []) (rest := []) (cells' := 0) (slots' := 0) C (met_X0_clear l E A B F (va_up (va_up (va_up M 3 sg) 28 m28_62) 29 m29_62) G T) (lw_V q334 q336 qs19 q86 q337) hd_X0_clear rfl (by decide) (x_this C hX) hX hS hl.1 rfl (Nat.le_of_ble_eq_true rfl) dX0_together_78 rfl rfl ⟨Nat.le_of_ble_eq_true rfl, Nat.le_of_ble_eq_true rfl⟩ (fun H locs hp hS => ?_)
                      obtain ⟨e28, e29, h28, h29, hX⟩ := hp
                      replace h28 : e28 = ffill (m28_62) 0 4 (-4) := h28
                      replace h29 : e29 = ffill (m29_62) 0 24 (-4) := h29
                      have hX : XH E A B F (va_up (va_up (va_up M 3 sg) 28 e28) 29 e29) G T H := hX.to rfl rfl ((congrArg (fun z => va_up z 29 e29) (up_in (by decide) (up_up _ _ _ _))).trans (up_up _ _ _ _)) rfl rfl
                      refine lv_iload C.x C.b dX0_together_81 (lv_at hl 5 rfl) ?_
                      refine lv_aload_n C.x C.b dX0_together_83 rfl (lv_at hl 0 rfl) ?_
                      refine lv_aload_n C.x C.b dX0_together_84 rfl (lv_at hl 0 rfl) ?_
                      refine x_ga C hX 23 (by decide) rfl q759 (fun _ h => h) dX0_together_85 ?_
                      refine lv_iload_n C.x C.b dX0_together_88 rfl (lv_at hl 1 rfl) ?_
                      refine x_la C hX 23 rfl rfl rfl (by decide) rfl rfl (show 0 ≤ a ∧ a < F 24 from (by omega)) (by omega) (by decide) dX0_together_89 ?_
                      refine lv_aload_n C.x C.b dX0_together_90 rfl (lv_at hl 0 rfl) ?_
                      refine x_ga C hX 5 (by decide) rfl q741 (fun _ h => h) dX0_together_91 ?_
                      refine lv_iload_n C.x C.b dX0_together_94 rfl (lv_at hl 2 rfl) ?_
                      refine x_la C hX 5 rfl rfl rfl (by decide) rfl rfl (show 0 ≤ t ∧ t < F 6 from (by omega)) (by omega) (by decide) dX0_together_95 ?_
                      refine lv_iload C.x C.b dX0_together_96 (lv_at hl 6 rfl) ?_
                      refine r_callVi (As := [.ref (B 57 a), .ref (B 55 t), .int (zi v6)]) (rest := [.int (zi v5)]) (cells' := 0) (slots' := 0) C (met_X0_places l E A B F (va_up (va_up (va_up M 3 sg) 28 e28) 29 e29) G T R00 a t v6 (show 0 ≤ a ∧ a < (F 24) from (by omega)) (show 0 ≤ t ∧ t < (F 6) from (by omega)) (show 0 ≤ v6 ∧ v6 < 24 from (by omega)) (show BJ R00 (e28) (e29) from (BJ_0 (fun s a b => by rw [h28]; exact ffill_in ⟨a, by omega⟩) (fun s a b => by rw [h29]; exact ffill_in ⟨a, by omega⟩)))) (lw_V q338 q340 qs20 q86 q341) hd_X0_places rfl (by decide) (x_this C hX) hX hS hl.1 rfl (Nat.le_of_ble_eq_true rfl) dX0_together_98 rfl rfl ⟨Nat.le_of_ble_eq_true rfl, Nat.le_of_ble_eq_true rfl⟩ (fun rr H locs hp hS => ?_)
                      obtain ⟨g28, g29, hbp1, hrr, hX⟩ := hp
                      have hrr : rr = bI (v6 + (M 201) a ≤ (M 200) t ∧ Cs R00 (pl (sg) ((M 56)) t v6) (fun x => (M 58) (8 * a + x)) ((M 201) a)) := hrr
                      subst hrr
                      replace hbp1 : (v6 + (M 201) a ≤ (M 200) t ∧ Cs R00 (pl (sg) ((M 56)) t v6) (fun x => (M 58) (8 * a + x)) ((M 201) a)) → BJ (Rx R00 (pl (sg) ((M 56)) t v6) (fun x => (M 58) (8 * a + x)) ((M 201) a)) g28 g29 := hbp1
                      have hX : XH E A B F (va_up (va_up (va_up M 3 sg) 28 g28) 29 g29) G T H := hX.to rfl rfl ((congrArg (fun z => va_up z 29 g29) (up_in (by decide) (up_up _ _ _ _))).trans (up_up _ _ _ _)) rfl rfl
                      refine r_if_eq_b (tgt := 130) C dX0_together_101 (by decide) (fun c_7 => ?_) (fun c_7 => ?_)
                      · refine r_const C dX0_together_130 ?_
                        refine r_iadd C dX0_together_131 ?_
                        refine lv_istore (lv' := [(5, .int (zi (v5 + 0))), (0, .ref (B 49 0)), (1, .int (zi a)), (2, .int (zi t)), (3, .int (zi b)), (4, .int (zi u)), (6, .int (zi v6)), (7, .int (zi v7))]) C.x C.b dX0_together_132 hl (by decide) rfl (fun ls hl => ?_)
                        refine r_iinc (lv' := [(7, .int (zi (v7 + 1))), (5, .int (zi (v5 + 0))), (0, .ref (B 49 0)), (1, .int (zi a)), (2, .int (zi t)), (3, .int (zi b)), (4, .int (zi u)), (6, .int (zi v6))]) C dX0_together_134 hl (k := 7) rfl (by decide) rfl (fun ls hl => ?_)
                        refine lv_goto (tgt := 62) C.x C.b dX0_together_137 (by decide) ?_
                        exact ih62 (v5 + 0) (v7 + 1) g28 g29 (by omega) (isum_st2 h7.1 hr (by first | exact (bI_t (hG.1 ⟨by assumption, by assumption⟩)).symm | exact (bI_f (fun z => absurd (hG.2 z).1 (by assumption))).symm | exact (bI_f (fun z => absurd (hG.2 z).2 (by assumption))).symm)) (by omega) H locs ls hX hS (lv_sub hl [2, 3, 4, 5, 6, 1, 7, 0] rfl)
                      · refine lv_aload_n C.x C.b dX0_together_104 rfl (lv_at hl 0 rfl) ?_
                        refine lv_aload_n C.x C.b dX0_together_105 rfl (lv_at hl 0 rfl) ?_
                        refine x_ga C hX 23 (by decide) rfl q759 (fun _ h => h) dX0_together_106 ?_
                        refine lv_iload_n C.x C.b dX0_together_109 rfl (lv_at hl 3 rfl) ?_
                        refine x_la C hX 23 rfl rfl rfl (by decide) rfl rfl (show 0 ≤ b ∧ b < F 24 from (by omega)) (by omega) (by decide) dX0_together_110 ?_
                        refine lv_aload_n C.x C.b dX0_together_111 rfl (lv_at hl 0 rfl) ?_
                        refine x_ga C hX 5 (by decide) rfl q741 (fun _ h => h) dX0_together_112 ?_
                        refine lv_iload C.x C.b dX0_together_115 (lv_at hl 4 rfl) ?_
                        refine x_la C hX 5 rfl rfl rfl (by decide) rfl rfl (show 0 ≤ u ∧ u < F 6 from (by omega)) (by omega) (by decide) dX0_together_117 ?_
                        refine lv_iload C.x C.b dX0_together_118 (lv_at hl 7 rfl) ?_
                        refine r_callVi (As := [.ref (B 57 b), .ref (B 55 u), .int (zi v7)]) (rest := [.int (zi v5)]) (cells' := 0) (slots' := 0) C (met_X0_places l E A B F (va_up (va_up (va_up M 3 sg) 28 g28) 29 g29) G T (Rx R00 (pl sg (M 56) t v6) (fun x => M 58 (8 * a + x)) (M 201 a)) b u v7 (show 0 ≤ b ∧ b < (F 24) from (by omega)) (show 0 ≤ u ∧ u < (F 6) from (by omega)) (show 0 ≤ v7 ∧ v7 < 24 from (by omega)) (show BJ (Rx R00 (pl sg (M 56) t v6) (fun x => M 58 (8 * a + x)) (M 201 a)) (g28) (g29) from (hbp1 (by assumption)))) (lw_V q338 q340 qs20 q86 q341) hd_X0_places rfl (by decide) (x_this C hX) hX hS hl.1 rfl (Nat.le_of_ble_eq_true rfl) dX0_together_120 rfl rfl ⟨Nat.le_of_ble_eq_true rfl, Nat.le_of_ble_eq_true rfl⟩ (fun rr H locs hp hS => ?_)
                        obtain ⟨k28, k29, hbp2, hrr, hX⟩ := hp
                        have hrr : rr = bI (v7 + (M 201) b ≤ (M 200) u ∧ Cs (Rx R00 (pl sg (M 56) t v6) (fun x => M 58 (8 * a + x)) (M 201 a)) (pl (sg) ((M 56)) u v7) (fun x => (M 58) (8 * b + x)) ((M 201) b)) := hrr
                        subst hrr
                        replace hbp2 : (v7 + (M 201) b ≤ (M 200) u ∧ Cs (Rx R00 (pl sg (M 56) t v6) (fun x => M 58 (8 * a + x)) (M 201 a)) (pl (sg) ((M 56)) u v7) (fun x => (M 58) (8 * b + x)) ((M 201) b)) → BJ (Rx (Rx R00 (pl sg (M 56) t v6) (fun x => M 58 (8 * a + x)) (M 201 a)) (pl (sg) ((M 56)) u v7) (fun x => (M 58) (8 * b + x)) ((M 201) b)) k28 k29 := hbp2
                        have hX : XH E A B F (va_up (va_up (va_up M 3 sg) 28 k28) 29 k29) G T H := hX.to rfl rfl ((congrArg (fun z => va_up z 29 k29) (up_in (by decide) (up_up _ _ _ _))).trans (up_up _ _ _ _)) rfl rfl
                        refine r_if_eq_b (tgt := 130) C dX0_together_123 (by decide) (fun c_8 => ?_) (fun c_8 => ?_)
                        · refine r_const C dX0_together_130 ?_
                          refine r_iadd C dX0_together_131 ?_
                          refine lv_istore (lv' := [(5, .int (zi (v5 + 0))), (0, .ref (B 49 0)), (1, .int (zi a)), (2, .int (zi t)), (3, .int (zi b)), (4, .int (zi u)), (6, .int (zi v6)), (7, .int (zi v7))]) C.x C.b dX0_together_132 hl (by decide) rfl (fun ls hl => ?_)
                          refine r_iinc (lv' := [(7, .int (zi (v7 + 1))), (5, .int (zi (v5 + 0))), (0, .ref (B 49 0)), (1, .int (zi a)), (2, .int (zi t)), (3, .int (zi b)), (4, .int (zi u)), (6, .int (zi v6))]) C dX0_together_134 hl (k := 7) rfl (by decide) rfl (fun ls hl => ?_)
                          refine lv_goto (tgt := 62) C.x C.b dX0_together_137 (by decide) ?_
                          exact ih62 (v5 + 0) (v7 + 1) k28 k29 (by omega) (isum_st2 h7.1 hr (by first | exact (bI_t (hG.1 ⟨by assumption, by assumption⟩)).symm | exact (bI_f (fun z => absurd (hG.2 z).1 (by assumption))).symm | exact (bI_f (fun z => absurd (hG.2 z).2 (by assumption))).symm)) (by omega) H locs ls hX hS (lv_sub hl [2, 3, 4, 5, 6, 1, 7, 0] rfl)
                        · refine r_const C dX0_together_126 ?_
                          refine lv_goto (tgt := 131) C.x C.b dX0_together_127 (by decide) ?_
                          refine r_iadd C dX0_together_131 ?_
                          refine lv_istore (lv' := [(5, .int (zi (v5 + 1))), (0, .ref (B 49 0)), (1, .int (zi a)), (2, .int (zi t)), (3, .int (zi b)), (4, .int (zi u)), (6, .int (zi v6)), (7, .int (zi v7))]) C.x C.b dX0_together_132 hl (by decide) rfl (fun ls hl => ?_)
                          refine r_iinc (lv' := [(7, .int (zi (v7 + 1))), (5, .int (zi (v5 + 1))), (0, .ref (B 49 0)), (1, .int (zi a)), (2, .int (zi t)), (3, .int (zi b)), (4, .int (zi u)), (6, .int (zi v6))]) C dX0_together_134 hl (k := 7) rfl (by decide) rfl (fun ls hl => ?_)
                          refine lv_goto (tgt := 62) C.x C.b dX0_together_137 (by decide) ?_
                          exact ih62 (v5 + 1) (v7 + 1) k28 k29 (by omega) (isum_st2 h7.1 hr (by first | exact (bI_t (hG.1 ⟨by assumption, by assumption⟩)).symm | exact (bI_f (fun z => absurd (hG.2 z).1 (by assumption))).symm | exact (bI_f (fun z => absurd (hG.2 z).2 (by assumption))).symm)) (by omega) H locs ls hX hS (lv_sub hl [2, 3, 4, 5, 6, 1, 7, 0] rfl)
                exact L62 _ v5 0 m28 m29 (by have := h24 u; omega) (by rw [hs]; exact (Int.add_zero _).symm) (Nat.lt_succ_self _) H locs ls hX hS (lv_sub hl [1, 2, 3, 4, 5, 6, 7, 0] rfl)
          exact L45 _ 0 0 (M 28) (M 29) (by have := h24 t; omega) rfl (Nat.lt_succ_self _) H locs ls (hX.to rfl rfl (((up_id (va_up M 3 sg) (k := 28) (a := (M 28)) rfl).symm.trans rfl).trans ((up_id (va_up (va_up M 3 sg) 28 (M 28)) (k := 29) (a := (M 29)) rfl).symm.trans rfl)) rfl rfl) hS (lv_sub hl [2, 3, 4, 5, 6, 1, 0] rfl)
        · refine r_const C dX0_together_33 ?_
          rw [← hQQ]
          exact r_iret C hS (Nat.le_of_ble_eq_true rfl) (Nat.le_of_ble_eq_true rfl) dX0_together_34 ⟨(M 3), (M 28), (M 29), (fun q => by first | exact absurd q.1.1 (by assumption) | exact absurd q.1.2 (by assumption) | exact absurd q.2.1 (by assumption) | exact absurd q.2.2 (by assumption)), (by first | exact Eq.symm (sel_f (fun q => absurd q.1.1 (by assumption))) | exact Eq.symm (sel_f (fun q => absurd q.1.2 (by assumption))) | exact Eq.symm (sel_f (fun q => absurd q.2.1 (by assumption))) | exact Eq.symm (sel_f (fun q => absurd q.2.2 (by assumption)))), (hX.to rfl rfl ((((up_id M (k := 3) (a := (M 3)) rfl).symm.trans rfl).trans ((up_id (va_up M 3 (M 3)) (k := 28) (a := (M 28)) rfl).symm.trans rfl)).trans ((up_id (va_up (va_up M 3 (M 3)) 28 (M 28)) (k := 29) (a := (M 29)) rfl).symm.trans rfl)) rfl rfl)⟩
