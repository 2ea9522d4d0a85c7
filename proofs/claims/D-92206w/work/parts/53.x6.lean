set_option maxRecDepth 100000

theorem hd_X0_areAlike : yX0_areAlike.cls = RX0 ∧ yX0_areAlike.cls ≠ "java/lang/invoke/MethodHandle" ∧ yX0_areAlike.cls ≠ "java/lang/invoke/VarHandle" ∧ (parseMethodDescriptor yX0_areAlike.desc).map (fun d => d.parameters.length) = some 3 := by decide +kernel
abbrev rm_X0_areAlike : Room := { frames := 1, cells := 0, slots := 0, locals := 22 }
set_option maxHeartbeats 8000000 in
theorem met_X0_areAlike (l : Launch) (E : us_E) (A : Nat → Prop) (B : Nat → Int → Nat) (F : Nat → Int) (M : Nat → Int → Int) (G : Nat → Int → Option Nat) (T : x_T) (a : Int) (b : Int) (k : Int) (hab : (0 ≤ a ∧ a < 192) ∧ (0 ≤ b ∧ b < 192)) (hk : 0 ≤ k ∧ k ≤ 1) (hwv : WV (M 9) (M 10) (M 11) (M 200) (F 6) a ∧ WV (M 9) (M 10) (M 11) (M 200) (F 6) b) : cMet l yX0_areAlike cX0_areAlike 9 (some .boolean) rm_X0_areAlike A E [.ref (B 49 0), .int (zi a), .int (zi b), .int (zi k)] (fun H => XH E A B F M G T H) (qi A (fun r H => (r = bI (alk (M 3) (M 56) (M 9) (M 10) (M 11) a b k)) ∧ XH E A B F M G T H)) := by
  refine cMet.of (by decide) (Nat.le_of_ble_eq_true rfl) (fun p e s m args below meth c C hnm hX hS ls hl => ?_)
  have C : Cx p s m args meth c A RX0 cX0_areAlike 9 (some .boolean) E := C
  have hX : XH E A B F M G T s.heap := hX
  have hl : lv_has ls 9 [(0, .ref (B 49 0)), (1, .int (zi a)), (2, .int (zi b)), (3, .int (zi k))] := hl
  generalize hH : s.heap = H at hX
  have hS : va_S A s.heap H [] := by rw [← hH]; exact hS
  generalize hlocs : ([] : List Loc) = locs at hS ⊢
  obtain ⟨QQ, hQQ⟩ : ∃ zQQ, MQ below (qi A (fun r H => (r = bI (alk (M 3) (M 56) (M 9) (M 10) (M 11) a b k)) ∧ XH E A B F M G T H)) args s (rm_X0_areAlike).cells (rm_X0_areAlike).slots A = zQQ := ⟨_, rfl⟩
  rw [hQQ]
  have wa9 := hwv.1.1
  have wa10 := hwv.1.2.1
  have wa11 := hwv.1.2.2.1
  have wa200 := hwv.1.2.2.2
  have wb9 := hwv.2.1
  have wb10 := hwv.2.2.1
  have wb11 := hwv.2.2.2.1
  have wb200 := hwv.2.2.2.2
  replace hwv : Bx _ := Bx.i hwv
  refine lv_aload_n C.x C.b dX0_areAlike_0 rfl (lv_at hl 0 rfl) ?_
  refine x_ga C hX 5 (by decide) rfl q741 (fun _ h => h) dX0_areAlike_1 ?_
  refine lv_aload_n C.x C.b dX0_areAlike_4 rfl (lv_at hl 0 rfl) ?_
  refine x_ga C hX 9 (by decide) rfl q745 (fun _ h => h) dX0_areAlike_5 ?_
  refine lv_iload_n C.x C.b dX0_areAlike_8 rfl (lv_at hl 1 rfl) ?_
  refine x_li1 C hX 9 rfl (by decide) rfl (show 0 ≤ a ∧ a < 192 from (by omega)) (by decide) (M 9 a) rfl dX0_areAlike_9 (fun r9 => ?_)
  have r9 : 0 ≤ M 9 a ∧ M 9 a ≤ 7 := r9 (0, 7) rfl
  refine x_la C hX 5 rfl rfl rfl (by decide) rfl rfl (show 0 ≤ (M 9 a) ∧ (M 9 a) < F 6 from (by omega)) (by omega) (by decide) dX0_areAlike_10 ?_
  refine lv_astore (lv' := [(4, .ref (B 55 (M 9 a))), (0, .ref (B 49 0)), (1, .int (zi a)), (2, .int (zi b)), (3, .int (zi k))]) C.x C.b dX0_areAlike_11 hl (by decide) rfl (fun ls hl => ?_)
  refine lv_aload_n C.x C.b dX0_areAlike_13 rfl (lv_at hl 1 rfl) ?_
  refine x_ga C hX 5 (by decide) rfl q741 (fun _ h => h) dX0_areAlike_14 ?_
  refine lv_aload_n C.x C.b dX0_areAlike_17 rfl (lv_at hl 1 rfl) ?_
  refine x_ga C hX 9 (by decide) rfl q745 (fun _ h => h) dX0_areAlike_18 ?_
  refine lv_iload_n C.x C.b dX0_areAlike_21 rfl (lv_at hl 3 rfl) ?_
  refine x_li1 C hX 9 rfl (by decide) rfl (show 0 ≤ b ∧ b < 192 from (by omega)) (by decide) (M 9 b) rfl dX0_areAlike_22 (fun r22 => ?_)
  have r22 : 0 ≤ M 9 b ∧ M 9 b ≤ 7 := r22 (0, 7) rfl
  refine x_la C hX 5 rfl rfl rfl (by decide) rfl rfl (show 0 ≤ (M 9 b) ∧ (M 9 b) < F 6 from (by omega)) (by omega) (by decide) dX0_areAlike_23 ?_
  refine lv_astore (lv' := [(5, .ref (B 55 (M 9 b))), (4, .ref (B 55 (M 9 a))), (0, .ref (B 49 0)), (1, .int (zi a)), (2, .int (zi b)), (3, .int (zi k))]) C.x C.b dX0_areAlike_24 hl (by decide) rfl (fun ls hl => ?_)
  refine lv_aload_n C.x C.b dX0_areAlike_26 rfl (lv_at hl 2 rfl) ?_
  refine x_ga C hX 11 (by decide) rfl q747 (fun _ h => h) dX0_areAlike_27 ?_
  refine lv_iload_n C.x C.b dX0_areAlike_30 rfl (lv_at hl 3 rfl) ?_
  refine x_li1 C hX 11 rfl (by decide) rfl (show 0 ≤ a ∧ a < 192 from (by omega)) (by decide) (M 11 a) rfl dX0_areAlike_31 (fun r31 => ?_)
  have r31 : 0 ≤ M 11 a ∧ M 11 a ≤ 24 := r31 (0, 24) rfl
  refine lv_aload_n C.x C.b dX0_areAlike_32 rfl (lv_at hl 2 rfl) ?_
  refine x_ga C hX 10 (by decide) rfl q746 (fun _ h => h) dX0_areAlike_33 ?_
  refine lv_iload_n C.x C.b dX0_areAlike_36 rfl (lv_at hl 3 rfl) ?_
  refine x_li1 C hX 10 rfl (by decide) rfl (show 0 ≤ a ∧ a < 192 from (by omega)) (by decide) (M 10 a) rfl dX0_areAlike_37 (fun r37 => ?_)
  have r37 : 0 ≤ M 10 a ∧ M 10 a ≤ 23 := r37 (0, 23) rfl
  refine r_isub C dX0_areAlike_38 ?_
  refine lv_istore (lv' := [(6, .int (zi ((M 11 a) - (M 10 a)))), (5, .ref (B 55 (M 9 b))), (4, .ref (B 55 (M 9 a))), (0, .ref (B 49 0)), (1, .int (zi a)), (2, .int (zi b)), (3, .int (zi k))]) C.x C.b dX0_areAlike_39 hl (by decide) rfl (fun ls hl => ?_)
  refine lv_iload C.x C.b dX0_areAlike_41 (lv_at hl 0 rfl) ?_
  refine lv_aload_n C.x C.b dX0_areAlike_43 rfl (lv_at hl 3 rfl) ?_
  refine x_ga C hX 11 (by decide) rfl q747 (fun _ h => h) dX0_areAlike_44 ?_
  refine lv_iload_n C.x C.b dX0_areAlike_47 rfl (lv_at hl 5 rfl) ?_
  refine x_li1 C hX 11 rfl (by decide) rfl (show 0 ≤ b ∧ b < 192 from (by omega)) (by decide) (M 11 b) rfl dX0_areAlike_48 (fun r48 => ?_)
  have r48 : 0 ≤ M 11 b ∧ M 11 b ≤ 24 := r48 (0, 24) rfl
  refine lv_aload_n C.x C.b dX0_areAlike_49 rfl (lv_at hl 3 rfl) ?_
  refine x_ga C hX 10 (by decide) rfl q746 (fun _ h => h) dX0_areAlike_50 ?_
  refine lv_iload_n C.x C.b dX0_areAlike_53 rfl (lv_at hl 5 rfl) ?_
  refine x_li1 C hX 10 rfl (by decide) rfl (show 0 ≤ b ∧ b < 192 from (by omega)) (by decide) (M 10 b) rfl dX0_areAlike_54 (fun r54 => ?_)
  have r54 : 0 ≤ M 10 b ∧ M 10 b ≤ 23 := r54 (0, 23) rfl
  refine r_isub C dX0_areAlike_55 ?_
  have J64_1 : ∀ (t0 : Int) (ht0 : t0 = bI (((M 11 a) - (M 10 a)) = ((M 11 b) - (M 10 b)))) (H : Heap) (locs : List Loc) (ls : Array Slot) (hX : XH E A B F M G T H) (hS : va_S A s.heap H locs) (hl : lv_has ls 9 [(6, .int (zi ((M 11 a) - (M 10 a)))), (5, .ref (B 55 (M 9 b))), (4, .ref (B 55 (M 9 a))), (0, .ref (B 49 0)), (1, .int (zi a)), (2, .int (zi b)), (3, .int (zi k))]), W p l e rm_X0_areAlike s m args below meth c H locs 0 0 QQ (F0 m 64 ls [.int (zi t0)]) := by
    intro t0 ht0 H locs ls hX hS hl
    subst ht0
    refine lv_istore (lv' := [(7, .int (zi (bI (((M 11 a) - (M 10 a)) = ((M 11 b) - (M 10 b)))))), (6, .int (zi ((M 11 a) - (M 10 a)))), (5, .ref (B 55 (M 9 b))), (4, .ref (B 55 (M 9 a))), (0, .ref (B 49 0)), (1, .int (zi a)), (2, .int (zi b)), (3, .int (zi k))]) C.x C.b dX0_areAlike_64 hl (by decide) rfl (fun ls hl => ?_)
    refine r_const C dX0_areAlike_66 ?_
    refine lv_istore (lv' := [(8, .int (zi 0)), (7, .int (zi (bI (((M 11 a) - (M 10 a)) = ((M 11 b) - (M 10 b)))))), (6, .int (zi ((M 11 a) - (M 10 a)))), (5, .ref (B 55 (M 9 b))), (4, .ref (B 55 (M 9 a))), (0, .ref (B 49 0)), (1, .int (zi a)), (2, .int (zi b)), (3, .int (zi k))]) C.x C.b dX0_areAlike_67 hl (by decide) rfl (fun ls hl => ?_)
    have L69 : ∀ (fu : Nat) (v7 : Prop) (xv7 : Int) (hv7 : xv7 = bI v7) (v8 : Int) (h8 : 0 ≤ v8 ∧ v8 ≤ M 11 a - M 10 a - k) (hu : v7 ↔ (M 11 a - M 10 a = M 11 b - M 10 b ∧ ∀ j : Int, 0 ≤ j → j < v8 → cw (M 3) (M 56) (M 9) (M 10) a j = cw (M 3) (M 56) (M 9) (M 10) b j)) (hm : Int.toNat (M 11 a - M 10 a - k - v8) < fu) (H : Heap) (locs : List Loc) (ls : Array Slot) (hX : XH E A B F M G T H) (hS : va_S A s.heap H locs) (hl : lv_has ls 9 [(0, .ref (B 49 0)), (1, .int (zi a)), (2, .int (zi b)), (3, .int (zi k)), (4, .ref (B 55 (M 9 a))), (5, .ref (B 55 (M 9 b))), (6, .int (zi ((M 11 a) - (M 10 a)))), (7, .int (zi xv7)), (8, .int (zi v8))]), W p l e rm_X0_areAlike s m args below meth c H locs 0 0 QQ (F0 m 69 ls []) := by
      intro fu
      induction fu with
      | zero => intro v7 xv7 hv7 v8 h8 hu hm; exact absurd hm (Nat.not_lt_zero _)
      | succ fu ih69 =>
        intro v7 xv7 hv7 v8 h8 hu hm H locs ls hX hS hl
        subst hv7
        refine lv_iload C.x C.b dX0_areAlike_69 (lv_at hl 8 rfl) ?_
        refine lv_iload C.x C.b dX0_areAlike_71 (lv_at hl 6 rfl) ?_
        refine lv_iload_n C.x C.b dX0_areAlike_73 rfl (lv_at hl 3 rfl) ?_
        refine r_isub C dX0_areAlike_74 ?_
        refine r_icmp_ge (tgt := 129) C (by omega) (by omega) dX0_areAlike_75 (by decide) (fun c_2 => ?_) (fun c_2 => ?_)
        · refine lv_iload C.x C.b dX0_areAlike_129 (lv_at hl 7 rfl) ?_
          rw [← hQQ]
          exact r_zret C (bI_e _) hS (Nat.le_of_ble_eq_true rfl) (Nat.le_of_ble_eq_true rfl) dX0_areAlike_131 ⟨(bI_c (by first | (rw [hu, show v8 = M 11 a - M 10 a - k by omega]; exact Iff.rfl) | exact ⟨fun q => absurd q (by assumption), fun q => absurd (hu.2 ⟨q.1, fun j x y => q.2 j x (by omega)⟩) (by assumption)⟩)), hX⟩
        · refine lv_iload C.x C.b dX0_areAlike_78 (lv_at hl 7 rfl) ?_
          refine r_if_eq_b (tgt := 129) C dX0_areAlike_80 (by decide) (fun c_3 => ?_) (fun c_3 => ?_)
          · refine lv_iload C.x C.b dX0_areAlike_129 (lv_at hl 7 rfl) ?_
            rw [← hQQ]
            exact r_zret C (bI_e _) hS (Nat.le_of_ble_eq_true rfl) (Nat.le_of_ble_eq_true rfl) dX0_areAlike_131 ⟨(bI_c (by first | (rw [hu, show v8 = M 11 a - M 10 a - k by omega]; exact Iff.rfl) | exact ⟨fun q => absurd q (by assumption), fun q => absurd (hu.2 ⟨q.1, fun j x y => q.2 j x (by omega)⟩) (by assumption)⟩)), hX⟩
          · have hle := (hu.1 (by assumption)).1
            refine lv_aload_n C.x C.b dX0_areAlike_83 rfl (lv_at hl 0 rfl) ?_
            refine lv_aload C.x C.b dX0_areAlike_84 (lv_at hl 4 rfl) ?_
            refine lv_aload_n C.x C.b dX0_areAlike_86 rfl (lv_at hl 0 rfl) ?_
            refine x_ga C hX 10 (by decide) rfl q746 (fun _ h => h) dX0_areAlike_87 ?_
            refine lv_iload_n C.x C.b dX0_areAlike_90 rfl (lv_at hl 1 rfl) ?_
            refine x_li1 C hX 10 rfl (by decide) rfl (show 0 ≤ a ∧ a < 192 from (by omega)) (by decide) (M 10 a) rfl dX0_areAlike_91 (fun _ => ?_)
            refine lv_iload C.x C.b dX0_areAlike_92 (lv_at hl 8 rfl) ?_
            refine r_iadd C dX0_areAlike_94 ?_
            refine r_callVi (As := [.ref (B 55 (M 9 a)), .int (zi ((M 10 a) + v8))]) (rest := []) (cells' := 0) (slots' := 0) C (met_X0_signAt l E A B F M G T (M 9 a) ((M 10 a) + v8) (show 0 ≤ (M 9 a) ∧ (M 9 a) < (F 6) from (by omega)) (show 0 ≤ ((M 10 a) + v8) ∧ ((M 10 a) + v8) < (M 200) (M 9 a) from (by omega))) (lw_V q178 q180 qs6 q86 q181) hd_X0_signAt rfl (by decide) (x_this C hX) hX hS hl.1 rfl (Nat.le_of_ble_eq_true rfl) dX0_areAlike_95 rfl rfl ⟨Nat.le_of_ble_eq_true rfl, Nat.le_of_ble_eq_true rfl⟩ (fun rr H locs hp hS => ?_)
            obtain ⟨hat1, hrr, hX⟩ := hp
            have hrr : rr = sa ((M 3)) ((M 56) (24 * (M 9 a) + ((M 10 a) + v8))) := hrr
            subst hrr
            replace hat1 : -2 ≤ sa ((M 3)) ((M 56) (24 * (M 9 a) + ((M 10 a) + v8))) ∧ sa ((M 3)) ((M 56) (24 * (M 9 a) + ((M 10 a) + v8))) ≤ 23 := hat1
            have hst := br_st (P := fun j => cw (M 3) (M 56) (M 9) (M 10) a j = cw (M 3) (M 56) (M 9) (M 10) b j) h8.1 hu
            refine lv_aload_n C.x C.b dX0_areAlike_98 rfl (lv_at hl 0 rfl) ?_
            refine lv_aload C.x C.b dX0_areAlike_99 (lv_at hl 5 rfl) ?_
            refine lv_aload_n C.x C.b dX0_areAlike_101 rfl (lv_at hl 0 rfl) ?_
            refine x_ga C hX 10 (by decide) rfl q746 (fun _ h => h) dX0_areAlike_102 ?_
            refine lv_iload_n C.x C.b dX0_areAlike_105 rfl (lv_at hl 2 rfl) ?_
            refine x_li1 C hX 10 rfl (by decide) rfl (show 0 ≤ b ∧ b < 192 from (by omega)) (by decide) (M 10 b) rfl dX0_areAlike_106 (fun _ => ?_)
            refine lv_iload C.x C.b dX0_areAlike_107 (lv_at hl 8 rfl) ?_
            refine r_iadd C dX0_areAlike_109 ?_
            refine r_callVi (As := [.ref (B 55 (M 9 b)), .int (zi ((M 10 b) + v8))]) (rest := [.int (zi (sa ((M 3)) ((M 56) (24 * (M 9 a) + ((M 10 a) + v8)))))]) (cells' := 0) (slots' := 0) C (met_X0_signAt l E A B F M G T (M 9 b) ((M 10 b) + v8) (show 0 ≤ (M 9 b) ∧ (M 9 b) < (F 6) from (by omega)) (show 0 ≤ ((M 10 b) + v8) ∧ ((M 10 b) + v8) < (M 200) (M 9 b) from (by omega))) (lw_V q178 q180 qs6 q86 q181) hd_X0_signAt rfl (by decide) (x_this C hX) hX hS hl.1 rfl (Nat.le_of_ble_eq_true rfl) dX0_areAlike_110 rfl rfl ⟨Nat.le_of_ble_eq_true rfl, Nat.le_of_ble_eq_true rfl⟩ (fun rr H locs hp hS => ?_)
            obtain ⟨hat2, hrr, hX⟩ := hp
            have hrr : rr = sa ((M 3)) ((M 56) (24 * (M 9 b) + ((M 10 b) + v8))) := hrr
            subst hrr
            replace hat2 : -2 ≤ sa ((M 3)) ((M 56) (24 * (M 9 b) + ((M 10 b) + v8))) ∧ sa ((M 3)) ((M 56) (24 * (M 9 b) + ((M 10 b) + v8))) ≤ 23 := hat2
            have J121_4 : ∀ (t0 : Int) (ht0 : t0 = bI ((sa ((M 3)) ((M 56) (24 * (M 9 a) + ((M 10 a) + v8)))) = (sa ((M 3)) ((M 56) (24 * (M 9 b) + ((M 10 b) + v8)))))) (H : Heap) (locs : List Loc) (ls : Array Slot) (hX : XH E A B F M G T H) (hS : va_S A s.heap H locs) (hl : lv_has ls 9 [(0, .ref (B 49 0)), (1, .int (zi a)), (2, .int (zi b)), (3, .int (zi k)), (4, .ref (B 55 (M 9 a))), (5, .ref (B 55 (M 9 b))), (6, .int (zi ((M 11 a) - (M 10 a)))), (7, .int (zi (bI v7))), (8, .int (zi v8))]), W p l e rm_X0_areAlike s m args below meth c H locs 0 0 QQ (F0 m 121 ls [.int (zi t0)]) := by
              intro t0 ht0 H locs ls hX hS hl
              subst ht0
              refine lv_istore (lv' := [(7, .int (zi (bI ((sa ((M 3)) ((M 56) (24 * (M 9 a) + ((M 10 a) + v8)))) = (sa ((M 3)) ((M 56) (24 * (M 9 b) + ((M 10 b) + v8)))))))), (0, .ref (B 49 0)), (1, .int (zi a)), (2, .int (zi b)), (3, .int (zi k)), (4, .ref (B 55 (M 9 a))), (5, .ref (B 55 (M 9 b))), (6, .int (zi ((M 11 a) - (M 10 a)))), (8, .int (zi v8))]) C.x C.b dX0_areAlike_121 hl (by decide) rfl (fun ls hl => ?_)
              refine r_iinc (lv' := [(8, .int (zi (v8 + 1))), (7, .int (zi (bI ((sa ((M 3)) ((M 56) (24 * (M 9 a) + ((M 10 a) + v8)))) = (sa ((M 3)) ((M 56) (24 * (M 9 b) + ((M 10 b) + v8)))))))), (0, .ref (B 49 0)), (1, .int (zi a)), (2, .int (zi b)), (3, .int (zi k)), (4, .ref (B 55 (M 9 a))), (5, .ref (B 55 (M 9 b))), (6, .int (zi ((M 11 a) - (M 10 a))))]) C dX0_areAlike_123 hl (k := 8) rfl (by decide) rfl (fun ls hl => ?_)
              refine lv_goto (tgt := 69) C.x C.b dX0_areAlike_126 (by decide) ?_
              exact ih69 ((sa ((M 3)) ((M 56) (24 * (M 9 a) + ((M 10 a) + v8)))) = (sa ((M 3)) ((M 56) (24 * (M 9 b) + ((M 10 b) + v8))))) (bI ((sa ((M 3)) ((M 56) (24 * (M 9 a) + ((M 10 a) + v8)))) = (sa ((M 3)) ((M 56) (24 * (M 9 b) + ((M 10 b) + v8)))))) rfl (v8 + 1) (by omega) ⟨fun q => hst.1 ⟨by assumption, q⟩, fun z => (hst.2 z).2⟩ (by omega) H locs ls hX hS (lv_sub hl [2, 3, 4, 5, 6, 7, 8, 1, 0] rfl)
            refine r_icmp_ne (tgt := 120) C (by omega) (by omega) dX0_areAlike_113 (by decide) (fun c_5 => ?_) (fun c_5 => ?_)
            · refine r_const C dX0_areAlike_120 ?_
              exact J121_4 0 ((bI_f c_5).symm) H locs ls hX hS hl
            · refine r_const C dX0_areAlike_116 ?_
              refine lv_goto (tgt := 121) C.x C.b dX0_areAlike_117 (by decide) ?_
              exact J121_4 1 ((bI_t c_5).symm) H locs ls hX hS hl
    exact L69 _ (((M 11 a) - (M 10 a)) = ((M 11 b) - (M 10 b))) (bI (((M 11 a) - (M 10 a)) = ((M 11 b) - (M 10 b)))) rfl 0 (by omega) br_0 (Nat.lt_succ_self _) H locs ls hX hS (lv_sub hl [5, 6, 7, 8, 4, 3, 2, 1, 0] rfl)
  refine r_icmp_ne (tgt := 63) C (by omega) (by omega) dX0_areAlike_56 (by decide) (fun c_6 => ?_) (fun c_6 => ?_)
  · refine r_const C dX0_areAlike_63 ?_
    exact J64_1 0 ((bI_f c_6).symm) H locs ls hX hS hl
  · refine r_const C dX0_areAlike_59 ?_
    refine lv_goto (tgt := 64) C.x C.b dX0_areAlike_60 (by decide) ?_
    exact J64_1 1 ((bI_t c_6).symm) H locs ls hX hS hl

theorem hd_X0_lastOf : yX0_lastOf.cls = RX0 ∧ yX0_lastOf.cls ≠ "java/lang/invoke/MethodHandle" ∧ yX0_lastOf.cls ≠ "java/lang/invoke/VarHandle" ∧ (parseMethodDescriptor yX0_lastOf.desc).map (fun d => d.parameters.length) = some 1 := by decide +kernel
abbrev rm_X0_lastOf : Room := { frames := 1, cells := 0, slots := 0, locals := 22 }
set_option maxHeartbeats 8000000 in
theorem met_X0_lastOf (l : Launch) (E : us_E) (A : Nat → Prop) (B : Nat → Int → Nat) (F : Nat → Int) (M : Nat → Int → Int) (G : Nat → Int → Option Nat) (T : x_T) (a : Int) (ha : 0 ≤ a ∧ a < 192) (hwv : WV (M 9) (M 10) (M 11) (M 200) (F 6) a) : cMet l yX0_lastOf cX0_lastOf 2 (some .int) rm_X0_lastOf A E [.ref (B 49 0), .int (zi a)] (fun H => XH E A B F M G T H) (qi A (fun r H => (-2 ≤ sa (M 3) (M 56 (24 * M 9 a + (M 11 a - 1))) ∧ sa (M 3) (M 56 (24 * M 9 a + (M 11 a - 1))) ≤ 23) ∧ (r = sa (M 3) (M 56 (24 * M 9 a + (M 11 a - 1)))) ∧ XH E A B F M G T H)) := by
  refine cMet.of (by decide) (Nat.le_of_ble_eq_true rfl) (fun p e s m args below meth c C hnm hX hS ls hl => ?_)
  have C : Cx p s m args meth c A RX0 cX0_lastOf 2 (some .int) E := C
  have hX : XH E A B F M G T s.heap := hX
  have hl : lv_has ls 2 [(0, .ref (B 49 0)), (1, .int (zi a))] := hl
  generalize hH : s.heap = H at hX
  have hS : va_S A s.heap H [] := by rw [← hH]; exact hS
  generalize hlocs : ([] : List Loc) = locs at hS ⊢
  obtain ⟨QQ, hQQ⟩ : ∃ zQQ, MQ below (qi A (fun r H => (-2 ≤ sa (M 3) (M 56 (24 * M 9 a + (M 11 a - 1))) ∧ sa (M 3) (M 56 (24 * M 9 a + (M 11 a - 1))) ≤ 23) ∧ (r = sa (M 3) (M 56 (24 * M 9 a + (M 11 a - 1)))) ∧ XH E A B F M G T H)) args s (rm_X0_lastOf).cells (rm_X0_lastOf).slots A = zQQ := ⟨_, rfl⟩
  rw [hQQ]
  have wa9 := hwv.1
  have wa10 := hwv.2.1
  have wa11 := hwv.2.2.1
  have wa200 := hwv.2.2.2
  replace hwv : Bx _ := Bx.i hwv
  refine lv_aload_n C.x C.b dX0_lastOf_0 rfl (lv_at hl 0 rfl) ?_
  refine lv_aload_n C.x C.b dX0_lastOf_1 rfl (lv_at hl 0 rfl) ?_
  refine x_ga C hX 5 (by decide) rfl q741 (fun _ h => h) dX0_lastOf_2 ?_
  refine lv_aload_n C.x C.b dX0_lastOf_5 rfl (lv_at hl 0 rfl) ?_
  refine x_ga C hX 9 (by decide) rfl q745 (fun _ h => h) dX0_lastOf_6 ?_
  refine lv_iload_n C.x C.b dX0_lastOf_9 rfl (lv_at hl 1 rfl) ?_
  refine x_li1 C hX 9 rfl (by decide) rfl (show 0 ≤ a ∧ a < 192 from (by omega)) (by decide) (M 9 a) rfl dX0_lastOf_10 (fun r10 => ?_)
  have r10 : 0 ≤ M 9 a ∧ M 9 a ≤ 7 := r10 (0, 7) rfl
  refine x_la C hX 5 rfl rfl rfl (by decide) rfl rfl (show 0 ≤ (M 9 a) ∧ (M 9 a) < F 6 from (by omega)) (by omega) (by decide) dX0_lastOf_11 ?_
  refine lv_aload_n C.x C.b dX0_lastOf_12 rfl (lv_at hl 0 rfl) ?_
  refine x_ga C hX 11 (by decide) rfl q747 (fun _ h => h) dX0_lastOf_13 ?_
  refine lv_iload_n C.x C.b dX0_lastOf_16 rfl (lv_at hl 1 rfl) ?_
  refine x_li1 C hX 11 rfl (by decide) rfl (show 0 ≤ a ∧ a < 192 from (by omega)) (by decide) (M 11 a) rfl dX0_lastOf_17 (fun r17 => ?_)
  have r17 : 0 ≤ M 11 a ∧ M 11 a ≤ 24 := r17 (0, 24) rfl
  refine r_const C dX0_lastOf_18 ?_
  refine r_isub C dX0_lastOf_19 ?_
  refine r_callVi (As := [.ref (B 55 (M 9 a)), .int (zi ((M 11 a) - 1))]) (rest := []) (cells' := 0) (slots' := 0) C (met_X0_signAt l E A B F M G T (M 9 a) ((M 11 a) - 1) (show 0 ≤ (M 9 a) ∧ (M 9 a) < (F 6) from (by omega)) (show 0 ≤ ((M 11 a) - 1) ∧ ((M 11 a) - 1) < (M 200) (M 9 a) from (by omega))) (lw_V q178 q180 qs6 q86 q181) hd_X0_signAt rfl (by decide) (x_this C hX) hX hS hl.1 rfl (Nat.le_of_ble_eq_true rfl) dX0_lastOf_20 rfl rfl ⟨Nat.le_of_ble_eq_true rfl, Nat.le_of_ble_eq_true rfl⟩ (fun rr H locs hp hS => ?_)
  obtain ⟨hat, hrr, hX⟩ := hp
  have hrr : rr = sa ((M 3)) ((M 56) (24 * (M 9 a) + ((M 11 a) - 1))) := hrr
  subst hrr
  replace hat : -2 ≤ sa ((M 3)) ((M 56) (24 * (M 9 a) + ((M 11 a) - 1))) ∧ sa ((M 3)) ((M 56) (24 * (M 9 a) + ((M 11 a) - 1))) ≤ 23 := hat
  rw [← hQQ]
  exact r_iret C hS (Nat.le_of_ble_eq_true rfl) (Nat.le_of_ble_eq_true rfl) dX0_lastOf_23 ⟨(by first | rfl | assumption | exact (sel_t (by omega)).symm | exact (sel_f (by omega)).symm | omega), (by first | rfl | exact (sel_t (by omega)).symm | exact (sel_f (by omega)).symm | omega), hX⟩

theorem WV_n {m9 m10 m11 tl : Int → Int} {tc : Int → Int → Int} {tm n t i : Int} (e9 : m9 n = t) (e10 : m10 n = i) (e11 : m11 n = we tc tl t i) (ht : 0 ≤ t ∧ t < tm) (hi : 0 ≤ i ∧ i < tl t) (hb : wb tc t i) : WV m9 m10 m11 tl tm n := by
  have l1 := wb_lt (tl := tl) hb hi.2
  have l2 := (we_E (tc := tc) (tl := tl) (t := t) (i := i) (by omega)).2.1
  exact ⟨by rw [e9]; exact ht, by rw [e10]; exact hi.1, by rw [e10, e11]; exact l1, by rw [e11, e9]; exact l2⟩

theorem hd_X0_layWords : yX0_layWords.cls = RX0 ∧ yX0_layWords.cls ≠ "java/lang/invoke/MethodHandle" ∧ yX0_layWords.cls ≠ "java/lang/invoke/VarHandle" ∧ (parseMethodDescriptor yX0_layWords.desc).map (fun d => d.parameters.length) = some 0 := by decide +kernel
abbrev rm_X0_layWords : Room := { frames := 2, cells := 0, slots := 0, locals := 50 }
set_option maxHeartbeats 8000000 in
theorem met_X0_layWords (l : Launch) (E : us_E) (A : Nat → Prop) (B : Nat → Int → Nat) (F : Nat → Int) (M : Nat → Int → Int) (G : Nat → Int → Option Nat) (T : x_T) : cMet l yX0_layWords cX0_layWords 6 none rm_X0_layWords A E [.ref (B 49 0)] (fun H => XH E A B F M G T H) (qv A (fun H => ∃ f12 : Int, ∃ m9 : Int → Int, ∃ m10 : Int → Int, ∃ m11 : Int → Int, (f12 = KP (FR (M 3) (mtc (M 56)) (M 200)) (M 200) (F 6) 0) ∧ WQ (M 3) (mtc (M 56)) (M 200) m9 m10 m11 (F 6) 0 ∧ XH E A B (va_up F 12 f12) (va_up (va_up (va_up M 9 m9) 10 m10) 11 m11) G T H)) := by
  refine cMet.of (by decide) (Nat.le_of_ble_eq_true rfl) (fun p e s m args below meth c C hnm hX hS ls hl => ?_)
  have C : Cx p s m args meth c A RX0 cX0_layWords 6 none E := C
  have hX : XH E A B F M G T s.heap := hX
  have hl : lv_has ls 6 [(0, .ref (B 49 0))] := hl
  generalize hH : s.heap = H at hX
  have hS : va_S A s.heap H [] := by rw [← hH]; exact hS
  generalize hlocs : ([] : List Loc) = locs at hS ⊢
  obtain ⟨QQ, hQQ⟩ : ∃ zQQ, MQ below (qv A (fun H => ∃ f12 : Int, ∃ m9 : Int → Int, ∃ m10 : Int → Int, ∃ m11 : Int → Int, (f12 = KP (FR (M 3) (mtc (M 56)) (M 200)) (M 200) (F 6) 0) ∧ WQ (M 3) (mtc (M 56)) (M 200) m9 m10 m11 (F 6) 0 ∧ XH E A B (va_up F 12 f12) (va_up (va_up (va_up M 9 m9) 10 m10) 11 m11) G T H)) args s (rm_X0_layWords).cells (rm_X0_layWords).slots A = zQQ := ⟨_, rfl⟩
  rw [hQQ]
  have rF6 : 0 ≤ F 6 ∧ F 6 ≤ 8 := hX.2.1 6 (0, 8) rfl
  have rF12 : 0 ≤ F 12 ∧ F 12 ≤ 192 := hX.2.1 12 (0, 192) rfl
  have h24 : ∀ t, 0 ≤ M 200 t ∧ M 200 t ≤ 24 := fun t => hX.2.2.1 200 (0, 24) rfl t
  have hcl : ∀ q, -2 ≤ M 56 q ∧ M 56 q ≤ 23 := fun q => hX.2.2.1 56 (-2, 23) rfl q
  have hs3 : ∀ q, 0 ≤ M 3 q ∧ M 3 q ≤ 23 := fun q => hX.2.2.1 3 (0, 23) rfl q
  have h24a : ∀ a, 0 ≤ (M 200) a := fun a => (h24 a).1
  refine lv_aload_n C.x C.b dX0_layWords_0 rfl (lv_at hl 0 rfl) ?_
  refine r_const C dX0_layWords_1 ?_
  refine x_pi C hX hS 12 (by decide) rfl (by decide) rfl rfl q748 (fun _ h => h) (b := (0, 192)) rfl (show 0 ≤ 0 ∧ 0 ≤ 192 from (by omega)) (F' := (va_up F 12 0)) rfl dX0_layWords_2 (fun H locs hX hS => ?_)
  refine r_const C dX0_layWords_5 ?_
  refine lv_istore_n (lv' := [(1, .int (zi 0)), (0, .ref (B 49 0))]) C.x C.b dX0_layWords_6 rfl hl (by decide) rfl (fun ls hl => ?_)
  have L7 : ∀ (fu : Nat) (v1 : Int) (f12 : Int) (m9 : Int → Int) (m10 : Int → Int) (m11 : Int → Int) (h1 : 0 ≤ v1 ∧ v1 ≤ F 6) (hn : f12 = KP (FR (M 3) (mtc (M 56)) (M 200)) (M 200) v1 0) (hW : WQ (M 3) (mtc (M 56)) (M 200) m9 m10 m11 v1 0) (hm : Int.toNat (F 6 - v1) < fu) (H : Heap) (locs : List Loc) (ls : Array Slot) (hX : XH E A B (va_up F 12 f12) (va_up (va_up (va_up M 9 m9) 10 m10) 11 m11) G T H) (hS : va_S A s.heap H locs) (hl : lv_has ls 6 [(0, .ref (B 49 0)), (1, .int (zi v1))]), W p l e rm_X0_layWords s m args below meth c H locs 0 0 QQ (F0 m 7 ls []) := by
    intro fu
    induction fu with
    | zero => intro v1 f12 m9 m10 m11 h1 hn hW hm; exact absurd hm (Nat.not_lt_zero _)
    | succ fu ih7 =>
      intro v1 f12 m9 m10 m11 h1 hn hW hm H locs ls hX hS hl
      refine lv_iload_n C.x C.b dX0_layWords_7 rfl (lv_at hl 1 rfl) ?_
      refine lv_aload_n C.x C.b dX0_layWords_8 rfl (lv_at hl 0 rfl) ?_
      refine x_gi C hX 6 (by decide) rfl q742 (fun _ h => h) (F 6) rfl (b := (0, 8)) rfl dX0_layWords_9 (fun _ => ?_)
      refine r_icmp_ge (tgt := 163) C (by omega) (by omega) dX0_layWords_12 (by decide) (fun c_1 => ?_) (fun c_1 => ?_)
      · rw [← hQQ]
        exact r_vret C hS (Nat.le_of_ble_eq_true rfl) (Nat.le_of_ble_eq_true rfl) dX0_layWords_163 ⟨f12, m9, m10, m11, (by rw [hn, show v1 = F 6 by omega]), (by rw [← show v1 = F 6 by omega]; exact hW), hX⟩
      · refine r_const C dX0_layWords_15 ?_
        refine lv_istore_n (lv' := [(2, .int (zi 0)), (0, .ref (B 49 0)), (1, .int (zi v1))]) C.x C.b dX0_layWords_16 rfl hl (by decide) rfl (fun ls hl => ?_)
        have L17 : ∀ (fu : Nat) (v2 : Int) (f12_17 : Int) (m9_17 : Int → Int) (m10_17 : Int → Int) (m11_17 : Int → Int) (h2 : 0 ≤ v2 ∧ v2 ≤ M 200 v1) (hn2 : f12_17 = KP (FR (M 3) (mtc (M 56)) (M 200)) (M 200) v1 v2) (hW2 : WQ (M 3) (mtc (M 56)) (M 200) m9_17 m10_17 m11_17 v1 v2) (hm : Int.toNat (M 200 v1 - v2) < fu) (H : Heap) (locs : List Loc) (ls : Array Slot) (hX : XH E A B (va_up F 12 f12_17) (va_up (va_up (va_up M 9 m9_17) 10 m10_17) 11 m11_17) G T H) (hS : va_S A s.heap H locs) (hl : lv_has ls 6 [(0, .ref (B 49 0)), (1, .int (zi v1)), (2, .int (zi v2))]), W p l e rm_X0_layWords s m args below meth c H locs 0 0 QQ (F0 m 17 ls []) := by
          intro fu
          induction fu with
          | zero => intro v2 f12_17 m9_17 m10_17 m11_17 h2 hn2 hW2 hm; exact absurd hm (Nat.not_lt_zero _)
          | succ fu ih17 =>
            intro v2 f12_17 m9_17 m10_17 m11_17 h2 hn2 hW2 hm H locs ls hX hS hl
            refine lv_iload_n C.x C.b dX0_layWords_17 rfl (lv_at hl 2 rfl) ?_
            refine lv_aload_n C.x C.b dX0_layWords_18 rfl (lv_at hl 0 rfl) ?_
            refine x_ga C hX 5 (by decide) rfl q741 (fun _ h => h) dX0_layWords_19 ?_
            refine lv_iload_n C.x C.b dX0_layWords_22 rfl (lv_at hl 1 rfl) ?_
            refine x_la C hX 5 rfl rfl rfl (by decide) rfl rfl (show 0 ≤ v1 ∧ v1 < F 6 from (by omega)) (by omega) (by decide) dX0_layWords_23 ?_
            refine r_callVi (As := []) (rest := [.int (zi v2)]) (cells' := 0) (slots' := 0) C (met_X3_size l E A B (va_up F 12 f12_17) (va_up (va_up (va_up M 9 m9_17) 10 m10_17) 11 m11_17) G T v1 (show 0 ≤ v1 ∧ v1 < (F 6) from (by omega))) (lw_V q174 q175 q176 q98 q177) hd_X3_size rfl (by decide) (x_recv C hX (f := 55) (i := v1) (by decide) (show 0 ≤ v1 ∧ v1 < F 6 from (by omega)).1 (xK_55 (show 0 ≤ v1 ∧ v1 < F 6 from (by omega))) (q := (RX3, TX3, 1)) rfl) hX hS hl.1 rfl (Nat.le_of_ble_eq_true rfl) dX0_layWords_24 rfl rfl ⟨Nat.le_of_ble_eq_true rfl, Nat.le_of_ble_eq_true rfl⟩ (fun rr H locs hp hS => ?_)
            obtain ⟨hsz, hrr, hX⟩ := hp
            have hrr : rr = (M 200) v1 := hrr
            subst hrr
            replace hsz : 0 ≤ (M 200) v1 ∧ (M 200) v1 ≤ 24 := hsz
            refine r_icmp_ge (tgt := 157) C (by omega) (by omega) dX0_layWords_27 (by decide) (fun c_2 => ?_) (fun c_2 => ?_)
            · refine r_iinc (lv' := [(1, .int (zi (v1 + 1))), (0, .ref (B 49 0)), (2, .int (zi v2))]) C dX0_layWords_157 hl (k := 1) rfl (by decide) rfl (fun ls hl => ?_)
              refine lv_goto (tgt := 7) C.x C.b dX0_layWords_160 (by decide) ?_
              exact ih7 (v1 + 1) f12_17 m9_17 m10_17 m11_17 (by omega) (by rw [KP_t h1.1, hn2, show v2 = M 200 v1 by omega]) (hW2.row (by omega)) (by omega) H locs ls hX hS (lv_sub hl [1, 0] rfl)
            · have h24v := h24 v1
              have hkp := KPF_r (P := (FR (M 3) (mtc (M 56)) (M 200))) h24 (t := v1) (i := v2) ⟨by omega, by omega⟩ ⟨by omega, by omega⟩
              rw [← hn2] at hkp
              have hwi := whole_i (tc := (mtc (M 56))) (tl := (M 200)) (t := v1) (i := v2) (fun j => (hcl _).1) (by omega)
              refine lv_aload_n C.x C.b dX0_layWords_30 rfl (lv_at hl 0 rfl) ?_
              refine x_ga C hX 5 (by decide) rfl q741 (fun _ h => h) dX0_layWords_31 ?_
              refine lv_iload_n C.x C.b dX0_layWords_34 rfl (lv_at hl 1 rfl) ?_
              refine x_la C hX 5 rfl rfl rfl (by decide) rfl rfl (show 0 ≤ v1 ∧ v1 < F 6 from (by omega)) (by omega) (by decide) dX0_layWords_35 ?_
              refine lv_iload_n C.x C.b dX0_layWords_36 rfl (lv_at hl 2 rfl) ?_
              refine r_callVi (As := [.int (zi v2)]) (rest := []) (cells' := 0) (slots' := 0) C (met_X3_endOf l E A B (va_up F 12 f12_17) (va_up (va_up (va_up M 9 m9_17) 10 m10_17) 11 m11_17) G T v1 v2 (show 0 ≤ v1 ∧ v1 < (F 6) from (by omega)) (show 0 ≤ v2 ∧ v2 < (M 200) v1 from (by omega))) (lw_V q182 q183 q184 q98 q185) hd_X3_endOf rfl (by decide) (x_recv C hX (f := 55) (i := v1) (by decide) (show 0 ≤ v1 ∧ v1 < F 6 from (by omega)).1 (xK_55 (show 0 ≤ v1 ∧ v1 < F 6 from (by omega))) (q := (RX3, TX3, 1)) rfl) hX hS hl.1 rfl (Nat.le_of_ble_eq_true rfl) dX0_layWords_37 rfl rfl ⟨Nat.le_of_ble_eq_true rfl, Nat.le_of_ble_eq_true rfl⟩ (fun rr H locs hp hS => ?_)
              obtain ⟨hen, hrr, hX⟩ := hp
              have hrr : rr = sel (wb (mtc ((M 56))) v1 v2) (we (mtc ((M 56))) ((M 200)) v1 v2) v2 := hrr
              subst hrr
              replace hen : v2 ≤ sel (wb (mtc ((M 56))) v1 v2) (we (mtc ((M 56))) ((M 200)) v1 v2) v2 ∧ sel (wb (mtc ((M 56))) v1 v2) (we (mtc ((M 56))) ((M 200)) v1 v2) v2 ≤ (M 200) v1 := hen
              refine lv_istore_n (lv' := [(3, .int (zi (sel (wb (mtc ((M 56))) v1 v2) (we (mtc ((M 56))) ((M 200)) v1 v2) v2))), (0, .ref (B 49 0)), (1, .int (zi v1)), (2, .int (zi v2))]) C.x C.b dX0_layWords_40 rfl hl (by decide) rfl (fun ls hl => ?_)
              refine lv_aload_n C.x C.b dX0_layWords_41 rfl (lv_at hl 1 rfl) ?_
              refine x_ga C hX 5 (by decide) rfl q741 (fun _ h => h) dX0_layWords_42 ?_
              refine lv_iload_n C.x C.b dX0_layWords_45 rfl (lv_at hl 2 rfl) ?_
              refine x_la C hX 5 rfl rfl rfl (by decide) rfl rfl (show 0 ≤ v1 ∧ v1 < F 6 from (by omega)) (by omega) (by decide) dX0_layWords_46 ?_
              refine lv_iload_n C.x C.b dX0_layWords_47 rfl (lv_at hl 3 rfl) ?_
              refine lv_iload_n C.x C.b dX0_layWords_48 rfl (lv_at hl 0 rfl) ?_
              refine r_callVi (As := [.int (zi v2), .int (zi (sel (wb (mtc ((M 56))) v1 v2) (we (mtc ((M 56))) ((M 200)) v1 v2) v2))]) (rest := []) (cells' := 0) (slots' := 0) C (met_X3_isWhole l E A B (va_up F 12 f12_17) (va_up (va_up (va_up M 9 m9_17) 10 m10_17) 11 m11_17) G T v1 v2 (sel (wb (mtc ((M 56))) v1 v2) (we (mtc ((M 56))) ((M 200)) v1 v2) v2) (show 0 ≤ v1 ∧ v1 < (F 6) from (by omega)) (show 0 ≤ v2 ∧ v2 ≤ (sel (wb (mtc ((M 56))) v1 v2) (we (mtc ((M 56))) ((M 200)) v1 v2) v2) ∧ (sel (wb (mtc ((M 56))) v1 v2) (we (mtc ((M 56))) ((M 200)) v1 v2) v2) ≤ (M 200) v1 from (by omega))) (lw_V q186 q187 q188 q98 q189) hd_X3_isWhole rfl (by decide) (x_recv C hX (f := 55) (i := v1) (by decide) (show 0 ≤ v1 ∧ v1 < F 6 from (by omega)).1 (xK_55 (show 0 ≤ v1 ∧ v1 < F 6 from (by omega))) (q := (RX3, TX3, 1)) rfl) hX hS hl.1 rfl (Nat.le_of_ble_eq_true rfl) dX0_layWords_49 rfl rfl ⟨Nat.le_of_ble_eq_true rfl, Nat.le_of_ble_eq_true rfl⟩ (fun rr H locs hp hS => ?_)
              obtain ⟨hrr, hX⟩ := hp
              have hrr : rr = bI (v2 < (sel (wb (mtc ((M 56))) v1 v2) (we (mtc ((M 56))) ((M 200)) v1 v2) v2) ∧ ∀ j : Int, v2 ≤ j → j < (sel (wb (mtc ((M 56))) v1 v2) (we (mtc ((M 56))) ((M 200)) v1 v2) v2) → ¬ (M 56) (24 * v1 + j) < 0) := hrr
              subst hrr
              refine r_if_eq_b (tgt := 151) C dX0_layWords_52 (by decide) (fun c_3 => ?_) (fun c_3 => ?_)
              · first
                | have hnf : ¬ (FR (M 3) (mtc (M 56)) (M 200)) v1 v2 := fun z => absurd (hwi.2 z.1) (by assumption)
                | skip
                refine r_iinc (lv' := [(2, .int (zi (v2 + 1))), (3, .int (zi (sel (wb (mtc ((M 56))) v1 v2) (we (mtc ((M 56))) ((M 200)) v1 v2) v2))), (0, .ref (B 49 0)), (1, .int (zi v1))]) C dX0_layWords_151 hl (k := 3) rfl (by decide) rfl (fun ls hl => ?_)
                refine lv_goto (tgt := 17) C.x C.b dX0_layWords_154 (by decide) ?_
                exact ih17 (v2 + 1) f12_17 m9_17 m10_17 m11_17 (by omega) (by first | exact hstn | (rw [KP_s h2.1, ← hn2, bI_f hnf]; omega)) (by first | exact hstW | exact hW2.no hnf) (by omega) H locs ls hX hS (lv_sub hl [2, 3, 0] rfl)
              · have hwh := hwi.1 (by assumption)
                have hsw : sel (wb (mtc (M 56)) v1 v2) (we (mtc (M 56)) (M 200) v1 v2) v2 = we (mtc (M 56)) (M 200) v1 v2 := sel_t hwh.1
                refine lv_aload_n C.x C.b dX0_layWords_55 rfl (lv_at hl 1 rfl) ?_
                refine x_ga C hX 9 (by decide) rfl q745 (fun _ h => h) dX0_layWords_56 ?_
                refine lv_aload_n C.x C.b dX0_layWords_59 rfl (lv_at hl 1 rfl) ?_
                refine x_gi C hX 12 (by decide) rfl q748 (fun _ h => h) f12_17 rfl (b := (0, 192)) rfl dX0_layWords_60 (fun r60 => ?_)
                have r60 : 0 ≤ f12_17 ∧ f12_17 ≤ 192 := r60
                refine lv_iload_n C.x C.b dX0_layWords_63 rfl (lv_at hl 2 rfl) ?_
                refine x_si1 C hX hS 9 rfl (by decide) rfl (show 0 ≤ f12_17 ∧ f12_17 < 192 from (by omega)) (by decide) (fun b hb => by cases hb; exact (show 0 ≤ v1 ∧ v1 ≤ 7 from (by omega))) (M' := (va_up (va_up (va_up M 9 (fup m9_17 f12_17 v1)) 10 m10_17) 11 m11_17)) (up_in (by decide) (up_in (by decide) (up_up _ _ _ _))) dX0_layWords_64 (fun H locs hX hS => ?_)
                refine lv_aload_n C.x C.b dX0_layWords_65 rfl (lv_at hl 1 rfl) ?_
                refine x_ga C hX 10 (by decide) rfl q746 (fun _ h => h) dX0_layWords_66 ?_
                refine lv_aload_n C.x C.b dX0_layWords_69 rfl (lv_at hl 1 rfl) ?_
                refine x_gi C hX 12 (by decide) rfl q748 (fun _ h => h) f12_17 rfl (b := (0, 192)) rfl dX0_layWords_70 (fun _ => ?_)
                refine lv_iload_n C.x C.b dX0_layWords_73 rfl (lv_at hl 3 rfl) ?_
                refine x_si1 C hX hS 10 rfl (by decide) rfl (show 0 ≤ f12_17 ∧ f12_17 < 192 from (by omega)) (by decide) (fun b hb => by cases hb; exact (show 0 ≤ v2 ∧ v2 ≤ 23 from (by omega))) (M' := (va_up (va_up (va_up M 9 (fup m9_17 f12_17 v1)) 10 (fup m10_17 f12_17 v2)) 11 m11_17)) (up_in (by decide) (up_up _ _ _ _)) dX0_layWords_74 (fun H locs hX hS => ?_)
                refine lv_aload_n C.x C.b dX0_layWords_75 rfl (lv_at hl 1 rfl) ?_
                refine x_ga C hX 11 (by decide) rfl q747 (fun _ h => h) dX0_layWords_76 ?_
                refine lv_aload_n C.x C.b dX0_layWords_79 rfl (lv_at hl 1 rfl) ?_
                refine x_gi C hX 12 (by decide) rfl q748 (fun _ h => h) f12_17 rfl (b := (0, 192)) rfl dX0_layWords_80 (fun _ => ?_)
                refine lv_iload_n C.x C.b dX0_layWords_83 rfl (lv_at hl 0 rfl) ?_
                refine x_si1 C hX hS 11 rfl (by decide) rfl (show 0 ≤ f12_17 ∧ f12_17 < 192 from (by omega)) (by decide) (fun b hb => by cases hb; exact (show 0 ≤ sel (wb (mtc ((M 56))) v1 v2) (we (mtc ((M 56))) ((M 200)) v1 v2) v2 ∧ sel (wb (mtc ((M 56))) v1 v2) (we (mtc ((M 56))) ((M 200)) v1 v2) v2 ≤ 24 from (by omega))) (M' := (va_up (va_up (va_up M 9 (fup m9_17 f12_17 v1)) 10 (fup m10_17 f12_17 v2)) 11 (fup m11_17 f12_17 (sel (wb (mtc ((M 56))) v1 v2) (we (mtc ((M 56))) ((M 200)) v1 v2) v2)))) (up_up _ _ _ _) dX0_layWords_84 (fun H locs hX hS => ?_)
                obtain ⟨k9, hk9⟩ : ∃ z : Int → Int, z = fup m9_17 f12_17 v1 := ⟨_, rfl⟩
                rw [← hk9] at hX
                obtain ⟨k10, hk10⟩ : ∃ z : Int → Int, z = fup m10_17 f12_17 v2 := ⟨_, rfl⟩
                rw [← hk10] at hX
                obtain ⟨k11, hk11⟩ : ∃ z : Int → Int, z = fup m11_17 f12_17 (sel (wb (mtc ((M 56))) v1 v2) (we (mtc ((M 56))) ((M 200)) v1 v2) v2) := ⟨_, rfl⟩
                rw [← hk11] at hX
                refine r_const C dX0_layWords_85 ?_
                refine lv_istore (lv' := [(4, .int (zi 1)), (3, .int (zi (sel (wb (mtc ((M 56))) v1 v2) (we (mtc ((M 56))) ((M 200)) v1 v2) v2))), (0, .ref (B 49 0)), (1, .int (zi v1)), (2, .int (zi v2))]) C.x C.b dX0_layWords_86 hl (by decide) rfl (fun ls hl => ?_)
                refine r_const C dX0_layWords_88 ?_
                refine lv_istore (lv' := [(5, .int (zi 0)), (4, .int (zi 1)), (3, .int (zi (sel (wb (mtc ((M 56))) v1 v2) (we (mtc ((M 56))) ((M 200)) v1 v2) v2))), (0, .ref (B 49 0)), (1, .int (zi v1)), (2, .int (zi v2))]) C.x C.b dX0_layWords_89 hl (by decide) rfl (fun ls hl => ?_)
                have hW3 : WQ (M 3) (mtc (M 56)) (M 200) k9 k10 k11 v1 v2 := by rw [hk9, hk10, hk11]; exact hW2.put h24a h1.1 ⟨h2.1, by omega⟩ hn2
                have e9 : k9 f12_17 = v1 := by rw [hk9, fup_s]
                have e10 : k10 f12_17 = v2 := by rw [hk10, fup_s]
                have e11 : k11 f12_17 = we (mtc (M 56)) (M 200) v1 v2 := by rw [hk11, fup_s]; exact hsw
                have hFR := FR_loop h24 h1.1 ⟨h2.1, by omega⟩ hW3 hn2 e9 e10 e11 hwh
                have hwvn := WV_n (tm := F 6) e9 e10 e11 ⟨h1.1, by omega⟩ ⟨h2.1, by omega⟩ hwh.1
                have hwvj := fun (j : Int) (a : 0 ≤ j) (b : j < f12_17) => hW3.wv (tm := F 6) (w := j) h24a h1.1 ⟨h2.1, by omega⟩ (by omega) a (by omega)
                have hkl : f12_17 < 192 := by omega
                have L91 : ∀ (fu : Nat) (v4 : Prop) (xv4 : Int) (hv4 : xv4 = bI v4) (v5 : Int) (h5 : 0 ≤ v5 ∧ v5 ≤ f12_17) (hb : v4 ↔ ∀ j : Int, 0 ≤ j → j < v5 → ¬ alk (M 3) (M 56) k9 k10 k11 j f12_17 0) (hm : Int.toNat (f12_17 - v5) < fu) (H : Heap) (locs : List Loc) (ls : Array Slot) (hX : XH E A B (va_up F 12 f12_17) (va_up (va_up (va_up M 9 k9) 10 k10) 11 k11) G T H) (hS : va_S A s.heap H locs) (hl : lv_has ls 6 [(0, .ref (B 49 0)), (1, .int (zi v1)), (2, .int (zi v2)), (3, .int (zi (sel (wb (mtc ((M 56))) v1 v2) (we (mtc ((M 56))) ((M 200)) v1 v2) v2))), (4, .int (zi xv4)), (5, .int (zi v5))]), W p l e rm_X0_layWords s m args below meth c H locs 0 0 QQ (F0 m 91 ls []) := by
                  intro fu
                  induction fu with
                  | zero => intro v4 xv4 hv4 v5 h5 hb hm; exact absurd hm (Nat.not_lt_zero _)
                  | succ fu ih91 =>
                    intro v4 xv4 hv4 v5 h5 hb hm H locs ls hX hS hl
                    subst hv4
                    refine lv_iload C.x C.b dX0_layWords_91 (lv_at hl 5 rfl) ?_
                    refine lv_aload_n C.x C.b dX0_layWords_93 rfl (lv_at hl 0 rfl) ?_
                    refine x_gi C hX 12 (by decide) rfl q748 (fun _ h => h) f12_17 rfl (b := (0, 192)) rfl dX0_layWords_94 (fun _ => ?_)
                    refine r_icmp_ge (tgt := 132) C (by omega) (by omega) dX0_layWords_97 (by decide) (fun c_4 => ?_) (fun c_4 => ?_)
                    · have hv4 : v4 ↔ (FR (M 3) (mtc (M 56)) (M 200)) v1 v2 := by first | (rw [hb, show v5 = f12_17 by omega]; exact hFR) | exact ⟨fun q => absurd q (by assumption), fun q => absurd (hb.2 (fun j a b => hFR.2 q j a (by omega))) (by assumption)⟩
                      have hstn : f12_17 + bI v4 = KP (FR (M 3) (mtc (M 56)) (M 200)) (M 200) v1 (v2 + 1) := by rw [KP_s h2.1, ← hn2]; exact congrArg _ (bI_c hv4)
                      have hstW : WQ (M 3) (mtc (M 56)) (M 200) k9 k10 k11 v1 (v2 + 1) := by
                        by_cases q : (FR (M 3) (mtc (M 56)) (M 200)) v1 v2
                        · exact hW3.yes hn2 e9 e10 e11
                        · exact hW3.no q
                      have hb01 := bI_01 v4
                      refine lv_aload_n C.x C.b dX0_layWords_132 rfl (lv_at hl 0 rfl) ?_
                      refine lv_dup C.x C.b dX0_layWords_133 rfl ?_
                      refine x_gi C hX 12 (by decide) rfl q748 (fun _ h => h) f12_17 rfl (b := (0, 192)) rfl dX0_layWords_134 (fun _ => ?_)
                      refine lv_iload C.x C.b dX0_layWords_137 (lv_at hl 4 rfl) ?_
                      have J147_5 : ∀ (t2 : Int) (ht2 : t2 = bI v4) (H : Heap) (locs : List Loc) (ls : Array Slot) (hX : XH E A B (va_up F 12 f12_17) (va_up (va_up (va_up M 9 k9) 10 k10) 11 k11) G T H) (hS : va_S A s.heap H locs) (hl : lv_has ls 6 [(0, .ref (B 49 0)), (1, .int (zi v1)), (2, .int (zi v2)), (3, .int (zi (sel (wb (mtc ((M 56))) v1 v2) (we (mtc ((M 56))) ((M 200)) v1 v2) v2))), (4, .int (zi (bI v4))), (5, .int (zi v5))]), W p l e rm_X0_layWords s m args below meth c H locs 0 0 QQ (F0 m 147 ls [.int (zi t2), .int (zi f12_17), .ref (B 49 0)]) := by
                        intro t2 ht2 H locs ls hX hS hl
                        subst ht2
                        refine r_iadd C dX0_layWords_147 ?_
                        refine x_pi C hX hS 12 (by decide) rfl (by decide) rfl rfl q748 (fun _ h => h) (b := (0, 192)) rfl (show 0 ≤ f12_17 + (bI v4) ∧ f12_17 + (bI v4) ≤ 192 from (by omega)) (F' := (va_up F 12 (f12_17 + (bI v4)))) (up_up _ _ _ _) dX0_layWords_148 (fun H locs hX hS => ?_)
                        first
                        | have hnf : ¬ (FR (M 3) (mtc (M 56)) (M 200)) v1 v2 := fun z => absurd (hwi.2 z.1) (by assumption)
                        | skip
                        refine r_iinc (lv' := [(2, .int (zi (v2 + 1))), (0, .ref (B 49 0)), (1, .int (zi v1)), (3, .int (zi (sel (wb (mtc ((M 56))) v1 v2) (we (mtc ((M 56))) ((M 200)) v1 v2) v2))), (4, .int (zi (bI v4))), (5, .int (zi v5))]) C dX0_layWords_151 hl (k := 2) rfl (by decide) rfl (fun ls hl => ?_)
                        refine lv_goto (tgt := 17) C.x C.b dX0_layWords_154 (by decide) ?_
                        exact ih17 (v2 + 1) (f12_17 + (bI v4)) k9 k10 k11 (by omega) (by first | exact hstn | (rw [KP_s h2.1, ← hn2, bI_f hnf]; omega)) (by first | exact hstW | exact hW2.no hnf) (by omega) H locs ls hX hS (lv_sub hl [1, 2, 0] rfl)
                      refine r_if_eq_b (tgt := 146) C dX0_layWords_139 (by decide) (fun c_6 => ?_) (fun c_6 => ?_)
                      · refine r_const C dX0_layWords_146 ?_
                        exact J147_5 0 ((bI_f c_6).symm) H locs ls hX hS hl
                      · refine r_const C dX0_layWords_142 ?_
                        refine lv_goto (tgt := 147) C.x C.b dX0_layWords_143 (by decide) ?_
                        exact J147_5 1 ((bI_t c_6).symm) H locs ls hX hS hl
                    · refine lv_iload C.x C.b dX0_layWords_100 (lv_at hl 4 rfl) ?_
                      refine r_if_eq_b (tgt := 132) C dX0_layWords_102 (by decide) (fun c_7 => ?_) (fun c_7 => ?_)
                      · have hv4 : v4 ↔ (FR (M 3) (mtc (M 56)) (M 200)) v1 v2 := by first | (rw [hb, show v5 = f12_17 by omega]; exact hFR) | exact ⟨fun q => absurd q (by assumption), fun q => absurd (hb.2 (fun j a b => hFR.2 q j a (by omega))) (by assumption)⟩
                        have hstn : f12_17 + bI v4 = KP (FR (M 3) (mtc (M 56)) (M 200)) (M 200) v1 (v2 + 1) := by rw [KP_s h2.1, ← hn2]; exact congrArg _ (bI_c hv4)
                        have hstW : WQ (M 3) (mtc (M 56)) (M 200) k9 k10 k11 v1 (v2 + 1) := by
                          by_cases q : (FR (M 3) (mtc (M 56)) (M 200)) v1 v2
                          · exact hW3.yes hn2 e9 e10 e11
                          · exact hW3.no q
                        have hb01 := bI_01 v4
                        refine lv_aload_n C.x C.b dX0_layWords_132 rfl (lv_at hl 0 rfl) ?_
                        refine lv_dup C.x C.b dX0_layWords_133 rfl ?_
                        refine x_gi C hX 12 (by decide) rfl q748 (fun _ h => h) f12_17 rfl (b := (0, 192)) rfl dX0_layWords_134 (fun _ => ?_)
                        refine lv_iload C.x C.b dX0_layWords_137 (lv_at hl 4 rfl) ?_
                        have J147_8 : ∀ (t2 : Int) (ht2 : t2 = bI v4) (H : Heap) (locs : List Loc) (ls : Array Slot) (hX : XH E A B (va_up F 12 f12_17) (va_up (va_up (va_up M 9 k9) 10 k10) 11 k11) G T H) (hS : va_S A s.heap H locs) (hl : lv_has ls 6 [(0, .ref (B 49 0)), (1, .int (zi v1)), (2, .int (zi v2)), (3, .int (zi (sel (wb (mtc ((M 56))) v1 v2) (we (mtc ((M 56))) ((M 200)) v1 v2) v2))), (4, .int (zi (bI v4))), (5, .int (zi v5))]), W p l e rm_X0_layWords s m args below meth c H locs 0 0 QQ (F0 m 147 ls [.int (zi t2), .int (zi f12_17), .ref (B 49 0)]) := by
                          intro t2 ht2 H locs ls hX hS hl
                          subst ht2
                          refine r_iadd C dX0_layWords_147 ?_
                          refine x_pi C hX hS 12 (by decide) rfl (by decide) rfl rfl q748 (fun _ h => h) (b := (0, 192)) rfl (show 0 ≤ f12_17 + (bI v4) ∧ f12_17 + (bI v4) ≤ 192 from (by omega)) (F' := (va_up F 12 (f12_17 + (bI v4)))) (up_up _ _ _ _) dX0_layWords_148 (fun H locs hX hS => ?_)
                          first
                          | have hnf : ¬ (FR (M 3) (mtc (M 56)) (M 200)) v1 v2 := fun z => absurd (hwi.2 z.1) (by assumption)
                          | skip
                          refine r_iinc (lv' := [(2, .int (zi (v2 + 1))), (0, .ref (B 49 0)), (1, .int (zi v1)), (3, .int (zi (sel (wb (mtc ((M 56))) v1 v2) (we (mtc ((M 56))) ((M 200)) v1 v2) v2))), (4, .int (zi (bI v4))), (5, .int (zi v5))]) C dX0_layWords_151 hl (k := 2) rfl (by decide) rfl (fun ls hl => ?_)
                          refine lv_goto (tgt := 17) C.x C.b dX0_layWords_154 (by decide) ?_
                          exact ih17 (v2 + 1) (f12_17 + (bI v4)) k9 k10 k11 (by omega) (by first | exact hstn | (rw [KP_s h2.1, ← hn2, bI_f hnf]; omega)) (by first | exact hstW | exact hW2.no hnf) (by omega) H locs ls hX hS (lv_sub hl [1, 2, 0] rfl)
                        refine r_if_eq_b (tgt := 146) C dX0_layWords_139 (by decide) (fun c_9 => ?_) (fun c_9 => ?_)
                        · refine r_const C dX0_layWords_146 ?_
                          exact J147_8 0 ((bI_f c_9).symm) H locs ls hX hS hl
                        · refine r_const C dX0_layWords_142 ?_
                          refine lv_goto (tgt := 147) C.x C.b dX0_layWords_143 (by decide) ?_
                          exact J147_8 1 ((bI_t c_9).symm) H locs ls hX hS hl
                      · refine lv_aload_n C.x C.b dX0_layWords_105 rfl (lv_at hl 0 rfl) ?_
                        refine lv_iload C.x C.b dX0_layWords_106 (lv_at hl 5 rfl) ?_
                        refine lv_aload_n C.x C.b dX0_layWords_108 rfl (lv_at hl 0 rfl) ?_
                        refine x_gi C hX 12 (by decide) rfl q748 (fun _ h => h) f12_17 rfl (b := (0, 192)) rfl dX0_layWords_109 (fun _ => ?_)
                        refine r_const C dX0_layWords_112 ?_
                        refine r_callVi (As := [.int (zi v5), .int (zi f12_17), .int (zi 0)]) (rest := []) (cells' := 0) (slots' := 0) C (met_X0_areAlike l E A B (va_up F 12 f12_17) (va_up (va_up (va_up M 9 k9) 10 k10) 11 k11) G T v5 f12_17 0 (show (0 ≤ v5 ∧ v5 < 192) ∧ (0 ≤ f12_17 ∧ f12_17 < 192) from (by omega)) (show 0 ≤ (0 : Int) ∧ (0 : Int) ≤ 1 from (by omega)) (show WV (k9) (k10) (k11) ((M 200)) ((F 6)) v5 ∧ WV (k9) (k10) (k11) ((M 200)) ((F 6)) f12_17 from ⟨hwvj v5 (by omega) (by omega), hwvn⟩)) (lw_V q241 q243 qs12 q86 q244) hd_X0_areAlike rfl (by decide) (x_this C hX) hX hS hl.1 rfl (Nat.le_of_ble_eq_true rfl) dX0_layWords_113 rfl rfl ⟨Nat.le_of_ble_eq_true rfl, Nat.le_of_ble_eq_true rfl⟩ (fun rr H locs hp hS => ?_)
                        obtain ⟨hrr, hX⟩ := hp
                        have hrr : rr = bI (alk ((M 3)) ((M 56)) (k9) (k10) (k11) v5 f12_17 (0 : Int)) := hrr
                        subst hrr
                        have J124_10 : ∀ (t0 : Int) (ht0 : t0 = bI (¬ (alk ((M 3)) ((M 56)) (k9) (k10) (k11) v5 f12_17 (0 : Int)))) (H : Heap) (locs : List Loc) (ls : Array Slot) (hX : XH E A B (va_up F 12 f12_17) (va_up (va_up (va_up M 9 k9) 10 k10) 11 k11) G T H) (hS : va_S A s.heap H locs) (hl : lv_has ls 6 [(0, .ref (B 49 0)), (1, .int (zi v1)), (2, .int (zi v2)), (3, .int (zi (sel (wb (mtc ((M 56))) v1 v2) (we (mtc ((M 56))) ((M 200)) v1 v2) v2))), (4, .int (zi (bI v4))), (5, .int (zi v5))]), W p l e rm_X0_layWords s m args below meth c H locs 0 0 QQ (F0 m 124 ls [.int (zi t0)]) := by
                          intro t0 ht0 H locs ls hX hS hl
                          subst ht0
                          refine lv_istore (lv' := [(4, .int (zi (bI (¬ (alk ((M 3)) ((M 56)) (k9) (k10) (k11) v5 f12_17 (0 : Int)))))), (0, .ref (B 49 0)), (1, .int (zi v1)), (2, .int (zi v2)), (3, .int (zi (sel (wb (mtc ((M 56))) v1 v2) (we (mtc ((M 56))) ((M 200)) v1 v2) v2))), (5, .int (zi v5))]) C.x C.b dX0_layWords_124 hl (by decide) rfl (fun ls hl => ?_)
                          refine r_iinc (lv' := [(5, .int (zi (v5 + 1))), (4, .int (zi (bI (¬ (alk ((M 3)) ((M 56)) (k9) (k10) (k11) v5 f12_17 (0 : Int)))))), (0, .ref (B 49 0)), (1, .int (zi v1)), (2, .int (zi v2)), (3, .int (zi (sel (wb (mtc ((M 56))) v1 v2) (we (mtc ((M 56))) ((M 200)) v1 v2) v2)))]) C dX0_layWords_126 hl (k := 5) rfl (by decide) rfl (fun ls hl => ?_)
                          refine lv_goto (tgt := 91) C.x C.b dX0_layWords_129 (by decide) ?_
                          exact ih91 (¬ (alk ((M 3)) ((M 56)) (k9) (k10) (k11) v5 f12_17 (0 : Int))) (bI (¬ (alk ((M 3)) ((M 56)) (k9) (k10) (k11) v5 f12_17 (0 : Int)))) rfl (v5 + 1) (by omega) ⟨fun q => (bl_s (P := (fun j => ¬ alk (M 3) (M 56) k9 k10 k11 j f12_17 0)) h5.1).2 ⟨hb.1 (by assumption), q⟩, fun z => ((bl_s (P := (fun j => ¬ alk (M 3) (M 56) k9 k10 k11 j f12_17 0)) h5.1).1 z).2⟩ (by omega) H locs ls hX hS (lv_sub hl [2, 3, 4, 5, 1, 0] rfl)
                        refine r_if_ne_b (tgt := 123) C dX0_layWords_116 (by decide) (fun c_11 => ?_) (fun c_11 => ?_)
                        · refine r_const C dX0_layWords_123 ?_
                          exact J124_10 0 ((bI_f (fun q => q c_11)).symm) H locs ls hX hS hl
                        · refine r_const C dX0_layWords_119 ?_
                          refine lv_goto (tgt := 124) C.x C.b dX0_layWords_120 (by decide) ?_
                          exact J124_10 1 ((bI_t c_11).symm) H locs ls hX hS hl
                exact L91 _ True 1 bI_T.symm 0 (by omega) bl_0 (Nat.lt_succ_self _) H locs ls hX hS (lv_sub hl [3, 4, 5, 2, 1, 0] rfl)
        exact L17 _ 0 f12 m9 m10 m11 (by have := h24 v1; omega) hn hW (Nat.lt_succ_self _) H locs ls hX hS (lv_sub hl [1, 2, 0] rfl)
  exact L7 _ 0 0 (M 9) (M 10) (M 11) (by omega) rfl WQ.zero (Nat.lt_succ_self _) H locs ls (hX.to rfl rfl ((((up_id M (k := 9) (a := (M 9)) rfl).symm.trans rfl).trans ((up_id (va_up M 9 (M 9)) (k := 10) (a := (M 10)) rfl).symm.trans rfl)).trans ((up_id (va_up (va_up M 9 (M 9)) 10 (M 10)) (k := 11) (a := (M 11)) rfl).symm.trans rfl)) rfl rfl) hS (lv_sub hl [1, 0] rfl)
