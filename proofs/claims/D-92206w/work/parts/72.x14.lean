set_option maxRecDepth 100000

theorem hd_X0_shuffle : yX0_shuffle.cls = RX0 ∧ yX0_shuffle.cls ≠ "java/lang/invoke/MethodHandle" ∧ yX0_shuffle.cls ≠ "java/lang/invoke/VarHandle" ∧ (parseMethodDescriptor yX0_shuffle.desc).map (fun d => d.parameters.length) = some 4 := by decide +kernel
abbrev rm_X0_shuffle_ (nn : Nat) : Room := { frames := 2 + nn, cells := 0, slots := 0, locals := 48 + 25 * nn }
set_option maxHeartbeats 8000000 in
theorem met_X0_shuffle_st (l : Launch) (E : us_E) (A : Nat → Prop) (B : Nat → Int → Nat) (F : Nat → Int) (M : Nat → Int → Int) (G : Nat → Int → Option Nat) (T : x_T) (pre : List Nat) (f : Nat) (nn : Nat) (Rr : (Int → Int) → Int) (d : Int) (u : Int) (b : Int) (le : Int) (hd : d = (pre.length : Int) ∧ pre.length + f = (F 31).toNat) (hus : UsB u pre) (hu : 0 ≤ u ∧ u < 1048576) (hor : ∀ j : Int, 0 ≤ j → j < d → M 39 j = pg pre j) (hb : 0 ≤ b ∧ b ≤ 4095) (hle : -2147483648 ≤ le ∧ le < 2147483648) (hrm : F 40 + ((pf (F 31).toNat f pre).length : Int) ≤ 720) (hle40 : F 41 ≤ F 40) (hR : ∀ s s' : Int → Int, (∀ q : Int, 0 ≤ q → q < F 31 → s q = s' q) → RDX (M 53) (M 202) (M 54) (F 35) s = Rr s') (hnn : f ≤ nn) (IH : ∀ (F : Nat → Int) (M : Nat → Int → Int) (pre : List Nat) (f : Nat) (Rr : (Int → Int) → Int) (d : Int) (u : Int) (b : Int) (le : Int) (hd : d = (pre.length : Int) ∧ pre.length + f = (F 31).toNat) (hus : UsB u pre) (hu : 0 ≤ u ∧ u < 1048576) (hor : ∀ j : Int, 0 ≤ j → j < d → M 39 j = pg pre j) (hb : 0 ≤ b ∧ b ≤ 4095) (hle : -2147483648 ≤ le ∧ le < 2147483648) (hrm : F 40 + ((pf (F 31).toNat f pre).length : Int) ≤ 720) (hle40 : F 41 ≤ F 40) (hR : ∀ s s' : Int → Int, (∀ q : Int, 0 ≤ q → q < F 31 → s q = s' q) → RDX (M 53) (M 202) (M 54) (F 35) s = Rr s') (hnn : f ≤ nn - 1), 1 ≤ nn → cMet l yX0_shuffle cX0_shuffle 6 none (rm_X0_shuffle_ (nn - 1)) A E [.ref (B 49 0), .int (zi d), .int (zi u), .int (zi b), .int (zi le)] (fun H => XH E A B F M G T H) (qv A (fun H => ∃ f40 : Int, ∃ f41 : Int, ∃ m33 : Int → Int, ∃ m39 : Int → Int, (f40 = F 40 + ((pf (F 31).toNat f pre).length : Int)) ∧ (f41 = F 41 + lS (jX Rr b le) (pf (F 31).toNat f pre)) ∧ (∀ j : Int, 0 ≤ j → j < d → m39 j = pg pre j) ∧ (f41 ≤ f40) ∧ XH E A B (va_up (va_up F 40 f40) 41 f41) (va_up (va_up M 33 m33) 39 m39) G T H))) : cMet l yX0_shuffle cX0_shuffle 6 none (rm_X0_shuffle_ nn) A E [.ref (B 49 0), .int (zi d), .int (zi u), .int (zi b), .int (zi le)] (fun H => XH E A B F M G T H) (qv A (fun H => ∃ f40 : Int, ∃ f41 : Int, ∃ m33 : Int → Int, ∃ m39 : Int → Int, (f40 = F 40 + ((pf (F 31).toNat f pre).length : Int)) ∧ (f41 = F 41 + lS (jX Rr b le) (pf (F 31).toNat f pre)) ∧ (∀ j : Int, 0 ≤ j → j < d → m39 j = pg pre j) ∧ (f41 ≤ f40) ∧ XH E A B (va_up (va_up F 40 f40) 41 f41) (va_up (va_up M 33 m33) 39 m39) G T H)) := by
  refine cMet.of (by decide) (Nat.le_of_ble_eq_true rfl) (fun p e s m args below meth c C hnm hX hS ls hl => ?_)
  have C : Cx p s m args meth c A RX0 cX0_shuffle 6 none E := C
  have hX : XH E A B F M G T s.heap := hX
  have hl : lv_has ls 6 [(0, .ref (B 49 0)), (1, .int (zi d)), (2, .int (zi u)), (3, .int (zi b)), (4, .int (zi le))] := hl
  generalize hH : s.heap = H at hX
  have hS : va_S A s.heap H [] := by rw [← hH]; exact hS
  generalize hlocs : ([] : List Loc) = locs at hS ⊢
  obtain ⟨QQ, hQQ⟩ : ∃ zQQ, MQ below (qv A (fun H => ∃ f40 : Int, ∃ f41 : Int, ∃ m33 : Int → Int, ∃ m39 : Int → Int, (f40 = F 40 + ((pf (F 31).toNat f pre).length : Int)) ∧ (f41 = F 41 + lS (jX Rr b le) (pf (F 31).toNat f pre)) ∧ (∀ j : Int, 0 ≤ j → j < d → m39 j = pg pre j) ∧ (f41 ≤ f40) ∧ XH E A B (va_up (va_up F 40 f40) 41 f41) (va_up (va_up M 33 m33) 39 m39) G T H)) args s ((rm_X0_shuffle_ nn)).cells ((rm_X0_shuffle_ nn)).slots A = zQQ := ⟨_, rfl⟩
  rw [hQQ]
  have rF31 : 0 ≤ F 31 ∧ F 31 ≤ 6 := hX.2.1 31 (0, 6) rfl
  have rF35 : 0 ≤ F 35 ∧ F 35 ≤ 192 := hX.2.1 35 (0, 192) rfl
  have rF40 : 0 ≤ F 40 ∧ F 40 ≤ 720 := hX.2.1 40 (0, 720) rfl
  have rF41 : 0 ≤ F 41 ∧ F 41 ≤ 720 := hX.2.1 41 (0, 720) rfl
  refine lv_iload_n C.x C.b dX0_shuffle_0 rfl (lv_at hl 1 rfl) ?_
  refine lv_aload_n C.x C.b dX0_shuffle_1 rfl (lv_at hl 0 rfl) ?_
  refine x_gi C hX 31 (by decide) rfl q767 (fun _ h => h) (F 31) rfl (b := (0, 6)) rfl dX0_shuffle_2 (fun _ => ?_)
  refine r_icmp_ne (tgt := 80) C (by omega) (by omega) dX0_shuffle_5 (by decide) (fun c_1 => ?_) (fun c_1 => ?_)
  · have hf1 : 1 ≤ f := by omega
    refine r_const C dX0_shuffle_80 ?_
    refine lv_istore (lv' := [(5, .int (zi 0)), (0, .ref (B 49 0)), (1, .int (zi d)), (2, .int (zi u)), (3, .int (zi b)), (4, .int (zi le))]) C.x C.b dX0_shuffle_81 hl (by decide) rfl (fun ls hl => ?_)
    have L83 : ∀ (fu : Nat) (v5 : Int) (f40 : Int) (f41 : Int) (m33 : Int → Int) (m39 : Int → Int) (h5 : 0 ≤ v5 ∧ v5 ≤ F 31) (h40 : f40 = F 40 + ((pfP (F 31).toNat (f - 1) pre v5.toNat).length : Int)) (h41 : f41 = F 41 + lS (jX Rr b le) (pfP (F 31).toNat (f - 1) pre v5.toNat)) (h39 : ∀ j : Int, 0 ≤ j → j < d → m39 j = pg pre j) (h4l : f41 ≤ f40) (hm : Int.toNat (F 31 - v5) < fu) (H : Heap) (locs : List Loc) (ls : Array Slot) (hX : XH E A B (va_up (va_up F 40 f40) 41 f41) (va_up (va_up M 33 m33) 39 m39) G T H) (hS : va_S A s.heap H locs) (hl : lv_has ls 6 [(0, .ref (B 49 0)), (1, .int (zi d)), (2, .int (zi u)), (3, .int (zi b)), (4, .int (zi le)), (5, .int (zi v5))]), W p l e (rm_X0_shuffle_ nn) s m args below meth c H locs 0 0 QQ (F0 m 83 ls []) := by
      intro fu
      induction fu with
      | zero => intro v5 f40 f41 m33 m39 h5 h40 h41 h39 h4l hm; exact absurd hm (Nat.not_lt_zero _)
      | succ fu ih83 =>
        intro v5 f40 f41 m33 m39 h5 h40 h41 h39 h4l hm H locs ls hX hS hl
        refine lv_iload C.x C.b dX0_shuffle_83 (lv_at hl 5 rfl) ?_
        refine lv_aload_n C.x C.b dX0_shuffle_85 rfl (lv_at hl 0 rfl) ?_
        refine x_gi C hX 31 (by decide) rfl q767 (fun _ h => h) (F 31) rfl (b := (0, 6)) rfl dX0_shuffle_86 (fun _ => ?_)
        refine r_icmp_ge (tgt := 131) C (by omega) (by omega) dX0_shuffle_89 (by decide) (fun c_2 => ?_) (fun c_2 => ?_)
        · have hen : v5.toNat = (F 31).toNat := by omega
          rw [hen, pfP_n, show f - 1 + 1 = f by omega] at h40 h41
          rw [← hQQ]
          exact r_vret C hS (Nat.le_of_ble_eq_true rfl) (Nat.le_of_ble_eq_true rfl) dX0_shuffle_131 ⟨f40, f41, m33, m39, h40, h41, h39, h4l, hX⟩
        · refine lv_iload_n C.x C.b dX0_shuffle_92 rfl (lv_at hl 2 rfl) ?_
          refine lv_iload C.x C.b dX0_shuffle_93 (lv_at hl 5 rfl) ?_
          refine r_ishr C (by omega) (by omega) rfl dX0_shuffle_95 ?_
          refine r_const C dX0_shuffle_96 ?_
          refine r_iand C (zi_and1 _) dX0_shuffle_97 ?_
          refine r_if_ne (tgt := 125) C (by omega) dX0_shuffle_98 (by decide) (fun c_3 => ?_) (fun c_3 => ?_)
          · first
            | have hst := pf_yes (X := (jX Rr b le)) h5.1 hnm h40 h41 e40 e41
            | have hst := pf_no (X := (jX Rr b le)) h5.1 ((hus.at h5.1 (by omega)).1 (by omega)) h40 h41
            refine r_iinc (lv' := [(5, .int (zi (v5 + 1))), (0, .ref (B 49 0)), (1, .int (zi d)), (2, .int (zi u)), (3, .int (zi b)), (4, .int (zi le))]) C dX0_shuffle_125 hl (k := 5) rfl (by decide) rfl (fun ls hl => ?_)
            refine lv_goto (tgt := 83) C.x C.b dX0_shuffle_128 (by decide) ?_
            exact ih83 (v5 + 1) f40 f41 m33 m39 (by omega) hst.1 hst.2 (by first | exact fun j a q => (e39 j a (by omega)).trans (by rw [← pg_st (m := m39) hd.1 h5.1 h39 j a (by omega), fup_n _ _ (show ¬ j = d by omega)]; exact h39 j a q) | exact h39) (by first | exact e4l | exact h4l) (by omega) H locs ls hX hS (lv_sub hl [1, 2, 3, 4, 5, 0] rfl)
          · have hnm : ¬ v5.toNat ∈ pre := fun z => by have := (hus.at h5.1 (by omega)).2 z; omega
            have hrm2 := pf_room (n := (F 31).toNat) (f := f) ⟨h5.1, by omega⟩ hf1 hnm h40 hrm
            refine lv_aload_n C.x C.b dX0_shuffle_101 rfl (lv_at hl 0 rfl) ?_
            refine x_ga C hX 39 (by decide) rfl q775 (fun _ h => h) dX0_shuffle_102 ?_
            refine lv_iload_n C.x C.b dX0_shuffle_105 rfl (lv_at hl 1 rfl) ?_
            refine lv_iload C.x C.b dX0_shuffle_106 (lv_at hl 5 rfl) ?_
            refine x_si1 C hX hS 39 rfl (by decide) rfl (show 0 ≤ d ∧ d < 6 from (by omega)) (by decide) (fun b hb => by cases hb; exact (show 0 ≤ v5 ∧ v5 ≤ 5 from (by omega))) (M' := (va_up (va_up M 33 m33) 39 (fup m39 d v5))) (up_up _ _ _ _) dX0_shuffle_108 (fun H locs hX hS => ?_)
            refine lv_aload_n C.x C.b dX0_shuffle_109 rfl (lv_at hl 0 rfl) ?_
            refine lv_iload_n C.x C.b dX0_shuffle_110 rfl (lv_at hl 1 rfl) ?_
            refine r_const C dX0_shuffle_111 ?_
            refine r_iadd C dX0_shuffle_112 ?_
            refine lv_iload_n C.x C.b dX0_shuffle_113 rfl (lv_at hl 2 rfl) ?_
            refine r_const C dX0_shuffle_114 ?_
            refine lv_iload C.x C.b dX0_shuffle_115 (lv_at hl 5 rfl) ?_
            have hp2 := p2_12 (k := v5) (by omega)
            refine r_ishl C (by omega) (by omega) rfl dX0_shuffle_117 ?_
            refine r_ior (v := oo u (1 * 2 ^ v5.toNat)) C (zi_or (by omega) (by omega)) dX0_shuffle_118 ?_
            refine lv_iload_n C.x C.b dX0_shuffle_119 rfl (lv_at hl 3 rfl) ?_
            refine lv_iload C.x C.b dX0_shuffle_120 (lv_at hl 4 rfl) ?_
            refine r_callVv (As := [.int (zi (d + 1)), .int (zi (oo u (1 * 2 ^ v5.toNat))), .int (zi b), .int (zi le)]) (rest := []) (cells' := 0) (slots' := 0) C (IH (va_up (va_up F 40 f40) 41 f41) (va_up (va_up M 33 m33) 39 (fup m39 d v5)) (pre ++ [v5.toNat]) (f - 1) Rr (d + 1) (oo u (1 * 2 ^ v5.toNat)) b le (show (d + 1) = ((pre ++ [v5.toNat]).length : Int) ∧ (pre ++ [v5.toNat]).length + (f - 1) = ((F 31)).toNat from (by simp only [List.length_append, List.length_singleton]; omega)) (show UsB (oo u (1 * 2 ^ v5.toNat)) (pre ++ [v5.toNat]) from (hus.stv hu.1 h5.1)) (show 0 ≤ (oo u (1 * 2 ^ v5.toNat)) ∧ (oo u (1 * 2 ^ v5.toNat)) < 1048576 from (oo_20 hu ⟨by omega, by omega⟩)) (show ∀ j : Int, 0 ≤ j → j < (d + 1) → (fup m39 d v5) j = pg (pre ++ [v5.toNat]) j from (pg_st hd.1 h5.1 h39)) (show 0 ≤ b ∧ b ≤ 4095 from (by omega)) (show -2147483648 ≤ le ∧ le < 2147483648 from (by omega)) (show f40 + ((pf ((F 31)).toNat (f - 1) (pre ++ [v5.toNat])).length : Int) ≤ 720 from hrm2) (show f41 ≤ f40 from h4l) (show ∀ s s' : Int → Int, (∀ q : Int, 0 ≤ q → q < (F 31) → s q = s' q) → RDX ((M 53)) ((M 202)) ((M 54)) ((F 35)) s = Rr s' from hR) (show (f - 1) ≤ (nn - 1) from (by omega)) (by omega)) (lw_V q419 q421 qs29 q86 q422) hd_X0_shuffle rfl ⟨(show 2 + (nn - 1) + 1 ≤ 2 + nn by omega), (show 8 + (6 + 11) + (48 + 25 * (nn - 1)) ≤ 48 + 25 * nn by omega)⟩ (x_this C hX) hX hS hl.1 rfl (Nat.le_of_ble_eq_true rfl) dX0_shuffle_122 rfl rfl ⟨Nat.le_of_ble_eq_true rfl, Nat.le_of_ble_eq_true rfl⟩ (fun H locs hp hS => ?_)
            obtain ⟨f40_4, f41_5, m33_6, m39_7, e40, e41, e39, e4l, hX⟩ := hp
            replace e40 : f40_4 = f40 + ((pf ((F 31)).toNat (f - 1) (pre ++ [v5.toNat])).length : Int) := e40
            replace e41 : f41_5 = f41 + lS (jX Rr b le) (pf ((F 31)).toNat (f - 1) (pre ++ [v5.toNat])) := e41
            replace e39 : ∀ j : Int, 0 ≤ j → j < (d + 1) → m39_7 j = pg (pre ++ [v5.toNat]) j := e39
            replace e4l : f41_5 ≤ f40_4 := e4l
            have hX : XH E A B (va_up (va_up F 40 f40_4) 41 f41_5) (va_up (va_up M 33 m33_6) 39 m39_7) G T H := hX.to rfl ((congrArg (fun z => va_up z 41 f41_5) (up_in (by decide) (up_up _ _ _ _))).trans (up_up _ _ _ _)) ((congrArg (fun z => va_up z 39 m39_7) (up_in (by decide) (up_up _ _ _ _))).trans (up_up _ _ _ _)) rfl rfl
            first
            | have hst := pf_yes (X := (jX Rr b le)) h5.1 hnm h40 h41 e40 e41
            | have hst := pf_no (X := (jX Rr b le)) h5.1 ((hus.at h5.1 (by omega)).1 (by omega)) h40 h41
            refine r_iinc (lv' := [(5, .int (zi (v5 + 1))), (0, .ref (B 49 0)), (1, .int (zi d)), (2, .int (zi u)), (3, .int (zi b)), (4, .int (zi le))]) C dX0_shuffle_125 hl (k := 5) rfl (by decide) rfl (fun ls hl => ?_)
            refine lv_goto (tgt := 83) C.x C.b dX0_shuffle_128 (by decide) ?_
            exact ih83 (v5 + 1) f40_4 f41_5 m33_6 m39_7 (by omega) hst.1 hst.2 (by first | exact fun j a q => (e39 j a (by omega)).trans (by rw [← pg_st (m := m39) hd.1 h5.1 h39 j a (by omega), fup_n _ _ (show ¬ j = d by omega)]; exact h39 j a q) | exact h39) (by first | exact e4l | exact h4l) (by omega) H locs ls hX hS (lv_sub hl [1, 2, 3, 4, 5, 0] rfl)
    exact L83 _ 0 (F 40) (F 41) (M 33) (M 39) (by omega) (by show F 40 = F 40 + ((0 : Nat) : Int); omega) (by show F 41 = F 41 + 0; omega) hor hle40 (Nat.lt_succ_self _) H locs ls (hX.to rfl (((up_id F (k := 40) (a := (F 40)) rfl).symm.trans rfl).trans ((up_id (va_up F 40 (F 40)) (k := 41) (a := (F 41)) rfl).symm.trans rfl)) (((up_id M (k := 33) (a := (M 33)) rfl).symm.trans rfl).trans ((up_id (va_up M 33 (M 33)) (k := 39) (a := (M 39)) rfl).symm.trans rfl)) rfl rfl) hS (lv_sub hl [1, 2, 3, 4, 5, 0] rfl)
  · have hf0 : f = 0 := by omega
    subst hf0
    have hpf0 : pf (F 31).toNat 0 pre = [pre] := rfl
    rw [hpf0] at hrm
    have hrm : F 40 + 1 ≤ 720 := hrm
    refine r_const C dX0_shuffle_8 ?_
    refine lv_istore (lv' := [(5, .int (zi 0)), (0, .ref (B 49 0)), (1, .int (zi d)), (2, .int (zi u)), (3, .int (zi b)), (4, .int (zi le))]) C.x C.b dX0_shuffle_9 hl (by decide) rfl (fun ls hl => ?_)
    have L11 : ∀ (fu : Nat) (v5 : Int) (m33 : Int → Int) (h5 : 0 ≤ v5 ∧ v5 ≤ F 31) (h33 : ∀ j : Int, 0 ≤ j → j < v5 → m33 j = snd b (M 39 j)) (hm : Int.toNat (F 31 - v5) < fu) (H : Heap) (locs : List Loc) (ls : Array Slot) (hX : XH E A B F (va_up M 33 m33) G T H) (hS : va_S A s.heap H locs) (hl : lv_has ls 6 [(0, .ref (B 49 0)), (1, .int (zi d)), (2, .int (zi u)), (3, .int (zi b)), (4, .int (zi le)), (5, .int (zi v5))]), W p l e (rm_X0_shuffle_ nn) s m args below meth c H locs 0 0 QQ (F0 m 11 ls []) := by
      intro fu
      induction fu with
      | zero => intro v5 m33 h5 h33 hm; exact absurd hm (Nat.not_lt_zero _)
      | succ fu ih11 =>
        intro v5 m33 h5 h33 hm H locs ls hX hS hl
        refine lv_iload C.x C.b dX0_shuffle_11 (lv_at hl 5 rfl) ?_
        refine lv_aload_n C.x C.b dX0_shuffle_13 rfl (lv_at hl 0 rfl) ?_
        refine x_gi C hX 31 (by decide) rfl q767 (fun _ h => h) (F 31) rfl (b := (0, 6)) rfl dX0_shuffle_14 (fun _ => ?_)
        refine r_icmp_ge (tgt := 46) C (by omega) (by omega) dX0_shuffle_17 (by decide) (fun c_8 => ?_) (fun c_8 => ?_)
        · have hm33 : RDX (M 53) (M 202) (M 54) (F 35) m33 = Rr (fun q => snd b (pg pre q)) := hR _ _ (fun q q0 q1 => by rw [h33 q q0 (by omega), hor q q0 (by omega)])
          refine lv_aload_n C.x C.b dX0_shuffle_46 rfl (lv_at hl 0 rfl) ?_
          refine lv_dup C.x C.b dX0_shuffle_47 rfl ?_
          refine x_gi C hX 40 (by decide) rfl q776 (fun _ h => h) (F 40) rfl (b := (0, 720)) rfl dX0_shuffle_48 (fun _ => ?_)
          refine r_const C dX0_shuffle_51 ?_
          refine r_iadd C dX0_shuffle_52 ?_
          refine x_pi C hX hS 40 (by decide) rfl (by decide) rfl rfl q776 (fun _ h => h) (b := (0, 720)) rfl (show 0 ≤ (F 40) + 1 ∧ (F 40) + 1 ≤ 720 from (by omega)) (F' := (va_up F 40 ((F 40) + 1))) rfl dX0_shuffle_53 (fun H locs hX hS => ?_)
          refine lv_aload_n C.x C.b dX0_shuffle_56 rfl (lv_at hl 0 rfl) ?_
          refine lv_dup C.x C.b dX0_shuffle_57 rfl ?_
          refine x_gi C hX 41 (by decide) rfl q777 (fun _ h => h) (F 41) rfl (b := (0, 720)) rfl dX0_shuffle_58 (fun _ => ?_)
          refine lv_aload_n C.x C.b dX0_shuffle_61 rfl (lv_at hl 0 rfl) ?_
          refine r_callVi (As := []) (rest := [.int (zi (F 41)), .ref (B 49 0)]) (cells' := 0) (slots' := 0) C (met_X0_reads l E A B (va_up F 40 ((F 40) + 1)) (va_up M 33 m33) G T) (lw_V q395 q397 qs25 q86 q398) hd_X0_reads rfl ⟨(show 1 + 1 ≤ 2 + nn by omega), (show 8 + (3 + 11) + 26 ≤ 48 + 25 * nn by omega)⟩ (x_this C hX) hX hS hl.1 rfl (Nat.le_of_ble_eq_true rfl) dX0_shuffle_62 rfl rfl ⟨Nat.le_of_ble_eq_true rfl, Nat.le_of_ble_eq_true rfl⟩ (fun rr H locs hp hS => ?_)
          obtain ⟨hrd, hrr, hX⟩ := hp
          have hrr : rr = isum (fun i => bI ((M 53) (4096 * (M 202) i + rowS (fun j => m33 ((M 54) (6 * i + j))) ((M 202) i)) = 1)) ((F 35)) := hrr
          subst hrr
          replace hrd : 0 ≤ isum (fun i => bI ((M 53) (4096 * (M 202) i + rowS (fun j => m33 ((M 54) (6 * i + j))) ((M 202) i)) = 1)) ((F 35)) ∧ isum (fun i => bI ((M 53) (4096 * (M 202) i + rowS (fun j => m33 ((M 54) (6 * i + j))) ((M 202) i)) = 1)) ((F 35)) ≤ (F 35) := hrd
          refine lv_iload C.x C.b dX0_shuffle_65 (lv_at hl 4 rfl) ?_
          have J75_9 : ∀ (t2 : Int) (ht2 : t2 = bI (¬ ((isum (fun i => bI ((M 53) (4096 * (M 202) i + rowS (fun j => m33 ((M 54) (6 * i + j))) ((M 202) i)) = 1)) ((F 35))) < le))) (H : Heap) (locs : List Loc) (ls : Array Slot) (hX : XH E A B (va_up F 40 ((F 40) + 1)) (va_up M 33 m33) G T H) (hS : va_S A s.heap H locs) (hl : lv_has ls 6 [(0, .ref (B 49 0)), (1, .int (zi d)), (2, .int (zi u)), (3, .int (zi b)), (4, .int (zi le)), (5, .int (zi v5))]), W p l e (rm_X0_shuffle_ nn) s m args below meth c H locs 0 0 QQ (F0 m 75 ls [.int (zi t2), .int (zi (F 41)), .ref (B 49 0)]) := by
            intro t2 ht2 H locs ls hX hS hl
            subst ht2
            refine r_iadd C dX0_shuffle_75 ?_
            refine x_pi C hX hS 41 (by decide) rfl (by decide) rfl rfl q777 (fun _ h => h) (b := (0, 720)) rfl (show 0 ≤ (F 41) + (bI (¬ ((isum (fun i => bI ((M 53) (4096 * (M 202) i + rowS (fun j => m33 ((M 54) (6 * i + j))) ((M 202) i)) = 1)) ((F 35))) < le))) ∧ (F 41) + (bI (¬ ((isum (fun i => bI ((M 53) (4096 * (M 202) i + rowS (fun j => m33 ((M 54) (6 * i + j))) ((M 202) i)) = 1)) ((F 35))) < le))) ≤ 720 from (addb_r (by omega))) (F' := (va_up (va_up F 40 ((F 40) + 1)) 41 ((F 41) + (bI (¬ ((isum (fun i => bI ((M 53) (4096 * (M 202) i + rowS (fun j => m33 ((M 54) (6 * i + j))) ((M 202) i)) = 1)) ((F 35))) < le)))))) rfl dX0_shuffle_76 (fun H locs hX hS => ?_)
            have hjx : lS (jX Rr b le) [pre] = bI (¬ RDX (M 53) (M 202) (M 54) (F 35) m33 < le) := by rw [lS_one, hm33]; rfl
            have hb01 := bI_01 (¬ RDX (M 53) (M 202) (M 54) (F 35) m33 < le)
            rw [← hQQ]
            exact r_vret C hS (Nat.le_of_ble_eq_true rfl) (Nat.le_of_ble_eq_true rfl) dX0_shuffle_79 ⟨((F 40) + 1), ((F 41) + (bI (¬ ((isum (fun i => bI ((M 53) (4096 * (M 202) i + rowS (fun j => m33 ((M 54) (6 * i + j))) ((M 202) i)) = 1)) ((F 35))) < le)))), m33, (M 39), (by rw [hpf0]; rfl), (by rw [hpf0, hjx]; first | rfl | omega), hor, (by first | omega | (show F 41 + bI (¬ RDX (M 53) (M 202) (M 54) (F 35) m33 < le) ≤ F 40 + 1; omega)), (hX.to rfl rfl ((up_id (va_up M 33 m33) (k := 39) (a := (M 39)) rfl).symm.trans rfl) rfl rfl)⟩
          refine r_icmp_lt (tgt := 74) C (by omega) (by omega) dX0_shuffle_67 (by decide) (fun c_10 => ?_) (fun c_10 => ?_)
          · refine r_const C dX0_shuffle_74 ?_
            exact J75_9 0 ((bI_f (fun q => q c_10)).symm) H locs ls hX hS hl
          · refine r_const C dX0_shuffle_70 ?_
            refine lv_goto (tgt := 75) C.x C.b dX0_shuffle_71 (by decide) ?_
            exact J75_9 1 ((bI_t c_10).symm) H locs ls hX hS hl
        · refine lv_aload_n C.x C.b dX0_shuffle_20 rfl (lv_at hl 0 rfl) ?_
          refine x_ga C hX 33 (by decide) rfl q769 (fun _ h => h) dX0_shuffle_21 ?_
          refine lv_iload C.x C.b dX0_shuffle_24 (lv_at hl 5 rfl) ?_
          refine lv_iload_n C.x C.b dX0_shuffle_26 rfl (lv_at hl 3 rfl) ?_
          refine r_const C dX0_shuffle_27 ?_
          refine lv_aload_n C.x C.b dX0_shuffle_28 rfl (lv_at hl 0 rfl) ?_
          refine x_ga C hX 39 (by decide) rfl q775 (fun _ h => h) dX0_shuffle_29 ?_
          refine lv_iload C.x C.b dX0_shuffle_32 (lv_at hl 5 rfl) ?_
          refine x_li1 C hX 39 rfl (by decide) rfl (show 0 ≤ v5 ∧ v5 < 6 from (by omega)) (by decide) (M 39 v5) rfl dX0_shuffle_34 (fun r34 => ?_)
          have r34 : 0 ≤ M 39 v5 ∧ M 39 v5 ≤ 5 := r34 (0, 5) rfl
          refine r_imul C dX0_shuffle_35 ?_
          have r39 : 0 ≤ M 39 v5 ∧ M 39 v5 ≤ 5 := hX.2.2.1 39 (0, 5) rfl v5
          refine r_ishr C (by omega) (by omega) rfl dX0_shuffle_36 ?_
          refine r_const C dX0_shuffle_37 ?_
          refine r_iand C (zi_and3 _) dX0_shuffle_38 ?_
          refine x_si1 C hX hS 33 rfl (by decide) rfl (show 0 ≤ v5 ∧ v5 < 6 from (by omega)) (by decide) (fun b hb => by cases hb; exact (show 0 ≤ (b / 2 ^ (2 * (M 39 v5)).toNat) % 4 ∧ (b / 2 ^ (2 * (M 39 v5)).toNat) % 4 ≤ 3 from (by omega))) (M' := (va_up M 33 (fup m33 v5 ((b / 2 ^ (2 * (M 39 v5)).toNat) % 4)))) (up_up _ _ _ _) dX0_shuffle_39 (fun H locs hX hS => ?_)
          refine r_iinc (lv' := [(5, .int (zi (v5 + 1))), (0, .ref (B 49 0)), (1, .int (zi d)), (2, .int (zi u)), (3, .int (zi b)), (4, .int (zi le))]) C dX0_shuffle_40 hl (k := 5) rfl (by decide) rfl (fun ls hl => ?_)
          refine lv_goto (tgt := 11) C.x C.b dX0_shuffle_43 (by decide) ?_
          exact ih11 (v5 + 1) (fup m33 v5 ((b / 2 ^ (2 * (M 39 v5)).toNat) % 4)) (by omega) (fup_st (P := fun j x => x = snd b (M 39 j)) h33 rfl) (by omega) H locs ls hX hS (lv_sub hl [1, 2, 3, 4, 5, 0] rfl)
    exact L11 _ 0 (M 33) (by omega) (fun j a b => absurd a (by omega)) (Nat.lt_succ_self _) H locs ls (hX.to rfl rfl ((up_id M (k := 33) (a := (M 33)) rfl).symm.trans rfl) rfl rfl) hS (lv_sub hl [1, 2, 3, 4, 5, 0] rfl)

theorem met_X0_shuffle_n (l : Launch) (E : us_E) (A : Nat → Prop) (B : Nat → Int → Nat) (G : Nat → Int → Option Nat) (T : x_T) : ∀ (nn : Nat) (F : Nat → Int) (M : Nat → Int → Int) (pre : List Nat) (f : Nat) (Rr : (Int → Int) → Int) (d : Int) (u : Int) (b : Int) (le : Int) (hd : d = (pre.length : Int) ∧ pre.length + f = (F 31).toNat) (hus : UsB u pre) (hu : 0 ≤ u ∧ u < 1048576) (hor : ∀ j : Int, 0 ≤ j → j < d → M 39 j = pg pre j) (hb : 0 ≤ b ∧ b ≤ 4095) (hle : -2147483648 ≤ le ∧ le < 2147483648) (hrm : F 40 + ((pf (F 31).toNat f pre).length : Int) ≤ 720) (hle40 : F 41 ≤ F 40) (hR : ∀ s s' : Int → Int, (∀ q : Int, 0 ≤ q → q < F 31 → s q = s' q) → RDX (M 53) (M 202) (M 54) (F 35) s = Rr s') (hnn : f ≤ nn), cMet l yX0_shuffle cX0_shuffle 6 none (rm_X0_shuffle_ nn) A E [.ref (B 49 0), .int (zi d), .int (zi u), .int (zi b), .int (zi le)] (fun H => XH E A B F M G T H) (qv A (fun H => ∃ f40 : Int, ∃ f41 : Int, ∃ m33 : Int → Int, ∃ m39 : Int → Int, (f40 = F 40 + ((pf (F 31).toNat f pre).length : Int)) ∧ (f41 = F 41 + lS (jX Rr b le) (pf (F 31).toNat f pre)) ∧ (∀ j : Int, 0 ≤ j → j < d → m39 j = pg pre j) ∧ (f41 ≤ f40) ∧ XH E A B (va_up (va_up F 40 f40) 41 f41) (va_up (va_up M 33 m33) 39 m39) G T H))
  | 0, F, M, pre, f, Rr, d, u, b, le, hd, hus, hu, hor, hb, hle, hrm, hle40, hR, hnn => met_X0_shuffle_st l E A B F M G T pre f (0) Rr d u b le hd hus hu hor hb hle hrm hle40 hR hnn (fun _ _ _ _ _ _ _ _ _ _ _ _ _ _ _ _ _ _ _ h => absurd h (by omega))
  | nn + 1, F, M, pre, f, Rr, d, u, b, le, hd, hus, hu, hor, hb, hle, hrm, hle40, hR, hnn => met_X0_shuffle_st l E A B F M G T pre f (nn + 1) Rr d u b le hd hus hu hor hb hle hrm hle40 hR hnn (fun F M pre f Rr d u b le hd hus hu hor hb hle hrm hle40 hR hnn _ => met_X0_shuffle_n l E A B G T nn F M pre f Rr d u b le hd hus hu hor hb hle hrm hle40 hR hnn)
abbrev rm_X0_shuffle : Room := rm_X0_shuffle_ 6
theorem met_X0_shuffle (l : Launch) (E : us_E) (A : Nat → Prop) (B : Nat → Int → Nat) (F : Nat → Int) (M : Nat → Int → Int) (G : Nat → Int → Option Nat) (T : x_T) (pre : List Nat) (f : Nat) (Rr : (Int → Int) → Int) (d : Int) (u : Int) (b : Int) (le : Int) (hd : d = (pre.length : Int) ∧ pre.length + f = (F 31).toNat) (hus : UsB u pre) (hu : 0 ≤ u ∧ u < 1048576) (hor : ∀ j : Int, 0 ≤ j → j < d → M 39 j = pg pre j) (hb : 0 ≤ b ∧ b ≤ 4095) (hle : -2147483648 ≤ le ∧ le < 2147483648) (hrm : F 40 + ((pf (F 31).toNat f pre).length : Int) ≤ 720) (hle40 : F 41 ≤ F 40) (hR : ∀ s s' : Int → Int, (∀ q : Int, 0 ≤ q → q < F 31 → s q = s' q) → RDX (M 53) (M 202) (M 54) (F 35) s = Rr s') (hf6 : f ≤ 6) : cMet l yX0_shuffle cX0_shuffle 6 none rm_X0_shuffle A E [.ref (B 49 0), .int (zi d), .int (zi u), .int (zi b), .int (zi le)] (fun H => XH E A B F M G T H) (qv A (fun H => ∃ f40 : Int, ∃ f41 : Int, ∃ m33 : Int → Int, ∃ m39 : Int → Int, (f40 = F 40 + ((pf (F 31).toNat f pre).length : Int)) ∧ (f41 = F 41 + lS (jX Rr b le) (pf (F 31).toNat f pre)) ∧ (∀ j : Int, 0 ≤ j → j < d → m39 j = pg pre j) ∧ (f41 ≤ f40) ∧ XH E A B (va_up (va_up F 40 f40) 41 f41) (va_up (va_up M 33 m33) 39 m39) G T H)) := met_X0_shuffle_n l E A B G T 6 F M pre f Rr d u b le hd hus hu hor hb hle hrm hle40 hR hf6
