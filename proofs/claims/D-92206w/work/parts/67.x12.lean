set_option maxRecDepth 100000

theorem hd_X0_read : yX0_read.cls = RX0 ∧ yX0_read.cls ≠ "java/lang/invoke/MethodHandle" ∧ yX0_read.cls ≠ "java/lang/invoke/VarHandle" ∧ (parseMethodDescriptor yX0_read.desc).map (fun d => d.parameters.length) = some 2 := by decide +kernel
abbrev rm_X0_read : Room := { frames := 4, cells := 192, slots := 1152, locals := 91 }
set_option maxHeartbeats 8000000 in
theorem met_X0_read (l : Launch) (E : us_E) (A : Nat → Prop) (B : Nat → Int → Nat) (F : Nat → Int) (M : Nat → Int → Int) (G : Nat → Int → Option Nat) (T : x_T) (t : Int) (v : Int) (ht : -2147483648 ≤ t ∧ t < 2147483648) (hv : -2147483648 ≤ v ∧ v < 2147483648) (hT0 : T 0 = none) : cMet l yX0_read cX0_read 3 (some .int) rm_X0_read A E [.ref (B 49 0), .int (zi t), .int (zi v)] (fun H => XH E A B F M G T H) (qi A (fun r H => ∃ b54 : Int → Nat, ∃ f31 : Int, ∃ f35 : Int, ∃ gg34 : Int → Option Nat, ∃ m3 : Int → Int, ∃ m30 : Int → Int, ∃ m32 : Int → Int, ∃ m33 : Int → Int, ∃ m54 : Int → Int, ∃ m202 : Int → Int, SgOK (F 1) (M 0) (F 2) m3 ∧ (r = sel ((0 ≤ t ∧ t ≤ 1 * 2 ^ (F 6).toNat - 1) ∧ (0 ≤ v ∧ v ≤ 1 * 2 ^ (2 * tnum (F 1) m3 (cnt m3 (mtc (M 56)) (M 200) (F 6))).toNat - 1)) (rdX m3 (mtc (M 56)) (M 200) (F 6) (tsp (F 1) m3 (cnt m3 (mtc (M 56)) (M 200) (F 6)) (tnum (F 1) m3 (cnt m3 (mtc (M 56)) (M 200) (F 6)))) (M 53) t (snd v)) (-1)) ∧ XH E A (va_up B 54 b54) (va_up (va_up F 31 f31) 35 f35) (va_up (va_up (va_up (va_up (va_up (va_up M 3 m3) 30 m30) 32 m32) 33 m33) 54 m54) 202 m202) (va_up G 34 gg34) T H)) := by
  refine cMet.of (by decide) (Nat.le_of_ble_eq_true rfl) (fun p e s m args below meth c C hnm hX hS ls hl => ?_)
  have C : Cx p s m args meth c A RX0 cX0_read 3 (some .int) E := C
  have hX : XH E A B F M G T s.heap := hX
  have hl : lv_has ls 3 [(0, .ref (B 49 0)), (1, .int (zi t)), (2, .int (zi v))] := hl
  generalize hH : s.heap = H at hX
  have hS : va_S A s.heap H [] := by rw [← hH]; exact hS
  generalize hlocs : ([] : List Loc) = locs at hS ⊢
  obtain ⟨QQ, hQQ⟩ : ∃ zQQ, MQ below (qi A (fun r H => ∃ b54 : Int → Nat, ∃ f31 : Int, ∃ f35 : Int, ∃ gg34 : Int → Option Nat, ∃ m3 : Int → Int, ∃ m30 : Int → Int, ∃ m32 : Int → Int, ∃ m33 : Int → Int, ∃ m54 : Int → Int, ∃ m202 : Int → Int, SgOK (F 1) (M 0) (F 2) m3 ∧ (r = sel ((0 ≤ t ∧ t ≤ 1 * 2 ^ (F 6).toNat - 1) ∧ (0 ≤ v ∧ v ≤ 1 * 2 ^ (2 * tnum (F 1) m3 (cnt m3 (mtc (M 56)) (M 200) (F 6))).toNat - 1)) (rdX m3 (mtc (M 56)) (M 200) (F 6) (tsp (F 1) m3 (cnt m3 (mtc (M 56)) (M 200) (F 6)) (tnum (F 1) m3 (cnt m3 (mtc (M 56)) (M 200) (F 6)))) (M 53) t (snd v)) (-1)) ∧ XH E A (va_up B 54 b54) (va_up (va_up F 31 f31) 35 f35) (va_up (va_up (va_up (va_up (va_up (va_up M 3 m3) 30 m30) 32 m32) 33 m33) 54 m54) 202 m202) (va_up G 34 gg34) T H)) args s (rm_X0_read).cells (rm_X0_read).slots A = zQQ := ⟨_, rfl⟩
  rw [hQQ]
  have rF1 : 0 ≤ F 1 ∧ F 1 ≤ 24 := hX.2.1 1 (0, 24) rfl
  have rF6 : 0 ≤ F 6 ∧ F 6 ≤ 8 := hX.2.1 6 (0, 8) rfl
  have h24 : ∀ t, 0 ≤ M 200 t ∧ M 200 t ≤ 24 := fun t => hX.2.2.1 200 (0, 24) rfl t
  have hcl : ∀ q, -2 ≤ M 56 q ∧ M 56 q ≤ 23 := fun q => hX.2.2.1 56 (-2, 23) rfl q
  have hs3 : ∀ q, 0 ≤ M 3 q ∧ M 3 q ≤ 23 := fun q => hX.2.2.1 3 (0, 23) rfl q
  refine lv_aload_n C.x C.b dX0_read_0 rfl (lv_at hl 0 rfl) ?_
  refine r_callVv (As := []) (rest := []) (cells' := 0) (slots' := 0) C (met_X0_layTabled l E A B F M G T) (lw_V q375 q377 qs21 q86 q378) hd_X0_layTabled rfl (by decide) (x_this C hX) hX hS hl.1 rfl (Nat.le_of_ble_eq_true rfl) dX0_read_1 rfl rfl ⟨Nat.le_of_ble_eq_true rfl, Nat.le_of_ble_eq_true rfl⟩ (fun H locs hp hS => ?_)
  obtain ⟨tn, sg, tt, sp, hsg, htn, htb, hts_, hX⟩ := hp
  replace hsg : SgOK ((F 1)) ((M 0)) ((F 2)) sg := hsg
  replace htn : tn = tnum ((F 1)) sg (cnt sg (mtc ((M 56))) ((M 200)) ((F 6))) := htn
  replace htb : ∀ j : Int, 0 ≤ j → j < tn → tt j = tb ((F 1)) sg (cnt sg (mtc ((M 56))) ((M 200)) ((F 6))) j := htb
  replace hts_ : ∀ s : Int, 0 ≤ s → s < 24 → sp s = tsp ((F 1)) sg (cnt sg (mtc ((M 56))) ((M 200)) ((F 6))) tn s := hts_
  have hX : XH E A B (va_up F 31 tn) (va_up (va_up (va_up M 3 sg) 30 tt) 32 sp) G T H := hX.to rfl rfl ((congrArg (fun z => va_up z 32 sp) ((congrArg (fun z => va_up z 30 tt) rfl).trans rfl)).trans rfl) rfl rfl
  have htnr := tnum_r (F 1) sg (cnt sg (mtc (M 56)) (M 200) (F 6))
  rw [← htn] at htnr
  refine lv_aload_n C.x C.b dX0_read_4 rfl (lv_at hl 0 rfl) ?_
  refine lv_iload_n C.x C.b dX0_read_5 rfl (lv_at hl 1 rfl) ?_
  refine r_callVi (As := [.int (zi t)]) (rest := []) (cells' := 0) (slots' := 0) C (met_X0_areTexts l E A B (va_up F 31 tn) (va_up (va_up (va_up M 3 sg) 30 tt) 32 sp) G T t (show -2147483648 ≤ t ∧ t < 2147483648 from (by omega))) (lw_V q383 q385 qs22 q86 q386) hd_X0_areTexts rfl (by decide) (x_this C hX) hX hS hl.1 rfl (Nat.le_of_ble_eq_true rfl) dX0_read_6 rfl rfl ⟨Nat.le_of_ble_eq_true rfl, Nat.le_of_ble_eq_true rfl⟩ (fun rr H locs hp hS => ?_)
  obtain ⟨hrr, hX⟩ := hp
  have hrr : rr = bI (0 ≤ t ∧ t ≤ 1 * 2 ^ ((F 6)).toNat - 1) := hrr
  subst hrr
  refine r_if_eq_b (tgt := 32) C dX0_read_9 (by decide) (fun c_1 => ?_) (fun c_1 => ?_)
  · refine r_const C dX0_read_32 ?_
    rw [← hQQ]
    exact r_iret C hS (Nat.le_of_ble_eq_true rfl) (Nat.le_of_ble_eq_true rfl) dX0_read_33 ⟨(B 54), tn, (F 35), (G 34), sg, tt, sp, (M 33), (M 54), (M 202), hsg, (by first | exact Eq.symm (sel_f (fun q => absurd q.1 (by assumption))) | exact Eq.symm (sel_f (fun q => absurd (htn ▸ q.2) (by assumption)))), (hX.to ((up_id B (k := 54) (a := (B 54)) rfl).symm.trans rfl) ((up_id (va_up F 31 tn) (k := 35) (a := (F 35)) rfl).symm.trans rfl) ((((up_id (va_up (va_up (va_up M 3 sg) 30 tt) 32 sp) (k := 33) (a := (M 33)) rfl).symm.trans rfl).trans ((up_id (va_up (va_up (va_up (va_up M 3 sg) 30 tt) 32 sp) 33 (M 33)) (k := 54) (a := (M 54)) rfl).symm.trans rfl)).trans ((up_id (va_up (va_up (va_up (va_up (va_up M 3 sg) 30 tt) 32 sp) 33 (M 33)) 54 (M 54)) (k := 202) (a := (M 202)) rfl).symm.trans rfl)) ((up_id G (k := 34) (a := (G 34)) rfl).symm.trans rfl) rfl)⟩
  · have hp12 := p2_12 (k := F 6) (by omega)
    have hpt := p2_12 (k := 2 * tn) (by omega)
    refine lv_iload_n C.x C.b dX0_read_12 rfl (lv_at hl 2 rfl) ?_
    refine r_i2l C (by omega) dX0_read_13 ?_
    refine r_lconst C 0 rfl dX0_read_14 ?_
    refine r_const C dX0_read_15 ?_
    refine r_const C dX0_read_16 ?_
    refine lv_aload_n C.x C.b dX0_read_17 rfl (lv_at hl 0 rfl) ?_
    refine x_gi C hX 31 (by decide) rfl q767 (fun _ h => h) tn rfl (b := (0, 6)) rfl dX0_read_18 (fun r18 => ?_)
    have r18 : 0 ≤ tn ∧ tn ≤ 6 := r18
    refine r_imul C dX0_read_21 ?_
    refine r_ishl C (by omega) (by omega) rfl dX0_read_22 ?_
    refine r_const C dX0_read_23 ?_
    refine r_isub C dX0_read_24 ?_
    refine r_i2l C (by omega) dX0_read_25 ?_
    refine r_callSi (As := [.long (zl v), .long (zl 0), .long (zl ((1 * 2 ^ (2 * tn).toNat) - 1))]) (rest := []) (cells' := 0) (slots' := 0) C (met_X0_isIn l E A H v 0 ((1 * 2 ^ (2 * tn).toNat) - 1) (show -9223372036854775808 ≤ v ∧ v < 9223372036854775808 from (by omega)) (show -9223372036854775808 ≤ (0 : Int) ∧ (0 : Int) < 9223372036854775808 from (by omega)) (show -9223372036854775808 ≤ ((1 * 2 ^ (2 * tn).toNat) - 1) ∧ ((1 * 2 ^ (2 * tn).toNat) - 1) < 9223372036854775808 from (by omega))) (lw_S q117 q118 q86 q119) hd_X0_isIn rfl (by decide) rfl hS hl.1 rfl (Nat.le_of_ble_eq_true rfl) dX0_read_26 rfl rfl ⟨Nat.le_of_ble_eq_true rfl, Nat.le_of_ble_eq_true rfl⟩ (fun rr H locs hp hS => ?_)
    obtain ⟨hrr, hH⟩ := hp
    have hrr : rr = bI ((0 : Int) ≤ v ∧ v ≤ ((1 * 2 ^ (2 * tn).toNat) - 1)) := hrr
    subst hrr
    have hX : XH E A B (va_up F 31 tn) (va_up (va_up (va_up M 3 sg) 30 tt) 32 sp) G T H := by rw [hH]; exact hX
    refine r_if_ne_b (tgt := 34) C dX0_read_29 (by decide) (fun c_2 => ?_) (fun c_2 => ?_)
    · refine lv_aload_n C.x C.b dX0_read_34 rfl (lv_at hl 0 rfl) ?_
      refine lv_iload_n C.x C.b dX0_read_35 rfl (lv_at hl 1 rfl) ?_
      refine r_callVv (As := [.int (zi t)]) (rest := []) (cells' := 192) (slots' := 1152) C (met_X0_spell l E A B (va_up F 31 tn) (va_up (va_up (va_up M 3 sg) 30 tt) 32 sp) G T t (show 0 ≤ t ∧ t < 2147483648 from (by omega)) (show ∀ s : Int, 0 ≤ s → s < 24 → sp s = -4 ∨ 0 ≤ sp s from (fun s a b => by rw [hts_ s a b]; exact (tsp_r rF1.1 htnr.1 s).imp id (fun z => z.1))) (show (T 0) = none from hT0)) (lw_V q387 q389 qs23 q86 q390) hd_X0_spell rfl (by decide) (x_this C hX) hX hS hl.1 rfl (Nat.le_of_ble_eq_true rfl) dX0_read_36 rfl rfl ⟨Nat.le_of_ble_eq_true rfl, Nat.le_of_ble_eq_true rfl⟩ (fun H locs hp hS => ?_)
      obtain ⟨b54_3, rn, r54, r202, gg34_4, hkp, hsq, hX⟩ := hp
      replace hkp : rn = KP (RD (sg) (mtc ((M 56))) ((M 200)) (sp) t) ((M 200)) ((F 6)) 0 := hkp
      replace hsq : SPQ (sg) (mtc ((M 56))) ((M 200)) (sp) t r54 r202 ((F 6)) 0 := hsq
      have hX : XH E A (va_up B 54 b54_3) (va_up (va_up F 31 tn) 35 rn) (va_up (va_up (va_up (va_up (va_up M 3 sg) 30 tt) 32 sp) 54 r54) 202 r202) (va_up G 34 gg34_4) T H := hX.to rfl rfl ((congrArg (fun z => va_up z 202 r202) rfl).trans rfl) rfl rfl
      refine lv_aload_n C.x C.b dX0_read_39 rfl (lv_at hl 0 rfl) ?_
      refine lv_iload_n C.x C.b dX0_read_40 rfl (lv_at hl 2 rfl) ?_
      refine r_callVv (As := [.int (zi v)]) (rest := []) (cells' := 192) (slots' := 1152) C (met_X0_take l E A (va_up B 54 b54_3) (va_up (va_up F 31 tn) 35 rn) (va_up (va_up (va_up (va_up (va_up M 3 sg) 30 tt) 32 sp) 54 r54) 202 r202) (va_up G 34 gg34_4) T v (show 0 ≤ v ∧ v < 2147483648 from (by omega))) (lw_V q391 q393 qs24 q86 q394) hd_X0_take rfl (by decide) (x_this C hX) hX hS hl.1 rfl (Nat.le_of_ble_eq_true rfl) dX0_read_41 rfl rfl ⟨Nat.le_of_ble_eq_true rfl, Nat.le_of_ble_eq_true rfl⟩ (fun H locs hp hS => ?_)
      obtain ⟨sd, htk, hX⟩ := hp
      replace htk : ∀ j : Int, 0 ≤ j → j < tn → sd j = snd v j := htk
      have hX : XH E A (va_up B 54 b54_3) (va_up (va_up F 31 tn) 35 rn) (va_up (va_up (va_up (va_up (va_up (va_up M 3 sg) 30 tt) 32 sp) 33 sd) 54 r54) 202 r202) (va_up G 34 gg34_4) T H := hX.to rfl rfl (up_in (by decide) (up_in (by decide) rfl)) rfl rfl
      refine lv_aload_n C.x C.b dX0_read_44 rfl (lv_at hl 0 rfl) ?_
      refine r_callVi (As := []) (rest := []) (cells' := 192) (slots' := 1152) C (met_X0_reads l E A (va_up B 54 b54_3) (va_up (va_up F 31 tn) 35 rn) (va_up (va_up (va_up (va_up (va_up (va_up M 3 sg) 30 tt) 32 sp) 33 sd) 54 r54) 202 r202) (va_up G 34 gg34_4) T) (lw_V q395 q397 qs25 q86 q398) hd_X0_reads rfl (by decide) (x_this C hX) hX hS hl.1 rfl (Nat.le_of_ble_eq_true rfl) dX0_read_45 rfl rfl ⟨Nat.le_of_ble_eq_true rfl, Nat.le_of_ble_eq_true rfl⟩ (fun rr H locs hp hS => ?_)
      obtain ⟨hrd, hrr, hX⟩ := hp
      have hrr : rr = isum (fun i => bI ((M 53) (4096 * r202 i + rowS (fun j => sd (r54 (6 * i + j))) (r202 i)) = 1)) (rn) := hrr
      subst hrr
      replace hrd : 0 ≤ isum (fun i => bI ((M 53) (4096 * r202 i + rowS (fun j => sd (r54 (6 * i + j))) (r202 i)) = 1)) (rn) ∧ isum (fun i => bI ((M 53) (4096 * r202 i + rowS (fun j => sd (r54 (6 * i + j))) (r202 i)) = 1)) (rn) ≤ rn := hrd
      have hs3g : ∀ q, 0 ≤ sg q ∧ sg q ≤ 23 := fun q => hX.2.2.1 3 (0, 23) rfl q
      have hsd : ∀ a b j : Int, 0 ≤ b → b < M 200 a → RD sg (mtc (M 56)) (M 200) sp t a b → 0 ≤ j → j < we (mtc (M 56)) (M 200) a b - b → sd (sp (sa sg ((mtc (M 56)) a (b + j)))) = snd v (sp (sa sg ((mtc (M 56)) a (b + j)))) := fun a b j hb0 hb hr j0 j1 => by
        have hne := hr.2.2.2 j j0 j1
        have hc := wh_cell (j := b + j) hr.1 ⟨hb0, by omega⟩ (fun j => (hcl _).1) (by omega) (by omega)
        have hq := hs3g ((mtc (M 56)) a (b + j))
        have hsa : sa sg ((mtc (M 56)) a (b + j)) = sg ((mtc (M 56)) a (b + j)) := by
          unfold sa
          rw [sel_f (by omega)]
        rw [hsa] at hne ⊢
        have z := tsp_r (sg := sg) (ct := cnt sg (mtc (M 56)) (M 200) (F 6)) rF1.1 htnr.1 (sg ((mtc (M 56)) a (b + j)))
        rw [← hts_ _ hq.1 (by omega)] at z
        have z2 := z.resolve_left hne
        exact htk _ z2.1 z2.2.1
      rw [← hQQ]
      exact r_iret C hS (Nat.le_of_ble_eq_true rfl) (Nat.le_of_ble_eq_true rfl) dX0_read_48 ⟨b54_3, tn, rn, gg34_4, sg, tt, sp, sd, r54, r202, hsg, (by rw [sel_t (c := (0 ≤ t ∧ t ≤ 1 * 2 ^ (F 6).toNat - 1) ∧ (0 ≤ v ∧ v ≤ 1 * 2 ^ (2 * tnum (F 1) sg (cnt sg (mtc (M 56)) (M 200) (F 6))).toNat - 1)) ⟨by assumption, htn ▸ by assumption⟩, hkp]; exact (hsq.sum (m53 := M 53) (m33 := sd) (sd := snd v) (fun a => (h24 a).1) rF6.1 hsd).trans (rdX_cg rF6.1 (fun a b => (hcl _).1) (fun q => hX.2.2.1 3 (0, 23) rfl q) (fun s a b => by rw [hts_ s a b, htn]))), hX⟩
    · refine r_const C dX0_read_32 ?_
      rw [← hQQ]
      exact r_iret C hS (Nat.le_of_ble_eq_true rfl) (Nat.le_of_ble_eq_true rfl) dX0_read_33 ⟨(B 54), tn, (F 35), (G 34), sg, tt, sp, (M 33), (M 54), (M 202), hsg, (by first | exact Eq.symm (sel_f (fun q => absurd q.1 (by assumption))) | exact Eq.symm (sel_f (fun q => absurd (htn ▸ q.2) (by assumption)))), (hX.to ((up_id B (k := 54) (a := (B 54)) rfl).symm.trans rfl) ((up_id (va_up F 31 tn) (k := 35) (a := (F 35)) rfl).symm.trans rfl) ((((up_id (va_up (va_up (va_up M 3 sg) 30 tt) 32 sp) (k := 33) (a := (M 33)) rfl).symm.trans rfl).trans ((up_id (va_up (va_up (va_up (va_up M 3 sg) 30 tt) 32 sp) 33 (M 33)) (k := 54) (a := (M 54)) rfl).symm.trans rfl)).trans ((up_id (va_up (va_up (va_up (va_up (va_up M 3 sg) 30 tt) 32 sp) 33 (M 33)) 54 (M 54)) (k := 202) (a := (M 202)) rfl).symm.trans rfl)) ((up_id G (k := 34) (a := (G 34)) rfl).symm.trans rfl) rfl)⟩
