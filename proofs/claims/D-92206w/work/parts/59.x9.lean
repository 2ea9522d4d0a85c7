set_option maxRecDepth 100000

theorem hd_X0_layTabled : yX0_layTabled.cls = RX0 ∧ yX0_layTabled.cls ≠ "java/lang/invoke/MethodHandle" ∧ yX0_layTabled.cls ≠ "java/lang/invoke/VarHandle" ∧ (parseMethodDescriptor yX0_layTabled.desc).map (fun d => d.parameters.length) = some 0 := by decide +kernel
abbrev rm_X0_layTabled : Room := { frames := 3, cells := 0, slots := 0, locals := 67 }
set_option maxHeartbeats 8000000 in
theorem met_X0_layTabled (l : Launch) (E : us_E) (A : Nat → Prop) (B : Nat → Int → Nat) (F : Nat → Int) (M : Nat → Int → Int) (G : Nat → Int → Option Nat) (T : x_T) : cMet l yX0_layTabled cX0_layTabled 5 none rm_X0_layTabled A E [.ref (B 49 0)] (fun H => XH E A B F M G T H) (qv A (fun H => ∃ f31 : Int, ∃ m3 : Int → Int, ∃ m30 : Int → Int, ∃ m32 : Int → Int, SgOK (F 1) (M 0) (F 2) m3 ∧ (f31 = tnum (F 1) m3 (cnt m3 (mtc (M 56)) (M 200) (F 6))) ∧ (∀ j : Int, 0 ≤ j → j < f31 → m30 j = tb (F 1) m3 (cnt m3 (mtc (M 56)) (M 200) (F 6)) j) ∧ (∀ s : Int, 0 ≤ s → s < 24 → m32 s = tsp (F 1) m3 (cnt m3 (mtc (M 56)) (M 200) (F 6)) f31 s) ∧ XH E A B (va_up F 31 f31) (va_up (va_up (va_up M 3 m3) 30 m30) 32 m32) G T H)) := by
  refine cMet.of (by decide) (Nat.le_of_ble_eq_true rfl) (fun p e s m args below meth c C hnm hX hS ls hl => ?_)
  have C : Cx p s m args meth c A RX0 cX0_layTabled 5 none E := C
  have hX : XH E A B F M G T s.heap := hX
  have hl : lv_has ls 5 [(0, .ref (B 49 0))] := hl
  generalize hH : s.heap = H at hX
  have hS : va_S A s.heap H [] := by rw [← hH]; exact hS
  generalize hlocs : ([] : List Loc) = locs at hS ⊢
  obtain ⟨QQ, hQQ⟩ : ∃ zQQ, MQ below (qv A (fun H => ∃ f31 : Int, ∃ m3 : Int → Int, ∃ m30 : Int → Int, ∃ m32 : Int → Int, SgOK (F 1) (M 0) (F 2) m3 ∧ (f31 = tnum (F 1) m3 (cnt m3 (mtc (M 56)) (M 200) (F 6))) ∧ (∀ j : Int, 0 ≤ j → j < f31 → m30 j = tb (F 1) m3 (cnt m3 (mtc (M 56)) (M 200) (F 6)) j) ∧ (∀ s : Int, 0 ≤ s → s < 24 → m32 s = tsp (F 1) m3 (cnt m3 (mtc (M 56)) (M 200) (F 6)) f31 s) ∧ XH E A B (va_up F 31 f31) (va_up (va_up (va_up M 3 m3) 30 m30) 32 m32) G T H)) args s (rm_X0_layTabled).cells (rm_X0_layTabled).slots A = zQQ := ⟨_, rfl⟩
  rw [hQQ]
  have rF1 : 0 ≤ F 1 ∧ F 1 ≤ 24 := hX.2.1 1 (0, 24) rfl
  have rF6 : 0 ≤ F 6 ∧ F 6 ≤ 8 := hX.2.1 6 (0, 8) rfl
  have h24 : ∀ t, 0 ≤ M 200 t ∧ M 200 t ≤ 24 := fun t => hX.2.2.1 200 (0, 24) rfl t
  have hcl : ∀ q, -2 ≤ M 56 q ∧ M 56 q ≤ 23 := fun q => hX.2.2.1 56 (-2, 23) rfl q
  have hs3 : ∀ q, 0 ≤ M 3 q ∧ M 3 q ≤ 23 := fun q => hX.2.2.1 3 (0, 23) rfl q
  refine lv_aload_n C.x C.b dX0_layTabled_0 rfl (lv_at hl 0 rfl) ?_
  refine r_callVv (As := []) (rest := []) (cells' := 0) (slots' := 0) C (met_X0_layAll l E A B F M G T) (lw_V q134 q136 qs1 q86 q137) hd_X0_layAll rfl (by decide) (x_this C hX) hX hS hl.1 rfl (Nat.le_of_ble_eq_true rfl) dX0_layTabled_1 rfl rfl ⟨Nat.le_of_ble_eq_true rfl, Nat.le_of_ble_eq_true rfl⟩ (fun H locs hp hS => ?_)
  obtain ⟨sg, hsg, hX⟩ := hp
  replace hsg : SgOK ((F 1)) ((M 0)) ((F 2)) sg := hsg
  have hX : XH E A B F (va_up M 3 sg) G T H := hX.to rfl rfl rfl rfl rfl
  refine lv_aload_n C.x C.b dX0_layTabled_4 rfl (lv_at hl 0 rfl) ?_
  refine x_ga C hX 32 (by decide) rfl q768 (fun _ h => h) dX0_layTabled_5 ?_
  refine r_bipush C (by decide) dX0_layTabled_8 ?_
  refine r_callSv (As := [.ref (B 32 0), .int (zi (-4))]) (rest := []) (cells' := 0) (slots' := 0) C (met_fill1 l E A B F (va_up M 3 sg) G T 32 24 (-4) rfl (by decide) (by decide) (fun b hb => by cases hb; exact (show -4 ≤ (-4) ∧ (-4) ≤ 5 from (by omega)))) (lw_S q223 q224 q100 q225) hd_J10_fill rfl (by decide) hX hS hl.1 rfl (Nat.le_of_ble_eq_true rfl) dX0_layTabled_10 rfl rfl ⟨Nat.le_of_ble_eq_true rfl, Nat.le_of_ble_eq_true rfl⟩ (fun H locs hp hS => ?_)
  have hX : XH E A B F (va_up (va_up M 3 sg) 32 (ffill (M 32) 0 24 (-4))) G T H := hp.to rfl rfl rfl rfl rfl
  refine lv_aload_n C.x C.b dX0_layTabled_13 rfl (lv_at hl 0 rfl) ?_
  refine r_const C dX0_layTabled_14 ?_
  refine x_pi C hX hS 31 (by decide) rfl (by decide) rfl rfl q767 (fun _ h => h) (b := (0, 6)) rfl (show 0 ≤ 0 ∧ 0 ≤ 6 from (by omega)) (F' := (va_up F 31 0)) rfl dX0_layTabled_15 (fun H locs hX hS => ?_)
  refine r_const C dX0_layTabled_18 ?_
  refine lv_istore_n (lv' := [(1, .int (zi 1)), (0, .ref (B 49 0))]) C.x C.b dX0_layTabled_19 rfl hl (by decide) rfl (fun ls hl => ?_)
  have L20 : ∀ (fu : Nat) (v1 : Prop) (xv1 : Int) (hv1 : xv1 = bI v1) (f31 : Int) (m30 : Int → Int) (m32 : Int → Int) (hk : 0 ≤ f31 ∧ f31 ≤ 6) (hs : ∀ s : Int, 0 ≤ s → s < 24 → m32 s = tsp (F 1) sg (cnt sg (mtc (M 56)) (M 200) (F 6)) f31 s) (ht : ∀ j : Int, 0 ≤ j → j < f31 → m30 j = tb (F 1) sg (cnt sg (mtc (M 56)) (M 200) (F 6)) j ∧ ¬ tb (F 1) sg (cnt sg (mtc (M 56)) (M 200) (F 6)) j = -4) (ho : Bx (¬ v1 → tb (F 1) sg (cnt sg (mtc (M 56)) (M 200) (F 6)) f31 = -4)) (hm : Int.toNat (12 - 2 * f31 + bI v1) < fu) (H : Heap) (locs : List Loc) (ls : Array Slot) (hX : XH E A B (va_up F 31 f31) (va_up (va_up (va_up M 3 sg) 30 m30) 32 m32) G T H) (hS : va_S A s.heap H locs) (hl : lv_has ls 5 [(0, .ref (B 49 0)), (1, .int (zi xv1))]), W p l e rm_X0_layTabled s m args below meth c H locs 0 0 QQ (F0 m 20 ls []) := by
    intro fu
    induction fu with
    | zero => intro v1 xv1 hv1 f31 m30 m32 hk hs ht ho hm; exact absurd hm (Nat.not_lt_zero _)
    | succ fu ih20 =>
      intro v1 xv1 hv1 f31 m30 m32 hk hs ht ho hm H locs ls hX hS hl
      subst hv1
      refine lv_iload_n C.x C.b dX0_layTabled_20 rfl (lv_at hl 1 rfl) ?_
      refine r_if_eq_b (tgt := 165) C dX0_layTabled_21 (by decide) (fun c_1 => ?_) (fun c_1 => ?_)
      · have hen : tnum (F 1) sg (cnt sg (mtc (M 56)) (M 200) (F 6)) = f31 := tnum_e hk.1 hk.2 (fun j a b => (ht j a b).2) (by first | exact Or.inr (ho.o (by assumption)) | exact Or.inl (by omega))
        rw [← hQQ]
        exact r_vret C hS (Nat.le_of_ble_eq_true rfl) (Nat.le_of_ble_eq_true rfl) dX0_layTabled_165 ⟨f31, sg, m30, m32, hsg, hen.symm, (fun j a b => (ht j a b).1), hs, hX⟩
      · have hm33 := hm
        refine lv_aload_n C.x C.b dX0_layTabled_24 rfl (lv_at hl 0 rfl) ?_
        refine x_gi C hX 31 (by decide) rfl q767 (fun _ h => h) f31 rfl (b := (0, 6)) rfl dX0_layTabled_25 (fun r25 => ?_)
        have r25 : 0 ≤ f31 ∧ f31 ≤ 6 := r25
        refine r_bipush C (by decide) dX0_layTabled_28 ?_
        refine r_icmp_ge (tgt := 165) C (by omega) (by decide) dX0_layTabled_30 (by decide) (fun c_2 => ?_) (fun c_2 => ?_)
        · have hen : tnum (F 1) sg (cnt sg (mtc (M 56)) (M 200) (F 6)) = f31 := tnum_e hk.1 hk.2 (fun j a b => (ht j a b).2) (by first | exact Or.inr (ho.o (by assumption)) | exact Or.inl (by omega))
          rw [← hQQ]
          exact r_vret C hS (Nat.le_of_ble_eq_true rfl) (Nat.le_of_ble_eq_true rfl) dX0_layTabled_165 ⟨f31, sg, m30, m32, hsg, hen.symm, (fun j a b => (ht j a b).1), hs, hX⟩
        · refine r_bipush C (by decide) dX0_layTabled_33 ?_
          refine lv_istore_n (lv' := [(2, .int (zi (-4))), (0, .ref (B 49 0)), (1, .int (zi (bI v1)))]) C.x C.b dX0_layTabled_35 rfl hl (by decide) rfl (fun ls hl => ?_)
          refine r_const C dX0_layTabled_36 ?_
          refine lv_istore_n (lv' := [(3, .int (zi 0)), (2, .int (zi (-4))), (0, .ref (B 49 0)), (1, .int (zi (bI v1)))]) C.x C.b dX0_layTabled_37 rfl hl (by decide) rfl (fun ls hl => ?_)
          have L38 : ∀ (fu : Nat) (v2 : Int) (v3 : Int) (h3 : 0 ≤ v3 ∧ v3 ≤ F 1) (hb : v2 = tbest sg (cnt sg (mtc (M 56)) (M 200) (F 6)) m32 v3) (hm : Int.toNat (F 1 - v3) < fu) (H : Heap) (locs : List Loc) (ls : Array Slot) (hX : XH E A B (va_up F 31 f31) (va_up (va_up (va_up M 3 sg) 30 m30) 32 m32) G T H) (hS : va_S A s.heap H locs) (hl : lv_has ls 5 [(0, .ref (B 49 0)), (1, .int (zi (bI v1))), (2, .int (zi v2)), (3, .int (zi v3))]), W p l e rm_X0_layTabled s m args below meth c H locs 0 0 QQ (F0 m 38 ls []) := by
            intro fu
            induction fu with
            | zero => intro v2 v3 h3 hb hm; exact absurd hm (Nat.not_lt_zero _)
            | succ fu ih38 =>
              intro v2 v3 h3 hb hm H locs ls hX hS hl
              refine lv_iload_n C.x C.b dX0_layTabled_38 rfl (lv_at hl 3 rfl) ?_
              refine lv_aload_n C.x C.b dX0_layTabled_39 rfl (lv_at hl 0 rfl) ?_
              refine x_gi C hX 1 (by decide) rfl q737 (fun _ h => h) (F 1) rfl (b := (0, 24)) rfl dX0_layTabled_40 (fun _ => ?_)
              refine r_icmp_ge (tgt := 116) C (by omega) (by omega) dX0_layTabled_43 (by decide) (fun c_3 => ?_) (fun c_3 => ?_)
              · have hbr := tbest_r (sg := sg) (ct := (cnt sg (mtc (M 56)) (M 200) (F 6))) (sp := m32) h3.1
                rw [← hb] at hbr
                have htb : v2 = tb (F 1) sg (cnt sg (mtc (M 56)) (M 200) (F 6)) f31 := by
                  rw [hb, show v3 = F 1 by omega]
                  exact tbest_congr rF1.1 (fun s a b => ⟨Iff.rfl, rfl, hs s a (by omega)⟩)
                have hno : v2 = -4 → tb (F 1) sg (cnt sg (mtc (M 56)) (M 200) (F 6)) f31 = -4 := fun q => htb ▸ q
                have hst1 : ¬ v2 = -4 → ∀ s : Int, 0 ≤ s → s < 24 → fup m32 v2 f31 s = tsp (F 1) sg (cnt sg (mtc (M 56)) (M 200) (F 6)) (f31 + 1) s := by
                  intro q s a b
                  rw [tsp_s hk.1, sel_f (htb ▸ q), ← htb]
                  by_cases e : s = v2
                  · rw [e, fup_s, fup_s]
                  · rw [fup_n _ _ e, fup_n _ _ e]; exact hs s a b
                have hst2 : ¬ v2 = -4 → ∀ j : Int, 0 ≤ j → j < f31 + 1 → fup m30 f31 v2 j = tb (F 1) sg (cnt sg (mtc (M 56)) (M 200) (F 6)) j ∧ ¬ tb (F 1) sg (cnt sg (mtc (M 56)) (M 200) (F 6)) j = -4 := fun q => fup_st (P := fun j x => x = tb (F 1) sg (cnt sg (mtc (M 56)) (M 200) (F 6)) j ∧ ¬ tb (F 1) sg (cnt sg (mtc (M 56)) (M 200) (F 6)) j = -4) ht ⟨htb, htb ▸ q⟩
                refine lv_iload_n C.x C.b dX0_layTabled_116 rfl (lv_at hl 2 rfl) ?_
                refine r_bipush C (by decide) dX0_layTabled_117 ?_
                refine r_icmp_eq (tgt := 126) C (by omega) (by decide) dX0_layTabled_119 (by decide) (fun c_4 => ?_) (fun c_4 => ?_)
                · refine r_const C dX0_layTabled_126 ?_
                  refine lv_istore_n (lv' := [(1, .int (zi 0)), (0, .ref (B 49 0)), (2, .int (zi v2)), (3, .int (zi v3))]) C.x C.b dX0_layTabled_127 rfl hl (by decide) rfl (fun ls hl => ?_)
                  refine lv_iload_n C.x C.b dX0_layTabled_128 rfl (lv_at hl 0 rfl) ?_
                  refine r_if_eq (tgt := 162) C (by decide) dX0_layTabled_129 (by decide) (fun c_5 => ?_) (fun c_5 => ?_)
                  · refine lv_goto (tgt := 20) C.x C.b dX0_layTabled_162 (by decide) ?_
                    exact ih20 False 0 bI_F.symm f31 m30 m32 (by omega) (by first | exact hs | exact hst1 (by assumption)) (by first | exact ht | exact hst2 (by assumption)) (Bx.i (fun q => by first | exact absurd trivial q | exact hno (by assumption) | exact hno (Classical.not_not.mp q) | exact absurd (by assumption) q)) (by first | (rw [bI_t (by assumption)] at hm33; rw [bI_f (by first | exact id | assumption)]; omega) | (rw [bI_t (by assumption)] at hm33; rw [bI_t trivial]; omega)) H locs ls hX hS (lv_sub hl [1, 0] rfl)
                  · exact absurd (by decide) c_5
                · refine r_const C dX0_layTabled_122 ?_
                  refine lv_goto (tgt := 127) C.x C.b dX0_layTabled_123 (by decide) ?_
                  refine lv_istore_n (lv' := [(1, .int (zi 1)), (0, .ref (B 49 0)), (2, .int (zi v2)), (3, .int (zi v3))]) C.x C.b dX0_layTabled_127 rfl hl (by decide) rfl (fun ls hl => ?_)
                  refine lv_iload_n C.x C.b dX0_layTabled_128 rfl (lv_at hl 0 rfl) ?_
                  refine r_if_eq (tgt := 162) C (by decide) dX0_layTabled_129 (by decide) (fun c_6 => ?_) (fun c_6 => ?_)
                  · exact absurd c_6 (by decide)
                  · refine lv_aload_n C.x C.b dX0_layTabled_132 rfl (lv_at hl 1 rfl) ?_
                    refine x_ga C hX 32 (by decide) rfl q768 (fun _ h => h) dX0_layTabled_133 ?_
                    refine lv_iload_n C.x C.b dX0_layTabled_136 rfl (lv_at hl 2 rfl) ?_
                    refine lv_aload_n C.x C.b dX0_layTabled_137 rfl (lv_at hl 1 rfl) ?_
                    refine x_gi C hX 31 (by decide) rfl q767 (fun _ h => h) f31 rfl (b := (0, 6)) rfl dX0_layTabled_138 (fun _ => ?_)
                    refine x_si1 C hX hS 32 rfl (by decide) rfl (show 0 ≤ v2 ∧ v2 < 24 from (by omega)) (by decide) (fun b hb => by cases hb; exact (show -4 ≤ f31 ∧ f31 ≤ 5 from (by omega))) (M' := (va_up (va_up (va_up M 3 sg) 30 m30) 32 (fup m32 v2 f31))) (up_up _ _ _ _) dX0_layTabled_141 (fun H locs hX hS => ?_)
                    refine lv_aload_n C.x C.b dX0_layTabled_142 rfl (lv_at hl 1 rfl) ?_
                    refine x_ga C hX 30 (by decide) rfl q766 (fun _ h => h) dX0_layTabled_143 ?_
                    refine lv_aload_n C.x C.b dX0_layTabled_146 rfl (lv_at hl 1 rfl) ?_
                    refine x_gi C hX 31 (by decide) rfl q767 (fun _ h => h) f31 rfl (b := (0, 6)) rfl dX0_layTabled_147 (fun _ => ?_)
                    refine lv_iload_n C.x C.b dX0_layTabled_150 rfl (lv_at hl 2 rfl) ?_
                    refine x_si1 C hX hS 30 rfl (by decide) rfl (show 0 ≤ f31 ∧ f31 < 6 from (by omega)) (by decide) (fun b hb => by cases hb; exact (show 0 ≤ v2 ∧ v2 ≤ 23 from (by omega))) (M' := (va_up (va_up (va_up M 3 sg) 30 (fup m30 f31 v2)) 32 (fup m32 v2 f31))) (up_in (by decide) (up_up _ _ _ _)) dX0_layTabled_151 (fun H locs hX hS => ?_)
                    refine lv_aload_n C.x C.b dX0_layTabled_152 rfl (lv_at hl 1 rfl) ?_
                    refine lv_dup C.x C.b dX0_layTabled_153 rfl ?_
                    refine x_gi C hX 31 (by decide) rfl q767 (fun _ h => h) f31 rfl (b := (0, 6)) rfl dX0_layTabled_154 (fun _ => ?_)
                    refine r_const C dX0_layTabled_157 ?_
                    refine r_iadd C dX0_layTabled_158 ?_
                    refine x_pi C hX hS 31 (by decide) rfl (by decide) rfl rfl q767 (fun _ h => h) (b := (0, 6)) rfl (show 0 ≤ f31 + 1 ∧ f31 + 1 ≤ 6 from (by omega)) (F' := (va_up F 31 (f31 + 1))) (up_up _ _ _ _) dX0_layTabled_159 (fun H locs hX hS => ?_)
                    refine lv_goto (tgt := 20) C.x C.b dX0_layTabled_162 (by decide) ?_
                    exact ih20 True 1 bI_T.symm (f31 + 1) (fup m30 f31 v2) (fup m32 v2 f31) (by omega) (by first | exact hs | exact hst1 (by assumption)) (by first | exact ht | exact hst2 (by assumption)) (Bx.i (fun q => by first | exact absurd trivial q | exact hno (by assumption) | exact hno (Classical.not_not.mp q) | exact absurd (by assumption) q)) (by first | (rw [bI_t (by assumption)] at hm33; rw [bI_f (by first | exact id | assumption)]; omega) | (rw [bI_t (by assumption)] at hm33; rw [bI_t trivial]; omega)) H locs ls hX hS (lv_sub hl [1, 0] rfl)
              · have hbr := tbest_r (sg := sg) (ct := (cnt sg (mtc (M 56)) (M 200) (F 6))) (sp := m32) h3.1
                rw [← hb] at hbr
                refine lv_aload_n C.x C.b dX0_layTabled_46 rfl (lv_at hl 0 rfl) ?_
                refine lv_iload_n C.x C.b dX0_layTabled_47 rfl (lv_at hl 3 rfl) ?_
                refine r_callVi (As := [.int (zi v3)]) (rest := []) (cells' := 0) (slots' := 0) C (met_X0_isSign l E A B (va_up F 31 f31) (va_up (va_up (va_up M 3 sg) 30 m30) 32 m32) G T v3 (show -2147483648 ≤ v3 ∧ v3 < 2147483648 from (by omega))) (lw_V q153 q155 qs3 q86 q156) hd_X0_isSign rfl (by decide) (x_this C hX) hX hS hl.1 rfl (Nat.le_of_ble_eq_true rfl) dX0_layTabled_48 rfl rfl ⟨Nat.le_of_ble_eq_true rfl, Nat.le_of_ble_eq_true rfl⟩ (fun rr H locs hp hS => ?_)
                obtain ⟨hrr, hX⟩ := hp
                have hrr : rr = bI ((0 ≤ v3 ∧ v3 < (F 1)) ∧ sg v3 = v3) := hrr
                subst hrr
                have J78_7 : ∀ (t0 : Int) (ht0 : t0 = bI (((0 ≤ v3 ∧ v3 < (F 1)) ∧ sg v3 = v3) ∧ (((m32 v3) = (-4)) ∧ (0 < (cnt (sg) (mtc ((M 56))) ((M 200)) ((F 6)) v3))))) (H : Heap) (locs : List Loc) (ls : Array Slot) (hX : XH E A B (va_up F 31 f31) (va_up (va_up (va_up M 3 sg) 30 m30) 32 m32) G T H) (hS : va_S A s.heap H locs) (hl : lv_has ls 5 [(0, .ref (B 49 0)), (1, .int (zi (bI v1))), (2, .int (zi v2)), (3, .int (zi v3))]), W p l e rm_X0_layTabled s m args below meth c H locs 0 0 QQ (F0 m 78 ls [.int (zi t0)]) := by
                  intro t0 ht0 H locs ls hX hS hl
                  subst ht0
                  refine lv_istore (lv' := [(4, .int (zi (bI (((0 ≤ v3 ∧ v3 < (F 1)) ∧ sg v3 = v3) ∧ (((m32 v3) = (-4)) ∧ (0 < (cnt (sg) (mtc ((M 56))) ((M 200)) ((F 6)) v3))))))), (0, .ref (B 49 0)), (1, .int (zi (bI v1))), (2, .int (zi v2)), (3, .int (zi v3))]) C.x C.b dX0_layTabled_78 hl (by decide) rfl (fun ls hl => ?_)
                  refine lv_iload C.x C.b dX0_layTabled_80 (lv_at hl 0 rfl) ?_
                  have J109_8 : ∀ (t0 : Int) (ht0 : t0 = sel (((0 ≤ v3 ∧ v3 < (F 1)) ∧ sg v3 = v3) ∧ (((m32 v3) = (-4)) ∧ (0 < (cnt (sg) (mtc ((M 56))) ((M 200)) ((F 6)) v3)))) (sel (v2 = (-4)) v3 (sel ((cnt (sg) (mtc ((M 56))) ((M 200)) ((F 6)) v2) < (cnt (sg) (mtc ((M 56))) ((M 200)) ((F 6)) v3)) v3 v2)) v2) (H : Heap) (locs : List Loc) (ls : Array Slot) (hX : XH E A B (va_up F 31 f31) (va_up (va_up (va_up M 3 sg) 30 m30) 32 m32) G T H) (hS : va_S A s.heap H locs) (hl : lv_has ls 5 [(4, .int (zi (bI (((0 ≤ v3 ∧ v3 < (F 1)) ∧ sg v3 = v3) ∧ (((m32 v3) = (-4)) ∧ (0 < (cnt (sg) (mtc ((M 56))) ((M 200)) ((F 6)) v3))))))), (0, .ref (B 49 0)), (1, .int (zi (bI v1))), (2, .int (zi v2)), (3, .int (zi v3))]), W p l e rm_X0_layTabled s m args below meth c H locs 0 0 QQ (F0 m 109 ls [.int (zi t0)]) := by
                    intro t0 ht0 H locs ls hX hS hl
                    subst ht0
                    refine lv_istore_n (lv' := [(2, .int (zi (sel (((0 ≤ v3 ∧ v3 < (F 1)) ∧ sg v3 = v3) ∧ (((m32 v3) = (-4)) ∧ (0 < (cnt (sg) (mtc ((M 56))) ((M 200)) ((F 6)) v3)))) (sel (v2 = (-4)) v3 (sel ((cnt (sg) (mtc ((M 56))) ((M 200)) ((F 6)) v2) < (cnt (sg) (mtc ((M 56))) ((M 200)) ((F 6)) v3)) v3 v2)) v2))), (4, .int (zi (bI (((0 ≤ v3 ∧ v3 < (F 1)) ∧ sg v3 = v3) ∧ (((m32 v3) = (-4)) ∧ (0 < (cnt (sg) (mtc ((M 56))) ((M 200)) ((F 6)) v3))))))), (0, .ref (B 49 0)), (1, .int (zi (bI v1))), (3, .int (zi v3))]) C.x C.b dX0_layTabled_109 rfl hl (by decide) rfl (fun ls hl => ?_)
                    refine r_iinc (lv' := [(3, .int (zi (v3 + 1))), (2, .int (zi (sel (((0 ≤ v3 ∧ v3 < (F 1)) ∧ sg v3 = v3) ∧ (((m32 v3) = (-4)) ∧ (0 < (cnt (sg) (mtc ((M 56))) ((M 200)) ((F 6)) v3)))) (sel (v2 = (-4)) v3 (sel ((cnt (sg) (mtc ((M 56))) ((M 200)) ((F 6)) v2) < (cnt (sg) (mtc ((M 56))) ((M 200)) ((F 6)) v3)) v3 v2)) v2))), (4, .int (zi (bI (((0 ≤ v3 ∧ v3 < (F 1)) ∧ sg v3 = v3) ∧ (((m32 v3) = (-4)) ∧ (0 < (cnt (sg) (mtc ((M 56))) ((M 200)) ((F 6)) v3))))))), (0, .ref (B 49 0)), (1, .int (zi (bI v1)))]) C dX0_layTabled_110 hl (k := 4) rfl (by decide) rfl (fun ls hl => ?_)
                    refine lv_goto (tgt := 38) C.x C.b dX0_layTabled_113 (by decide) ?_
                    exact ih38 (sel (((0 ≤ v3 ∧ v3 < (F 1)) ∧ sg v3 = v3) ∧ (((m32 v3) = (-4)) ∧ (0 < (cnt (sg) (mtc ((M 56))) ((M 200)) ((F 6)) v3)))) (sel (v2 = (-4)) v3 (sel ((cnt (sg) (mtc ((M 56))) ((M 200)) ((F 6)) v2) < (cnt (sg) (mtc ((M 56))) ((M 200)) ((F 6)) v3)) v3 v2)) v2) (v3 + 1) (by omega) (by rw [tbest_s h3.1, ← hb]; exact sel_c ⟨fun q => ⟨q.1.2, q.2⟩, fun q => ⟨⟨⟨h3.1, by omega⟩, q.1⟩, q.2⟩⟩) (by omega) H locs ls hX hS (lv_sub hl [3, 4, 1, 0] rfl)
                  refine r_if_eq_b (tgt := 108) C dX0_layTabled_82 (by decide) (fun c_9 => ?_) (fun c_9 => ?_)
                  · refine lv_iload_n C.x C.b dX0_layTabled_108 rfl (lv_at hl 3 rfl) ?_
                    exact J109_8 v2 ((sel_f c_9).symm) H locs ls hX hS hl
                  · refine lv_iload_n C.x C.b dX0_layTabled_85 rfl (lv_at hl 3 rfl) ?_
                    refine r_bipush C (by decide) dX0_layTabled_86 ?_
                    refine r_icmp_eq (tgt := 104) C (by omega) (by decide) dX0_layTabled_88 (by decide) (fun c_10 => ?_) (fun c_10 => ?_)
                    · refine lv_iload_n C.x C.b dX0_layTabled_104 rfl (lv_at hl 4 rfl) ?_
                      refine lv_goto (tgt := 109) C.x C.b dX0_layTabled_105 (by decide) ?_
                      exact J109_8 v3 (((sel_t c_9).trans (sel_t c_10)).symm) H locs ls hX hS hl
                    · refine lv_aload_n C.x C.b dX0_layTabled_91 rfl (lv_at hl 1 rfl) ?_
                      refine lv_iload_n C.x C.b dX0_layTabled_92 rfl (lv_at hl 4 rfl) ?_
                      refine r_callVi (As := [.int (zi v3)]) (rest := []) (cells' := 0) (slots' := 0) C (met_X0_countOf l E A B (va_up F 31 f31) (va_up (va_up (va_up M 3 sg) 30 m30) 32 m32) G T v3 (show -2147483648 ≤ v3 ∧ v3 < 2147483648 from (by omega))) (lw_V q197 q199 qs7 q86 q200) hd_X0_countOf rfl (by decide) (x_this C hX) hX hS hl.1 rfl (Nat.le_of_ble_eq_true rfl) dX0_layTabled_93 rfl rfl ⟨Nat.le_of_ble_eq_true rfl, Nat.le_of_ble_eq_true rfl⟩ (fun rr H locs hp hS => ?_)
                      obtain ⟨hcn, hrr, hX⟩ := hp
                      have hrr : rr = cnt (sg) (mtc ((M 56))) ((M 200)) ((F 6)) v3 := hrr
                      subst hrr
                      replace hcn : 0 ≤ cnt (sg) (mtc ((M 56))) ((M 200)) ((F 6)) v3 ∧ cnt (sg) (mtc ((M 56))) ((M 200)) ((F 6)) v3 ≤ 192 := hcn
                      refine lv_aload_n C.x C.b dX0_layTabled_96 rfl (lv_at hl 1 rfl) ?_
                      refine lv_iload_n C.x C.b dX0_layTabled_97 rfl (lv_at hl 3 rfl) ?_
                      refine r_callVi (As := [.int (zi v2)]) (rest := [.int (zi (cnt (sg) (mtc ((M 56))) ((M 200)) ((F 6)) v3))]) (cells' := 0) (slots' := 0) C (met_X0_countOf l E A B (va_up F 31 f31) (va_up (va_up (va_up M 3 sg) 30 m30) 32 m32) G T v2 (show -2147483648 ≤ v2 ∧ v2 < 2147483648 from (by omega))) (lw_V q197 q199 qs7 q86 q200) hd_X0_countOf rfl (by decide) (x_this C hX) hX hS hl.1 rfl (Nat.le_of_ble_eq_true rfl) dX0_layTabled_98 rfl rfl ⟨Nat.le_of_ble_eq_true rfl, Nat.le_of_ble_eq_true rfl⟩ (fun rr H locs hp hS => ?_)
                      obtain ⟨hcn, hrr, hX⟩ := hp
                      have hrr : rr = cnt (sg) (mtc ((M 56))) ((M 200)) ((F 6)) v2 := hrr
                      subst hrr
                      replace hcn : 0 ≤ cnt (sg) (mtc ((M 56))) ((M 200)) ((F 6)) v2 ∧ cnt (sg) (mtc ((M 56))) ((M 200)) ((F 6)) v2 ≤ 192 := hcn
                      refine r_icmp_le (tgt := 108) C (by omega) (by omega) dX0_layTabled_101 (by decide) (fun c_11 => ?_) (fun c_11 => ?_)
                      · refine lv_iload_n C.x C.b dX0_layTabled_108 rfl (lv_at hl 3 rfl) ?_
                        exact J109_8 v2 (((sel_t c_9).trans ((sel_f c_10).trans (sel_f c_11))).symm) H locs ls hX hS hl
                      · refine lv_iload_n C.x C.b dX0_layTabled_104 rfl (lv_at hl 4 rfl) ?_
                        refine lv_goto (tgt := 109) C.x C.b dX0_layTabled_105 (by decide) ?_
                        exact J109_8 v3 (((sel_t c_9).trans ((sel_f c_10).trans (sel_t c_11))).symm) H locs ls hX hS hl
                refine r_if_eq_b (tgt := 77) C dX0_layTabled_51 (by decide) (fun c_12 => ?_) (fun c_12 => ?_)
                · refine r_const C dX0_layTabled_77 ?_
                  exact J78_7 0 ((bI_f (fun q => c_12 q.1)).symm) H locs ls hX hS hl
                · refine lv_aload_n C.x C.b dX0_layTabled_54 rfl (lv_at hl 0 rfl) ?_
                  refine x_ga C hX 32 (by decide) rfl q768 (fun _ h => h) dX0_layTabled_55 ?_
                  refine lv_iload_n C.x C.b dX0_layTabled_58 rfl (lv_at hl 3 rfl) ?_
                  refine x_li1 C hX 32 rfl (by decide) rfl (show 0 ≤ v3 ∧ v3 < 24 from (by omega)) (by decide) (m32 v3) rfl dX0_layTabled_59 (fun r59 => ?_)
                  have r59 : -4 ≤ m32 v3 ∧ m32 v3 ≤ 5 := r59 (-4, 5) rfl
                  refine r_bipush C (by decide) dX0_layTabled_60 ?_
                  refine r_icmp_ne (tgt := 77) C (by omega) (by decide) dX0_layTabled_62 (by decide) (fun c_13 => ?_) (fun c_13 => ?_)
                  · refine r_const C dX0_layTabled_77 ?_
                    exact J78_7 0 ((bI_f (fun q => (fun q => c_13 q.1) q.2)).symm) H locs ls hX hS hl
                  · refine lv_aload_n C.x C.b dX0_layTabled_65 rfl (lv_at hl 0 rfl) ?_
                    refine lv_iload_n C.x C.b dX0_layTabled_66 rfl (lv_at hl 3 rfl) ?_
                    refine r_callVi (As := [.int (zi v3)]) (rest := []) (cells' := 0) (slots' := 0) C (met_X0_countOf l E A B (va_up F 31 f31) (va_up (va_up (va_up M 3 sg) 30 m30) 32 m32) G T v3 (show -2147483648 ≤ v3 ∧ v3 < 2147483648 from (by omega))) (lw_V q197 q199 qs7 q86 q200) hd_X0_countOf rfl (by decide) (x_this C hX) hX hS hl.1 rfl (Nat.le_of_ble_eq_true rfl) dX0_layTabled_67 rfl rfl ⟨Nat.le_of_ble_eq_true rfl, Nat.le_of_ble_eq_true rfl⟩ (fun rr H locs hp hS => ?_)
                    obtain ⟨hcn, hrr, hX⟩ := hp
                    have hrr : rr = cnt (sg) (mtc ((M 56))) ((M 200)) ((F 6)) v3 := hrr
                    subst hrr
                    replace hcn : 0 ≤ cnt (sg) (mtc ((M 56))) ((M 200)) ((F 6)) v3 ∧ cnt (sg) (mtc ((M 56))) ((M 200)) ((F 6)) v3 ≤ 192 := hcn
                    refine r_if_le (tgt := 77) C (by omega) dX0_layTabled_70 (by decide) (fun c_14 => ?_) (fun c_14 => ?_)
                    · refine r_const C dX0_layTabled_77 ?_
                      exact J78_7 0 ((bI_f (fun q => (fun q => c_14 q.2) q.2)).symm) H locs ls hX hS hl
                    · refine r_const C dX0_layTabled_73 ?_
                      refine lv_goto (tgt := 78) C.x C.b dX0_layTabled_74 (by decide) ?_
                      exact J78_7 1 ((bI_t ⟨c_12, ⟨c_13, c_14⟩⟩).symm) H locs ls hX hS hl
          exact L38 _ (-4) 0 (by omega) rfl (Nat.lt_succ_self _) H locs ls hX hS (lv_sub hl [2, 3, 1, 0] rfl)
  exact L20 _ True 1 bI_T.symm 0 (M 30) (ffill (M 32) 0 24 (-4)) (by omega) (fun s a b => by rw [ffill_in ⟨a, by omega⟩]; rfl) (fun j a b => absurd a (by omega)) (Bx.i (fun q => absurd trivial q)) (Nat.lt_succ_self _) H locs ls (hX.to rfl rfl ((up_id (va_up (va_up M 3 sg) 32 (ffill (M 32) 0 24 (-4))) (k := 30) (a := (M 30)) rfl).symm.trans (up_in (by decide) rfl)) rfl rfl) hS (lv_sub hl [1, 0] rfl)

theorem hd_X0_tabled : yX0_tabled.cls = RX0 ∧ yX0_tabled.cls ≠ "java/lang/invoke/MethodHandle" ∧ yX0_tabled.cls ≠ "java/lang/invoke/VarHandle" ∧ (parseMethodDescriptor yX0_tabled.desc).map (fun d => d.parameters.length) = some 1 := by decide +kernel
abbrev rm_X0_tabled : Room := { frames := 4, cells := 0, slots := 0, locals := 91 }
set_option maxHeartbeats 8000000 in
theorem met_X0_tabled (l : Launch) (E : us_E) (A : Nat → Prop) (B : Nat → Int → Nat) (F : Nat → Int) (M : Nat → Int → Int) (G : Nat → Int → Option Nat) (T : x_T) (i : Int) (hi : -2147483648 ≤ i ∧ i < 2147483648) : cMet l yX0_tabled cX0_tabled 2 (some .int) rm_X0_tabled A E [.ref (B 49 0), .int (zi i)] (fun H => XH E A B F M G T H) (qi A (fun r H => ∃ f31 : Int, ∃ m3 : Int → Int, ∃ m30 : Int → Int, ∃ m32 : Int → Int, ((0 ≤ i ∧ i ≤ 5) → SgOK (F 1) (M 0) (F 2) m3 ∧ r = sel (i < tnum (F 1) m3 (cnt m3 (mtc (M 56)) (M 200) (F 6))) (tb (F 1) m3 (cnt m3 (mtc (M 56)) (M 200) (F 6)) i) (-4)) ∧ (¬ (0 ≤ i ∧ i ≤ 5) → r = -1) ∧ XH E A B (va_up F 31 f31) (va_up (va_up (va_up M 3 m3) 30 m30) 32 m32) G T H)) := by
  refine cMet.of (by decide) (Nat.le_of_ble_eq_true rfl) (fun p e s m args below meth c C hnm hX hS ls hl => ?_)
  have C : Cx p s m args meth c A RX0 cX0_tabled 2 (some .int) E := C
  have hX : XH E A B F M G T s.heap := hX
  have hl : lv_has ls 2 [(0, .ref (B 49 0)), (1, .int (zi i))] := hl
  generalize hH : s.heap = H at hX
  have hS : va_S A s.heap H [] := by rw [← hH]; exact hS
  generalize hlocs : ([] : List Loc) = locs at hS ⊢
  obtain ⟨QQ, hQQ⟩ : ∃ zQQ, MQ below (qi A (fun r H => ∃ f31 : Int, ∃ m3 : Int → Int, ∃ m30 : Int → Int, ∃ m32 : Int → Int, ((0 ≤ i ∧ i ≤ 5) → SgOK (F 1) (M 0) (F 2) m3 ∧ r = sel (i < tnum (F 1) m3 (cnt m3 (mtc (M 56)) (M 200) (F 6))) (tb (F 1) m3 (cnt m3 (mtc (M 56)) (M 200) (F 6)) i) (-4)) ∧ (¬ (0 ≤ i ∧ i ≤ 5) → r = -1) ∧ XH E A B (va_up F 31 f31) (va_up (va_up (va_up M 3 m3) 30 m30) 32 m32) G T H)) args s (rm_X0_tabled).cells (rm_X0_tabled).slots A = zQQ := ⟨_, rfl⟩
  rw [hQQ]
  have rF6 : 0 ≤ F 6 ∧ F 6 ≤ 8 := hX.2.1 6 (0, 8) rfl
  refine lv_iload_n C.x C.b dX0_tabled_0 rfl (lv_at hl 1 rfl) ?_
  refine r_i2l C (by omega) dX0_tabled_1 ?_
  refine r_lconst C 0 rfl dX0_tabled_2 ?_
  refine r_ldc2 C 5 (by decide) q374 dX0_tabled_3 ?_
  refine r_callSi (As := [.long (zl i), .long (zl 0), .long (zl 5)]) (rest := []) (cells' := 0) (slots' := 0) C (met_X0_isIn l E A H i 0 5 (show -9223372036854775808 ≤ i ∧ i < 9223372036854775808 from (by omega)) (show -9223372036854775808 ≤ (0 : Int) ∧ (0 : Int) < 9223372036854775808 from (by omega)) (show -9223372036854775808 ≤ (5 : Int) ∧ (5 : Int) < 9223372036854775808 from (by omega))) (lw_S q117 q118 q86 q119) hd_X0_isIn rfl (by decide) rfl hS hl.1 rfl (Nat.le_of_ble_eq_true rfl) dX0_tabled_6 rfl rfl ⟨Nat.le_of_ble_eq_true rfl, Nat.le_of_ble_eq_true rfl⟩ (fun rr H locs hp hS => ?_)
  obtain ⟨hrr, hH⟩ := hp
  have hrr : rr = bI ((0 : Int) ≤ i ∧ i ≤ (5 : Int)) := hrr
  subst hrr
  have hX : XH E A B F M G T H := by rw [hH]; exact hX
  refine r_if_ne_b (tgt := 14) C dX0_tabled_9 (by decide) (fun c_1 => ?_) (fun c_1 => ?_)
  · refine lv_aload_n C.x C.b dX0_tabled_14 rfl (lv_at hl 0 rfl) ?_
    refine r_callVv (As := []) (rest := []) (cells' := 0) (slots' := 0) C (met_X0_layTabled l E A B F M G T) (lw_V q375 q377 qs21 q86 q378) hd_X0_layTabled rfl (by decide) (x_this C hX) hX hS hl.1 rfl (Nat.le_of_ble_eq_true rfl) dX0_tabled_15 rfl rfl ⟨Nat.le_of_ble_eq_true rfl, Nat.le_of_ble_eq_true rfl⟩ (fun H locs hp hS => ?_)
    obtain ⟨tk, sg, tt, sp, hsg, htn, htb, hts_, hX⟩ := hp
    replace hsg : SgOK ((F 1)) ((M 0)) ((F 2)) sg := hsg
    replace htn : tk = tnum ((F 1)) sg (cnt sg (mtc ((M 56))) ((M 200)) ((F 6))) := htn
    replace htb : ∀ j : Int, 0 ≤ j → j < tk → tt j = tb ((F 1)) sg (cnt sg (mtc ((M 56))) ((M 200)) ((F 6))) j := htb
    replace hts_ : ∀ s : Int, 0 ≤ s → s < 24 → sp s = tsp ((F 1)) sg (cnt sg (mtc ((M 56))) ((M 200)) ((F 6))) tk s := hts_
    have hX : XH E A B (va_up F 31 tk) (va_up (va_up (va_up M 3 sg) 30 tt) 32 sp) G T H := hX.to rfl rfl ((congrArg (fun z => va_up z 32 sp) ((congrArg (fun z => va_up z 30 tt) rfl).trans rfl)).trans rfl) rfl rfl
    refine lv_iload_n C.x C.b dX0_tabled_18 rfl (lv_at hl 1 rfl) ?_
    refine lv_aload_n C.x C.b dX0_tabled_19 rfl (lv_at hl 0 rfl) ?_
    refine x_gi C hX 31 (by decide) rfl q767 (fun _ h => h) tk rfl (b := (0, 6)) rfl dX0_tabled_20 (fun r20 => ?_)
    have r20 : 0 ≤ tk ∧ tk ≤ 6 := r20
    refine r_icmp_ge (tgt := 35) C (by omega) (by omega) dX0_tabled_23 (by decide) (fun c_2 => ?_) (fun c_2 => ?_)
    · refine r_bipush C (by decide) dX0_tabled_35 ?_
      rw [← hQQ]
      exact r_iret C hS (Nat.le_of_ble_eq_true rfl) (Nat.le_of_ble_eq_true rfl) dX0_tabled_37 ⟨tk, sg, tt, sp, (fun _ => ⟨hsg, by first | (rw [sel_t (by omega)]; exact htb i (by omega) (by omega)) | rw [sel_f (by omega)]⟩), (fun q => absurd (by assumption) q), hX⟩
    · refine lv_aload_n C.x C.b dX0_tabled_26 rfl (lv_at hl 0 rfl) ?_
      refine x_ga C hX 30 (by decide) rfl q766 (fun _ h => h) dX0_tabled_27 ?_
      refine lv_iload_n C.x C.b dX0_tabled_30 rfl (lv_at hl 1 rfl) ?_
      refine x_li1 C hX 30 rfl (by decide) rfl (show 0 ≤ i ∧ i < 6 from (by omega)) (by decide) (tt i) rfl dX0_tabled_31 (fun r31 => ?_)
      have r31 : 0 ≤ tt i ∧ tt i ≤ 23 := r31 (0, 23) rfl
      refine lv_goto (tgt := 37) C.x C.b dX0_tabled_32 (by decide) ?_
      rw [← hQQ]
      exact r_iret C hS (Nat.le_of_ble_eq_true rfl) (Nat.le_of_ble_eq_true rfl) dX0_tabled_37 ⟨tk, sg, tt, sp, (fun _ => ⟨hsg, by first | (rw [sel_t (by omega)]; exact htb i (by omega) (by omega)) | rw [sel_f (by omega)]⟩), (fun q => absurd (by assumption) q), hX⟩
  · refine r_const C dX0_tabled_12 ?_
    rw [← hQQ]
    exact r_iret C hS (Nat.le_of_ble_eq_true rfl) (Nat.le_of_ble_eq_true rfl) dX0_tabled_13 ⟨(F 31), (M 3), (M 30), (M 32), (fun q => absurd q (by assumption)), (fun _ => rfl), (hX.to rfl ((up_id F (k := 31) (a := (F 31)) rfl).symm.trans rfl) ((((up_id M (k := 3) (a := (M 3)) rfl).symm.trans rfl).trans ((up_id (va_up M 3 (M 3)) (k := 30) (a := (M 30)) rfl).symm.trans rfl)).trans ((up_id (va_up (va_up M 3 (M 3)) 30 (M 30)) (k := 32) (a := (M 32)) rfl).symm.trans rfl)) rfl rfl)⟩

theorem hd_X0_take : yX0_take.cls = RX0 ∧ yX0_take.cls ≠ "java/lang/invoke/MethodHandle" ∧ yX0_take.cls ≠ "java/lang/invoke/VarHandle" ∧ (parseMethodDescriptor yX0_take.desc).map (fun d => d.parameters.length) = some 1 := by decide +kernel
abbrev rm_X0_take : Room := { frames := 0, cells := 0, slots := 0, locals := 0 }
set_option maxHeartbeats 8000000 in
theorem met_X0_take (l : Launch) (E : us_E) (A : Nat → Prop) (B : Nat → Int → Nat) (F : Nat → Int) (M : Nat → Int → Int) (G : Nat → Int → Option Nat) (T : x_T) (v : Int) (hv : 0 ≤ v ∧ v < 2147483648) : cMet l yX0_take cX0_take 3 none rm_X0_take A E [.ref (B 49 0), .int (zi v)] (fun H => XH E A B F M G T H) (qv A (fun H => ∃ m33 : Int → Int, (∀ j : Int, 0 ≤ j → j < F 31 → m33 j = snd v j) ∧ XH E A B F (va_up M 33 m33) G T H)) := by
  refine cMet.of (by decide) (Nat.le_of_ble_eq_true rfl) (fun p e s m args below meth c C hnm hX hS ls hl => ?_)
  have C : Cx p s m args meth c A RX0 cX0_take 3 none E := C
  have hX : XH E A B F M G T s.heap := hX
  have hl : lv_has ls 3 [(0, .ref (B 49 0)), (1, .int (zi v))] := hl
  generalize hH : s.heap = H at hX
  have hS : va_S A s.heap H [] := by rw [← hH]; exact hS
  generalize hlocs : ([] : List Loc) = locs at hS ⊢
  obtain ⟨QQ, hQQ⟩ : ∃ zQQ, MQ below (qv A (fun H => ∃ m33 : Int → Int, (∀ j : Int, 0 ≤ j → j < F 31 → m33 j = snd v j) ∧ XH E A B F (va_up M 33 m33) G T H)) args s (rm_X0_take).cells (rm_X0_take).slots A = zQQ := ⟨_, rfl⟩
  rw [hQQ]
  have rF31 : 0 ≤ F 31 ∧ F 31 ≤ 6 := hX.2.1 31 (0, 6) rfl
  refine r_const C dX0_take_0 ?_
  refine lv_istore_n (lv' := [(2, .int (zi 0)), (0, .ref (B 49 0)), (1, .int (zi v))]) C.x C.b dX0_take_1 rfl hl (by decide) rfl (fun ls hl => ?_)
  have L2 : ∀ (fu : Nat) (v2 : Int) (m33 : Int → Int) (h2 : 0 ≤ v2 ∧ v2 ≤ F 31) (ha : ∀ j : Int, 0 ≤ j → j < v2 → m33 j = snd v j) (hm : Int.toNat (F 31 - v2) < fu) (H : Heap) (locs : List Loc) (ls : Array Slot) (hX : XH E A B F (va_up M 33 m33) G T H) (hS : va_S A s.heap H locs) (hl : lv_has ls 3 [(0, .ref (B 49 0)), (1, .int (zi v)), (2, .int (zi v2))]), W p l e rm_X0_take s m args below meth c H locs 0 0 QQ (F0 m 2 ls []) := by
    intro fu
    induction fu with
    | zero => intro v2 m33 h2 ha hm; exact absurd hm (Nat.not_lt_zero _)
    | succ fu ih2 =>
      intro v2 m33 h2 ha hm H locs ls hX hS hl
      refine lv_iload_n C.x C.b dX0_take_2 rfl (lv_at hl 2 rfl) ?_
      refine lv_aload_n C.x C.b dX0_take_3 rfl (lv_at hl 0 rfl) ?_
      refine x_gi C hX 31 (by decide) rfl q767 (fun _ h => h) (F 31) rfl (b := (0, 6)) rfl dX0_take_4 (fun _ => ?_)
      refine r_icmp_ge (tgt := 29) C (by omega) (by omega) dX0_take_7 (by decide) (fun c_1 => ?_) (fun c_1 => ?_)
      · rw [← hQQ]
        exact r_vret C hS (Nat.le_of_ble_eq_true rfl) (Nat.le_of_ble_eq_true rfl) dX0_take_29 ⟨m33, (fun j a b => ha j a (by omega)), hX⟩
      · refine lv_aload_n C.x C.b dX0_take_10 rfl (lv_at hl 0 rfl) ?_
        refine x_ga C hX 33 (by decide) rfl q769 (fun _ h => h) dX0_take_11 ?_
        refine lv_iload_n C.x C.b dX0_take_14 rfl (lv_at hl 2 rfl) ?_
        refine lv_iload_n C.x C.b dX0_take_15 rfl (lv_at hl 1 rfl) ?_
        refine r_const C dX0_take_16 ?_
        refine lv_iload_n C.x C.b dX0_take_17 rfl (lv_at hl 2 rfl) ?_
        refine r_imul C dX0_take_18 ?_
        refine r_ishr C (by omega) (by omega) rfl dX0_take_19 ?_
        refine r_const C dX0_take_20 ?_
        refine r_iand C (zi_and3 _) dX0_take_21 ?_
        refine x_si1 C hX hS 33 rfl (by decide) rfl (show 0 ≤ v2 ∧ v2 < 6 from (by omega)) (by decide) (fun b hb => by cases hb; exact (show 0 ≤ (v / 2 ^ (2 * v2).toNat) % 4 ∧ (v / 2 ^ (2 * v2).toNat) % 4 ≤ 3 from (by omega))) (M' := (va_up M 33 (fup m33 v2 ((v / 2 ^ (2 * v2).toNat) % 4)))) (up_up _ _ _ _) dX0_take_22 (fun H locs hX hS => ?_)
        refine r_iinc (lv' := [(2, .int (zi (v2 + 1))), (0, .ref (B 49 0)), (1, .int (zi v))]) C dX0_take_23 hl (k := 2) rfl (by decide) rfl (fun ls hl => ?_)
        refine lv_goto (tgt := 2) C.x C.b dX0_take_26 (by decide) ?_
        exact ih2 (v2 + 1) (fup m33 v2 ((v / 2 ^ (2 * v2).toNat) % 4)) (by omega) (fup_st (P := fun j x => x = snd v j) ha rfl) (by omega) H locs ls hX hS (lv_sub hl [1, 2, 0] rfl)
  exact L2 _ 0 (M 33) (by omega) (fun j a b => absurd a (by omega)) (Nat.lt_succ_self _) H locs ls (hX.to rfl rfl ((up_id M (k := 33) (a := (M 33)) rfl).symm.trans rfl) rfl rfl) hS (lv_sub hl [1, 2, 0] rfl)

theorem hd_X0_number : yX0_number.cls = RX0 ∧ yX0_number.cls ≠ "java/lang/invoke/MethodHandle" ∧ yX0_number.cls ≠ "java/lang/invoke/VarHandle" ∧ (parseMethodDescriptor yX0_number.desc).map (fun d => d.parameters.length) = some 0 := by decide +kernel
abbrev rm_X0_number : Room := { frames := 0, cells := 0, slots := 0, locals := 0 }
set_option maxHeartbeats 8000000 in
theorem met_X0_number (l : Launch) (E : us_E) (A : Nat → Prop) (B : Nat → Int → Nat) (F : Nat → Int) (M : Nat → Int → Int) (G : Nat → Int → Option Nat) (T : x_T) : cMet l yX0_number cX0_number 3 (some .int) rm_X0_number A E [.ref (B 49 0)] (fun H => XH E A B F M G T H) (qi A (fun r H => DigS r (F 31) (M 33) ∧ (0 ≤ r ∧ r ≤ 4095) ∧ XH E A B F M G T H)) := by
  refine cMet.of (by decide) (Nat.le_of_ble_eq_true rfl) (fun p e s m args below meth c C hnm hX hS ls hl => ?_)
  have C : Cx p s m args meth c A RX0 cX0_number 3 (some .int) E := C
  have hX : XH E A B F M G T s.heap := hX
  have hl : lv_has ls 3 [(0, .ref (B 49 0))] := hl
  generalize hH : s.heap = H at hX
  have hS : va_S A s.heap H [] := by rw [← hH]; exact hS
  generalize hlocs : ([] : List Loc) = locs at hS ⊢
  obtain ⟨QQ, hQQ⟩ : ∃ zQQ, MQ below (qi A (fun r H => DigS r (F 31) (M 33) ∧ (0 ≤ r ∧ r ≤ 4095) ∧ XH E A B F M G T H)) args s (rm_X0_number).cells (rm_X0_number).slots A = zQQ := ⟨_, rfl⟩
  rw [hQQ]
  have rF31 : 0 ≤ F 31 ∧ F 31 ≤ 6 := hX.2.1 31 (0, 6) rfl
  refine r_const C dX0_number_0 ?_
  refine lv_istore_n (lv' := [(1, .int (zi 0)), (0, .ref (B 49 0))]) C.x C.b dX0_number_1 rfl hl (by decide) rfl (fun ls hl => ?_)
  refine r_const C dX0_number_2 ?_
  refine lv_istore_n (lv' := [(2, .int (zi 0)), (1, .int (zi 0)), (0, .ref (B 49 0))]) C.x C.b dX0_number_3 rfl hl (by decide) rfl (fun ls hl => ?_)
  have L4 : ∀ (fu : Nat) (v1 : Int) (v2 : Int) (h2 : 0 ≤ v2 ∧ v2 ≤ F 31) (hD : DigS v1 v2 (M 33)) (hm : Int.toNat (F 31 - v2) < fu) (H : Heap) (locs : List Loc) (ls : Array Slot) (hX : XH E A B F M G T H) (hS : va_S A s.heap H locs) (hl : lv_has ls 3 [(0, .ref (B 49 0)), (1, .int (zi v1)), (2, .int (zi v2))]), W p l e rm_X0_number s m args below meth c H locs 0 0 QQ (F0 m 4 ls []) := by
    intro fu
    induction fu with
    | zero => intro v1 v2 h2 hD hm; exact absurd hm (Nat.not_lt_zero _)
    | succ fu ih4 =>
      intro v1 v2 h2 hD hm H locs ls hX hS hl
      refine lv_iload_n C.x C.b dX0_number_4 rfl (lv_at hl 2 rfl) ?_
      refine lv_aload_n C.x C.b dX0_number_5 rfl (lv_at hl 0 rfl) ?_
      refine x_gi C hX 31 (by decide) rfl q767 (fun _ h => h) (F 31) rfl (b := (0, 6)) rfl dX0_number_6 (fun _ => ?_)
      refine r_icmp_ge (tgt := 31) C (by omega) (by omega) dX0_number_9 (by decide) (fun c_1 => ?_) (fun c_1 => ?_)
      · have e2 : v2 = F 31 := by omega
        rw [e2] at hD
        have hdl := hD.le ⟨by omega, by omega⟩
        refine lv_iload_n C.x C.b dX0_number_31 rfl (lv_at hl 1 rfl) ?_
        rw [← hQQ]
        exact r_iret C hS (Nat.le_of_ble_eq_true rfl) (Nat.le_of_ble_eq_true rfl) dX0_number_32 ⟨hD, hdl, hX⟩
      · have r33 : 0 ≤ M 33 v2 ∧ M 33 v2 ≤ 3 := hX.2.2.1 33 (0, 3) rfl v2
        have hdl := hD.le ⟨by omega, by omega⟩
        have hp29 := p2_12 (k := 2 * v2) (by omega)
        have hmm := mul_r2 (x := M 33 v2) (p := 2 ^ (2 * v2).toNat) ⟨by omega, by omega⟩ ⟨by omega, by omega⟩
        refine lv_iload_n C.x C.b dX0_number_12 rfl (lv_at hl 1 rfl) ?_
        refine lv_aload_n C.x C.b dX0_number_13 rfl (lv_at hl 0 rfl) ?_
        refine x_ga C hX 33 (by decide) rfl q769 (fun _ h => h) dX0_number_14 ?_
        refine lv_iload_n C.x C.b dX0_number_17 rfl (lv_at hl 2 rfl) ?_
        refine x_li1 C hX 33 rfl (by decide) rfl (show 0 ≤ v2 ∧ v2 < 6 from (by omega)) (by decide) (M 33 v2) rfl dX0_number_18 (fun r18 => ?_)
        have r18 : 0 ≤ M 33 v2 ∧ M 33 v2 ≤ 3 := r18 (0, 3) rfl
        refine r_const C dX0_number_19 ?_
        refine lv_iload_n C.x C.b dX0_number_20 rfl (lv_at hl 2 rfl) ?_
        refine r_imul C dX0_number_21 ?_
        refine r_ishl C (by omega) (by omega) rfl dX0_number_22 ?_
        refine r_ior (v := oo v1 ((M 33 v2) * 2 ^ (2 * v2).toNat)) C (zi_or (by omega) (by omega)) dX0_number_23 ?_
        refine lv_istore_n (lv' := [(1, .int (zi (oo v1 ((M 33 v2) * 2 ^ (2 * v2).toNat)))), (0, .ref (B 49 0)), (2, .int (zi v2))]) C.x C.b dX0_number_24 rfl hl (by decide) rfl (fun ls hl => ?_)
        refine r_iinc (lv' := [(2, .int (zi (v2 + 1))), (1, .int (zi (oo v1 ((M 33 v2) * 2 ^ (2 * v2).toNat)))), (0, .ref (B 49 0))]) C dX0_number_25 hl (k := 2) rfl (by decide) rfl (fun ls hl => ?_)
        refine lv_goto (tgt := 4) C.x C.b dX0_number_28 (by decide) ?_
        exact ih4 (oo v1 ((M 33 v2) * 2 ^ (2 * v2).toNat)) (v2 + 1) (by omega) (hD.st h2.1 r33 rfl) (by omega) H locs ls hX hS (lv_sub hl [2, 1, 0] rfl)
  exact L4 _ 0 0 (by omega) DigS.zero (Nat.lt_succ_self _) H locs ls hX hS (lv_sub hl [2, 1, 0] rfl)

theorem oo_4 {v x : Int} (hv : 0 ≤ v) (hx : 0 ≤ x ∧ x ≤ 3) : oo (v * 4) x = 4 * v + x := by
  have h := oo_add (v := x) (x := v) (i := 2) ⟨hx.1, by show x < (2 : Int) ^ (2 : Int).toNat; show x < 4; omega⟩ hv
  have e : (2 : Int) ^ (2 : Int).toNat = 4 := rfl
  rw [e] at h
  have cm : oo (v * 4) x = oo x (v * 4) := by unfold oo; rw [Nat.or_comm]
  rw [cm, h]; omega

theorem hd_X0_isWord : yX0_isWord.cls = RX0 ∧ yX0_isWord.cls ≠ "java/lang/invoke/MethodHandle" ∧ yX0_isWord.cls ≠ "java/lang/invoke/VarHandle" ∧ (parseMethodDescriptor yX0_isWord.desc).map (fun d => d.parameters.length) = some 1 := by decide +kernel
abbrev rm_X0_isWord : Room := { frames := 0, cells := 0, slots := 0, locals := 0 }
set_option maxHeartbeats 8000000 in
theorem met_X0_isWord (l : Launch) (E : us_E) (A : Nat → Prop) (B : Nat → Int → Nat) (F : Nat → Int) (M : Nat → Int → Int) (G : Nat → Int → Option Nat) (T : x_T) (i : Int) (hi : 0 ≤ i ∧ i < F 35) : cMet l yX0_isWord cX0_isWord 7 (some .boolean) rm_X0_isWord A E [.ref (B 49 0), .ref (B 54 i)] (fun H => XH E A B F M G T H) (qi A (fun r H => (r = bI (M 53 (4096 * M 202 i + rowS (fun j => M 33 (M 54 (6 * i + j))) (M 202 i)) = 1)) ∧ XH E A B F M G T H)) := by
  refine cMet.of (by decide) (Nat.le_of_ble_eq_true rfl) (fun p e s m args below meth c C hnm hX hS ls hl => ?_)
  have C : Cx p s m args meth c A RX0 cX0_isWord 7 (some .boolean) E := C
  have hX : XH E A B F M G T s.heap := hX
  have hl : lv_has ls 7 [(0, .ref (B 49 0)), (1, .ref (B 54 i))] := hl
  generalize hH : s.heap = H at hX
  have hS : va_S A s.heap H [] := by rw [← hH]; exact hS
  generalize hlocs : ([] : List Loc) = locs at hS ⊢
  obtain ⟨QQ, hQQ⟩ : ∃ zQQ, MQ below (qi A (fun r H => (r = bI (M 53 (4096 * M 202 i + rowS (fun j => M 33 (M 54 (6 * i + j))) (M 202 i)) = 1)) ∧ XH E A B F M G T H)) args s (rm_X0_isWord).cells (rm_X0_isWord).slots A = zQQ := ⟨_, rfl⟩
  rw [hQQ]
  have r202 : 0 ≤ M 202 i ∧ M 202 i ≤ 6 := hX.2.2.1 202 (0, 6) rfl i
  have r33a : ∀ k, 0 ≤ M 33 k ∧ M 33 k ≤ 3 := fun k => hX.2.2.1 33 (0, 3) rfl k
  refine r_const C dX0_isWord_0 ?_
  refine lv_istore_n (lv' := [(2, .int (zi 0)), (0, .ref (B 49 0)), (1, .ref (B 54 i))]) C.x C.b dX0_isWord_1 rfl hl (by decide) rfl (fun ls hl => ?_)
  refine lv_aload_n C.x C.b dX0_isWord_2 rfl (lv_at hl 2 rfl) ?_
  refine lv_astore_n (lv' := [(3, .ref (B 54 i)), (2, .int (zi 0)), (0, .ref (B 49 0)), (1, .ref (B 54 i))]) C.x C.b dX0_isWord_3 rfl hl (by decide) rfl (fun ls hl => ?_)
  refine lv_aload_n C.x C.b dX0_isWord_4 rfl (lv_at hl 0 rfl) ?_
  have rl5 : 0 ≤ M 202 i ∧ M 202 i ≤ 6 := hX.2.2.1 202 (0, 6) rfl _
  refine x_len C hX 54 (i := i) rfl rfl (xpr_54 (show 0 ≤ i ∧ i < F 35 from (by omega))) (by decide) (show 0 ≤ i ∧ i < F 35 from (by omega)).1 rfl (M 202 i) (by omega) dX0_isWord_5 ?_
  refine lv_istore (lv' := [(4, .int (zi (M 202 i))), (3, .ref (B 54 i)), (2, .int (zi 0)), (0, .ref (B 49 0)), (1, .ref (B 54 i))]) C.x C.b dX0_isWord_6 hl (by decide) rfl (fun ls hl => ?_)
  refine r_const C dX0_isWord_8 ?_
  refine lv_istore (lv' := [(5, .int (zi 0)), (4, .int (zi (M 202 i))), (3, .ref (B 54 i)), (2, .int (zi 0)), (0, .ref (B 49 0)), (1, .ref (B 54 i))]) C.x C.b dX0_isWord_9 hl (by decide) rfl (fun ls hl => ?_)
  have L11 : ∀ (fu : Nat) (v2 : Int) (v5 : Int) (h5 : 0 ≤ v5 ∧ v5 ≤ M 202 i) (hv : v2 = rowS (fun j => M 33 (M 54 (6 * i + j))) v5) (hvr : 0 ≤ v2 ∧ v2 ≤ 4095) (hm : Int.toNat (M 202 i - v5) < fu) (H : Heap) (locs : List Loc) (ls : Array Slot) (hX : XH E A B F M G T H) (hS : va_S A s.heap H locs) (hl : lv_has ls 7 [(0, .ref (B 49 0)), (1, .ref (B 54 i)), (2, .int (zi v2)), (3, .ref (B 54 i)), (4, .int (zi (M 202 i))), (5, .int (zi v5))]), W p l e rm_X0_isWord s m args below meth c H locs 0 0 QQ (F0 m 11 ls []) := by
    intro fu
    induction fu with
    | zero => intro v2 v5 h5 hv hvr hm; exact absurd hm (Nat.not_lt_zero _)
    | succ fu ih11 =>
      intro v2 v5 h5 hv hvr hm H locs ls hX hS hl
      refine lv_iload C.x C.b dX0_isWord_11 (lv_at hl 5 rfl) ?_
      refine lv_iload C.x C.b dX0_isWord_13 (lv_at hl 4 rfl) ?_
      refine r_icmp_ge (tgt := 42) C (by omega) (by omega) dX0_isWord_15 (by decide) (fun c_1 => ?_) (fun c_1 => ?_)
      · have e5 : v5 = M 202 i := by omega
        rw [e5] at hv
        refine lv_aload_n C.x C.b dX0_isWord_42 rfl (lv_at hl 0 rfl) ?_
        refine x_ga C hX 27 (by decide) rfl q763 (fun _ h => h) dX0_isWord_43 ?_
        refine lv_aload_n C.x C.b dX0_isWord_46 rfl (lv_at hl 1 rfl) ?_
        refine x_len C hX 54 (i := i) rfl rfl (xpr_54 (show 0 ≤ i ∧ i < F 35 from (by omega))) (by decide) (show 0 ≤ i ∧ i < F 35 from (by omega)).1 rfl (M 202 i) (by omega) dX0_isWord_47 ?_
        refine x_la C hX 27 rfl rfl rfl (by decide) rfl rfl (show 0 ≤ (M 202 i) ∧ (M 202 i) < 7 from (by omega)) (by omega) (by decide) dX0_isWord_48 ?_
        refine lv_iload_n C.x C.b dX0_isWord_49 rfl (lv_at hl 2 rfl) ?_
        refine x_lz C hX 53 rfl (by decide) rfl (show 0 ≤ (M 202 i) ∧ (M 202 i) < 7 from (by omega)) (show 0 ≤ v2 ∧ v2 < 4096 from (by omega)) (by decide) (M 53 (4096 * (M 202 i) + v2)) rfl dX0_isWord_50 (fun r50 => ?_)
        have r50 : 0 ≤ M 53 (4096 * (M 202 i) + v2) ∧ M 53 (4096 * (M 202 i) + v2) ≤ 1 := r50 (0, 1) rfl
        rw [← hQQ]
        exact r_zret C (by omega) hS (Nat.le_of_ble_eq_true rfl) (Nat.le_of_ble_eq_true rfl) dX0_isWord_51 ⟨(by rw [← hv]; exact (bI_of (by omega)).symm), hX⟩
      · have hov := oo_4 (v := v2) (x := M 33 (M 54 (6 * i + v5))) hvr.1 (r33a _)
        refine lv_aload_n C.x C.b dX0_isWord_18 rfl (lv_at hl 3 rfl) ?_
        refine lv_iload C.x C.b dX0_isWord_19 (lv_at hl 5 rfl) ?_
        refine x_ld C hX 54 (i := i) rfl rfl (xpr_54 (show 0 ≤ i ∧ i < F 35 from (by omega))) (by decide) (show 0 ≤ i ∧ i < F 35 from (by omega)).1 rfl (show 0 ≤ v5 ∧ v5 < (((M 202 i).toNat : Nat) : Int) from (by omega)) (by omega) (by omega) (M 54 (6 * i + v5)) rfl dX0_isWord_21 (fun r21 => ?_)
        have r21 : 0 ≤ M 54 (6 * i + v5) ∧ M 54 (6 * i + v5) ≤ 5 := r21 (0, 5) rfl
        refine lv_istore (lv' := [(6, .int (zi (M 54 (6 * i + v5)))), (0, .ref (B 49 0)), (1, .ref (B 54 i)), (2, .int (zi v2)), (3, .ref (B 54 i)), (4, .int (zi (M 202 i))), (5, .int (zi v5))]) C.x C.b dX0_isWord_22 hl (by decide) rfl (fun ls hl => ?_)
        refine lv_iload_n C.x C.b dX0_isWord_24 rfl (lv_at hl 3 rfl) ?_
        refine r_const C dX0_isWord_25 ?_
        refine r_ishlc (q := 4) C rfl (by decide) (by omega) rfl dX0_isWord_26 ?_
        refine lv_aload_n C.x C.b dX0_isWord_27 rfl (lv_at hl 1 rfl) ?_
        refine x_ga C hX 33 (by decide) rfl q769 (fun _ h => h) dX0_isWord_28 ?_
        refine lv_iload C.x C.b dX0_isWord_31 (lv_at hl 0 rfl) ?_
        refine x_li1 C hX 33 rfl (by decide) rfl (show 0 ≤ (M 54 (6 * i + v5)) ∧ (M 54 (6 * i + v5)) < 6 from (by omega)) (by decide) (M 33 (M 54 (6 * i + v5))) rfl dX0_isWord_33 (fun r33 => ?_)
        have r33 : 0 ≤ M 33 (M 54 (6 * i + v5)) ∧ M 33 (M 54 (6 * i + v5)) ≤ 3 := r33 (0, 3) rfl
        refine r_ior (v := oo (v2 * 4) (M 33 (M 54 (6 * i + v5)))) C (zi_or (by omega) (by omega)) dX0_isWord_34 ?_
        refine lv_istore_n (lv' := [(2, .int (zi (oo (v2 * 4) (M 33 (M 54 (6 * i + v5)))))), (6, .int (zi (M 54 (6 * i + v5)))), (0, .ref (B 49 0)), (1, .ref (B 54 i)), (3, .ref (B 54 i)), (4, .int (zi (M 202 i))), (5, .int (zi v5))]) C.x C.b dX0_isWord_35 rfl hl (by decide) rfl (fun ls hl => ?_)
        refine r_iinc (lv' := [(5, .int (zi (v5 + 1))), (2, .int (zi (oo (v2 * 4) (M 33 (M 54 (6 * i + v5)))))), (6, .int (zi (M 54 (6 * i + v5)))), (0, .ref (B 49 0)), (1, .ref (B 54 i)), (3, .ref (B 54 i)), (4, .int (zi (M 202 i)))]) C dX0_isWord_36 hl (k := 6) rfl (by decide) rfl (fun ls hl => ?_)
        refine lv_goto (tgt := 11) C.x C.b dX0_isWord_39 (by decide) ?_
        exact ih11 (oo (v2 * 4) (M 33 (M 54 (6 * i + v5)))) (v5 + 1) (by omega) (by rw [hov, rowS_s h5.1, ← hv]) (by rw [hov, hv, ← rowS_s (f := (fun j => M 33 (M 54 (6 * i + j)))) h5.1]; have := rowS_r6 (f := (fun j => M 33 (M 54 (6 * i + j)))) (n := v5 + 1) ⟨by omega, by omega⟩ (fun j _ _ => r33a _); omega) (by omega) H locs ls hX hS (lv_sub hl [3, 4, 1, 5, 6, 0] rfl)
  exact L11 _ 0 0 (by omega) rfl (by omega) (Nat.lt_succ_self _) H locs ls hX hS (lv_sub hl [4, 5, 3, 2, 1, 0] rfl)

theorem hd_X0_reads : yX0_reads.cls = RX0 ∧ yX0_reads.cls ≠ "java/lang/invoke/MethodHandle" ∧ yX0_reads.cls ≠ "java/lang/invoke/VarHandle" ∧ (parseMethodDescriptor yX0_reads.desc).map (fun d => d.parameters.length) = some 0 := by decide +kernel
abbrev rm_X0_reads : Room := { frames := 1, cells := 0, slots := 0, locals := 26 }
set_option maxHeartbeats 8000000 in
theorem met_X0_reads (l : Launch) (E : us_E) (A : Nat → Prop) (B : Nat → Int → Nat) (F : Nat → Int) (M : Nat → Int → Int) (G : Nat → Int → Option Nat) (T : x_T) : cMet l yX0_reads cX0_reads 3 (some .int) rm_X0_reads A E [.ref (B 49 0)] (fun H => XH E A B F M G T H) (qi A (fun r H => (0 ≤ isum (fun i => bI (M 53 (4096 * M 202 i + rowS (fun j => M 33 (M 54 (6 * i + j))) (M 202 i)) = 1)) (F 35) ∧ isum (fun i => bI (M 53 (4096 * M 202 i + rowS (fun j => M 33 (M 54 (6 * i + j))) (M 202 i)) = 1)) (F 35) ≤ F 35) ∧ (r = isum (fun i => bI (M 53 (4096 * M 202 i + rowS (fun j => M 33 (M 54 (6 * i + j))) (M 202 i)) = 1)) (F 35)) ∧ XH E A B F M G T H)) := by
  refine cMet.of (by decide) (Nat.le_of_ble_eq_true rfl) (fun p e s m args below meth c C hnm hX hS ls hl => ?_)
  have C : Cx p s m args meth c A RX0 cX0_reads 3 (some .int) E := C
  have hX : XH E A B F M G T s.heap := hX
  have hl : lv_has ls 3 [(0, .ref (B 49 0))] := hl
  generalize hH : s.heap = H at hX
  have hS : va_S A s.heap H [] := by rw [← hH]; exact hS
  generalize hlocs : ([] : List Loc) = locs at hS ⊢
  obtain ⟨QQ, hQQ⟩ : ∃ zQQ, MQ below (qi A (fun r H => (0 ≤ isum (fun i => bI (M 53 (4096 * M 202 i + rowS (fun j => M 33 (M 54 (6 * i + j))) (M 202 i)) = 1)) (F 35) ∧ isum (fun i => bI (M 53 (4096 * M 202 i + rowS (fun j => M 33 (M 54 (6 * i + j))) (M 202 i)) = 1)) (F 35) ≤ F 35) ∧ (r = isum (fun i => bI (M 53 (4096 * M 202 i + rowS (fun j => M 33 (M 54 (6 * i + j))) (M 202 i)) = 1)) (F 35)) ∧ XH E A B F M G T H)) args s (rm_X0_reads).cells (rm_X0_reads).slots A = zQQ := ⟨_, rfl⟩
  rw [hQQ]
  have rF35 : 0 ≤ F 35 ∧ F 35 ≤ 192 := hX.2.1 35 (0, 192) rfl
  refine r_const C dX0_reads_0 ?_
  refine lv_istore_n (lv' := [(1, .int (zi 0)), (0, .ref (B 49 0))]) C.x C.b dX0_reads_1 rfl hl (by decide) rfl (fun ls hl => ?_)
  refine r_const C dX0_reads_2 ?_
  refine lv_istore_n (lv' := [(2, .int (zi 0)), (1, .int (zi 0)), (0, .ref (B 49 0))]) C.x C.b dX0_reads_3 rfl hl (by decide) rfl (fun ls hl => ?_)
  have L4 : ∀ (fu : Nat) (v1 : Int) (v2 : Int) (h2 : 0 ≤ v2 ∧ v2 ≤ F 35) (ha : v1 = isum (fun i => bI (M 53 (4096 * M 202 i + rowS (fun j => M 33 (M 54 (6 * i + j))) (M 202 i)) = 1)) v2) (hm : Int.toNat (F 35 - v2) < fu) (H : Heap) (locs : List Loc) (ls : Array Slot) (hX : XH E A B F M G T H) (hS : va_S A s.heap H locs) (hl : lv_has ls 3 [(0, .ref (B 49 0)), (1, .int (zi v1)), (2, .int (zi v2))]), W p l e rm_X0_reads s m args below meth c H locs 0 0 QQ (F0 m 4 ls []) := by
    intro fu
    induction fu with
    | zero => intro v1 v2 h2 ha hm; exact absurd hm (Nat.not_lt_zero _)
    | succ fu ih4 =>
      intro v1 v2 h2 ha hm H locs ls hX hS hl
      refine lv_iload_n C.x C.b dX0_reads_4 rfl (lv_at hl 2 rfl) ?_
      refine lv_aload_n C.x C.b dX0_reads_5 rfl (lv_at hl 0 rfl) ?_
      refine x_gi C hX 35 (by decide) rfl q771 (fun _ h => h) (F 35) rfl (b := (0, 192)) rfl dX0_reads_6 (fun _ => ?_)
      refine r_icmp_ge (tgt := 39) C (by omega) (by omega) dX0_reads_9 (by decide) (fun c_1 => ?_) (fun c_1 => ?_)
      · refine lv_iload_n C.x C.b dX0_reads_39 rfl (lv_at hl 1 rfl) ?_
        rw [← hQQ]
        exact r_iret C hS (Nat.le_of_ble_eq_true rfl) (Nat.le_of_ble_eq_true rfl) dX0_reads_40 ⟨(isum_bI (P := fun i => M 53 (4096 * M 202 i + rowS (fun j => M 33 (M 54 (6 * i + j))) (M 202 i)) = 1) rF35.1), (by rw [ha, show v2 = F 35 by omega]), hX⟩
      · refine lv_iload_n C.x C.b dX0_reads_12 rfl (lv_at hl 1 rfl) ?_
        refine lv_aload_n C.x C.b dX0_reads_13 rfl (lv_at hl 0 rfl) ?_
        refine lv_aload_n C.x C.b dX0_reads_14 rfl (lv_at hl 0 rfl) ?_
        refine x_ga C hX 34 (by decide) rfl q770 (fun _ h => h) dX0_reads_15 ?_
        refine lv_iload_n C.x C.b dX0_reads_18 rfl (lv_at hl 2 rfl) ?_
        refine x_la C hX 34 rfl rfl rfl (by decide) rfl rfl (show 0 ≤ v2 ∧ v2 < F 35 from (by omega)) (by omega) (by decide) dX0_reads_19 ?_
        refine r_callVi (As := [.ref (B 54 v2)]) (rest := [.int (zi v1)]) (cells' := 0) (slots' := 0) C (met_X0_isWord l E A B F M G T v2 (show 0 ≤ v2 ∧ v2 < (F 35) from (by omega))) (lw_V q399 q401 qs26 q86 q402) hd_X0_isWord rfl (by decide) (x_this C hX) hX hS hl.1 rfl (Nat.le_of_ble_eq_true rfl) dX0_reads_20 rfl rfl ⟨Nat.le_of_ble_eq_true rfl, Nat.le_of_ble_eq_true rfl⟩ (fun rr H locs hp hS => ?_)
        obtain ⟨hrr, hX⟩ := hp
        have hrr : rr = bI ((M 53) (4096 * (M 202) v2 + rowS (fun j => (M 33) ((M 54) (6 * v2 + j))) ((M 202) v2)) = 1) := hrr
        subst hrr
        have J31_2 : ∀ (t1 : Int) (ht1 : t1 = bI ((M 53) (4096 * (M 202) v2 + rowS (fun j => (M 33) ((M 54) (6 * v2 + j))) ((M 202) v2)) = 1)) (H : Heap) (locs : List Loc) (ls : Array Slot) (hX : XH E A B F M G T H) (hS : va_S A s.heap H locs) (hl : lv_has ls 3 [(0, .ref (B 49 0)), (1, .int (zi v1)), (2, .int (zi v2))]), W p l e rm_X0_reads s m args below meth c H locs 0 0 QQ (F0 m 31 ls [.int (zi t1), .int (zi v1)]) := by
          intro t1 ht1 H locs ls hX hS hl
          subst ht1
          refine r_iadd C dX0_reads_31 ?_
          refine lv_istore_n (lv' := [(1, .int (zi (v1 + (bI ((M 53) (4096 * (M 202) v2 + rowS (fun j => (M 33) ((M 54) (6 * v2 + j))) ((M 202) v2)) = 1))))), (0, .ref (B 49 0)), (2, .int (zi v2))]) C.x C.b dX0_reads_32 rfl hl (by decide) rfl (fun ls hl => ?_)
          refine r_iinc (lv' := [(2, .int (zi (v2 + 1))), (1, .int (zi (v1 + (bI ((M 53) (4096 * (M 202) v2 + rowS (fun j => (M 33) ((M 54) (6 * v2 + j))) ((M 202) v2)) = 1))))), (0, .ref (B 49 0))]) C dX0_reads_33 hl (k := 2) rfl (by decide) rfl (fun ls hl => ?_)
          refine lv_goto (tgt := 4) C.x C.b dX0_reads_36 (by decide) ?_
          exact ih4 (v1 + (bI ((M 53) (4096 * (M 202) v2 + rowS (fun j => (M 33) ((M 54) (6 * v2 + j))) ((M 202) v2)) = 1))) (v2 + 1) (by omega) (isum_st h2.1 ha rfl) (by omega) H locs ls hX hS (lv_sub hl [2, 1, 0] rfl)
        refine r_if_eq_b (tgt := 30) C dX0_reads_23 (by decide) (fun c_3 => ?_) (fun c_3 => ?_)
        · refine r_const C dX0_reads_30 ?_
          exact J31_2 0 ((bI_f c_3).symm) H locs ls hX hS hl
        · refine r_const C dX0_reads_26 ?_
          refine lv_goto (tgt := 31) C.x C.b dX0_reads_27 (by decide) ?_
          exact J31_2 1 ((bI_t c_3).symm) H locs ls hX hS hl
  exact L4 _ 0 0 (by omega) rfl (Nat.lt_succ_self _) H locs ls hX hS (lv_sub hl [2, 1, 0] rfl)
