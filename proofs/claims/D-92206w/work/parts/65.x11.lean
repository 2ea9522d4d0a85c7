set_option maxRecDepth 100000

theorem x_tdrop {E : us_E} {A : Nat → Prop} {B : Nat → Int → Nat} {F : Nat → Int} {M : Nat → Int → Int} {G : Nat → Int → Option Nat} {T : x_T} {H : Heap} (hX : XH E A B F M G T H) (j : Nat) : XH E A B F M G (va_up T j none) H := by
  refine ⟨rw_map hX.1 id (fun r hr => ?_) (fun i j _ _ h => h), hX.2⟩
  have key : x_ce (xK E.2 B F M G) (va_up T j none) r = x_ce (xK E.2 B F M G) T r ∧ x_ad B (va_up T j none) r = x_ad B T r := by
    unfold x_ce x_ad at *
    by_cases q : r % 128 < 100
    · rw [if_pos q, if_pos q, if_pos q, if_pos q]; exact ⟨rfl, rfl⟩
    · rw [if_neg q] at hr
      rw [if_neg q, if_neg q, if_neg q, if_neg q]
      by_cases y : r / 128 = 0
      · rw [if_pos y] at hr
        rw [if_pos y, if_pos y, if_pos y, if_pos y]
        by_cases z : r % 128 - 100 = j
        · rw [z, va_up_self] at hr; exact absurd rfl hr
        · rw [va_up_ne T none z]; exact ⟨rfl, rfl⟩
      · rw [if_neg y] at hr; exact absurd rfl hr
  exact ⟨key.1.symm, key.2⟩

theorem hd_X0_spell : yX0_spell.cls = RX0 ∧ yX0_spell.cls ≠ "java/lang/invoke/MethodHandle" ∧ yX0_spell.cls ≠ "java/lang/invoke/VarHandle" ∧ (parseMethodDescriptor yX0_spell.desc).map (fun d => d.parameters.length) = some 1 := by decide +kernel
abbrev rm_X0_spell : Room := { frames := 1, cells := 192, slots := 1152, locals := 24 }
set_option maxHeartbeats 8000000 in
theorem met_X0_spell (l : Launch) (E : us_E) (A : Nat → Prop) (B : Nat → Int → Nat) (F : Nat → Int) (M : Nat → Int → Int) (G : Nat → Int → Option Nat) (T : x_T) (v : Int) (hv : 0 ≤ v ∧ v < 2147483648) (hsp : ∀ s : Int, 0 ≤ s → s < 24 → M 32 s = -4 ∨ 0 ≤ M 32 s) (hT0 : T 0 = none) : cMet l yX0_spell cX0_spell 8 none rm_X0_spell A E [.ref (B 49 0), .int (zi v)] (fun H => XH E A B F M G T H) (qv A (fun H => ∃ b54 : Int → Nat, ∃ f35 : Int, ∃ m54 : Int → Int, ∃ m202 : Int → Int, ∃ gg34 : Int → Option Nat, (f35 = KP (RD (M 3) (mtc (M 56)) (M 200) (M 32) v) (M 200) (F 6) 0) ∧ SPQ (M 3) (mtc (M 56)) (M 200) (M 32) v m54 m202 (F 6) 0 ∧ XH E A (va_up B 54 b54) (va_up F 35 f35) (va_up (va_up M 54 m54) 202 m202) (va_up G 34 gg34) T H)) := by
  refine cMet.of (by decide) (Nat.le_of_ble_eq_true rfl) (fun p e s m args below meth c C hnm hX hS ls hl => ?_)
  have C : Cx p s m args meth c A RX0 cX0_spell 8 none E := C
  have hX : XH E A B F M G T s.heap := hX
  have hl : lv_has ls 8 [(0, .ref (B 49 0)), (1, .int (zi v))] := hl
  generalize hH : s.heap = H at hX
  have hS : va_S A s.heap H [] := by rw [← hH]; exact hS
  generalize hlocs : ([] : List Loc) = locs at hS ⊢
  obtain ⟨QQ, hQQ⟩ : ∃ zQQ, MQ below (qv A (fun H => ∃ b54 : Int → Nat, ∃ f35 : Int, ∃ m54 : Int → Int, ∃ m202 : Int → Int, ∃ gg34 : Int → Option Nat, (f35 = KP (RD (M 3) (mtc (M 56)) (M 200) (M 32) v) (M 200) (F 6) 0) ∧ SPQ (M 3) (mtc (M 56)) (M 200) (M 32) v m54 m202 (F 6) 0 ∧ XH E A (va_up B 54 b54) (va_up F 35 f35) (va_up (va_up M 54 m54) 202 m202) (va_up G 34 gg34) T H)) args s (rm_X0_spell).cells (rm_X0_spell).slots A = zQQ := ⟨_, rfl⟩
  rw [hQQ]
  have rF6 : 0 ≤ F 6 ∧ F 6 ≤ 8 := hX.2.1 6 (0, 8) rfl
  have rF35 : 0 ≤ F 35 ∧ F 35 ≤ 192 := hX.2.1 35 (0, 192) rfl
  have h24 : ∀ t, 0 ≤ M 200 t ∧ M 200 t ≤ 24 := fun t => hX.2.2.1 200 (0, 24) rfl t
  have hcl : ∀ q, -2 ≤ M 56 q ∧ M 56 q ≤ 23 := fun q => hX.2.2.1 56 (-2, 23) rfl q
  have hs3 : ∀ q, 0 ≤ M 3 q ∧ M 3 q ≤ 23 := fun q => hX.2.2.1 3 (0, 23) rfl q
  have h24a : ∀ a, 0 ≤ (M 200) a := fun a => (h24 a).1
  have hX : XH E A B F M G (va_up T 0 none) H := hX.to rfl rfl rfl rfl (up_id T hT0).symm
  refine lv_aload_n C.x C.b dX0_spell_0 rfl (lv_at hl 0 rfl) ?_
  refine r_const C dX0_spell_1 ?_
  refine x_pdec C hX hS 35 (by decide) rfl rfl rfl q771 (fun _ h => h) (b := (0, 192)) rfl (show 0 ≤ 0 ∧ 0 ≤ 192 from (by omega)) (show 0 ≤ F 35 from (by omega)) (F' := (va_up F 35 0)) rfl dX0_spell_2 (fun H locs hX hS => ?_)
  refine r_const C dX0_spell_5 ?_
  refine lv_istore_n (lv' := [(2, .int (zi 0)), (0, .ref (B 49 0)), (1, .int (zi v))]) C.x C.b dX0_spell_6 rfl hl (by decide) rfl (fun ls hl => ?_)
  have L7 : ∀ (fu : Nat) (v2 : Int) (b54 : Int → Nat) (f35 : Int) (gg34 : Int → Option Nat) (m54 : Int → Int) (m202 : Int → Int) (cs7 ss7 : Nat) (h2 : 0 ≤ v2 ∧ v2 ≤ F 6) (hcs : (cs7 : Int) ≤ 24 * v2 ∧ (ss7 : Int) ≤ 6 * (24 * v2)) (hn : f35 = KP (RD (M 3) (mtc (M 56)) (M 200) (M 32) v) (M 200) v2 0) (hQ : SPQ (M 3) (mtc (M 56)) (M 200) (M 32) v m54 m202 v2 0) (hm : Int.toNat (F 6 - v2) < fu) (H : Heap) (locs : List Loc) (ls : Array Slot) (hX : XH E A (va_up B 54 b54) (va_up F 35 f35) (va_up (va_up M 54 m54) 202 m202) (va_up G 34 gg34) (va_up T 0 none) H) (hS : va_S A s.heap H locs) (hl : lv_has ls 8 [(0, .ref (B 49 0)), (1, .int (zi v)), (2, .int (zi v2))]), W p l e rm_X0_spell s m args below meth c H locs cs7 ss7 QQ (F0 m 7 ls []) := by
    intro fu
    induction fu with
    | zero => intro v2 b54 f35 gg34 m54 m202 cs7 ss7 h2 hcs hn hQ hm; exact absurd hm (Nat.not_lt_zero _)
    | succ fu ih7 =>
      intro v2 b54 f35 gg34 m54 m202 cs7 ss7 h2 hcs hn hQ hm H locs ls hX hS hl
      refine lv_iload_n C.x C.b dX0_spell_7 rfl (lv_at hl 2 rfl) ?_
      refine lv_aload_n C.x C.b dX0_spell_8 rfl (lv_at hl 0 rfl) ?_
      refine x_gi (B := (va_up B 54 b54)) C hX 6 (by decide) rfl q742 (fun _ h => h) (F 6) rfl (b := (0, 8)) rfl dX0_spell_9 (fun _ => ?_)
      refine r_icmp_ge (tgt := 188) C (by omega) (by omega) dX0_spell_12 (by decide) (fun c_1 => ?_) (fun c_1 => ?_)
      · have hX : XH E A (va_up B 54 b54) (va_up F 35 f35) (va_up (va_up M 54 m54) 202 m202) (va_up G 34 gg34) T H := hX.to rfl rfl rfl rfl (up_id T hT0)
        rw [← hQQ]
        exact r_vret C hS (show cs7 ≤ 192 from by omega) (show ss7 ≤ 1152 from by omega) dX0_spell_188 ⟨b54, f35, m54, m202, gg34, (by rw [hn, show v2 = F 6 by omega]), (by rw [← show v2 = F 6 by omega]; exact hQ), hX⟩
      · refine r_const C dX0_spell_15 ?_
        refine lv_istore_n (lv' := [(3, .int (zi 0)), (0, .ref (B 49 0)), (1, .int (zi v)), (2, .int (zi v2))]) C.x C.b dX0_spell_16 rfl hl (by decide) rfl (fun ls hl => ?_)
        have L17 : ∀ (fu : Nat) (v3 : Int) (b54_17 : Int → Nat) (f35_17 : Int) (gg34_17 : Int → Option Nat) (m54_17 : Int → Int) (m202_17 : Int → Int) (cs17 ss17 : Nat) (h3 : 0 ≤ v3 ∧ v3 ≤ M 200 v2) (hcs17 : (cs17 : Int) ≤ 24 * v2 + v3 ∧ (ss17 : Int) ≤ 6 * (24 * v2 + v3)) (hn2 : f35_17 = KP (RD (M 3) (mtc (M 56)) (M 200) (M 32) v) (M 200) v2 v3) (hQ2 : SPQ (M 3) (mtc (M 56)) (M 200) (M 32) v m54_17 m202_17 v2 v3) (hm : Int.toNat (M 200 v2 - v3) < fu) (H : Heap) (locs : List Loc) (ls : Array Slot) (hX : XH E A (va_up B 54 b54_17) (va_up F 35 f35_17) (va_up (va_up M 54 m54_17) 202 m202_17) (va_up G 34 gg34_17) (va_up T 0 none) H) (hS : va_S A s.heap H locs) (hl : lv_has ls 8 [(0, .ref (B 49 0)), (1, .int (zi v)), (2, .int (zi v2)), (3, .int (zi v3))]), W p l e rm_X0_spell s m args below meth c H locs cs17 ss17 QQ (F0 m 17 ls []) := by
          intro fu
          induction fu with
          | zero => intro v3 b54_17 f35_17 gg34_17 m54_17 m202_17 cs17 ss17 h3 hcs17 hn2 hQ2 hm; exact absurd hm (Nat.not_lt_zero _)
          | succ fu ih17 =>
            intro v3 b54_17 f35_17 gg34_17 m54_17 m202_17 cs17 ss17 h3 hcs17 hn2 hQ2 hm H locs ls hX hS hl
            refine lv_iload_n C.x C.b dX0_spell_17 rfl (lv_at hl 3 rfl) ?_
            have h24v := h24 v2
            refine lv_aload_n C.x C.b dX0_spell_18 rfl (lv_at hl 0 rfl) ?_
            refine x_ga (B := (va_up B 54 b54_17)) C hX 5 (by decide) rfl q741 (fun _ h => h) dX0_spell_19 ?_
            refine lv_iload_n C.x C.b dX0_spell_22 rfl (lv_at hl 2 rfl) ?_
            refine x_la (B := (va_up B 54 b54_17)) C hX 5 rfl rfl rfl (by decide) rfl rfl (show 0 ≤ v2 ∧ v2 < F 6 from (by omega)) (by omega) (by decide) dX0_spell_23 ?_
            refine r_callVi (As := []) (rest := [.int (zi v3)]) (cells' := cs17) (slots' := ss17) C (met_X3_size l E A (va_up B 54 b54_17) (va_up F 35 f35_17) (va_up (va_up M 54 m54_17) 202 m202_17) (va_up G 34 gg34_17) (va_up T 0 none) v2 (show 0 ≤ v2 ∧ v2 < (F 6) from (by omega))) (lw_V q174 q175 q176 q98 q177) hd_X3_size rfl (by decide) (x_recv C hX (f := 55) (i := v2) (by decide) (show 0 ≤ v2 ∧ v2 < F 6 from (by omega)).1 (xK_55 (show 0 ≤ v2 ∧ v2 < F 6 from (by omega))) (q := (RX3, TX3, 1)) rfl) hX hS hl.1 rfl (Nat.le_of_ble_eq_true rfl) dX0_spell_24 rfl rfl ⟨(show cs17 ≤ 192 from by omega), (show ss17 ≤ 1152 from by omega)⟩ (fun rr H locs hp hS => ?_)
            obtain ⟨hsz, hrr, hX⟩ := hp
            have hrr : rr = (M 200) v2 := hrr
            subst hrr
            replace hsz : 0 ≤ (M 200) v2 ∧ (M 200) v2 ≤ 24 := hsz
            refine r_icmp_ge (tgt := 182) C (by omega) (by omega) dX0_spell_27 (by decide) (fun c_2 => ?_) (fun c_2 => ?_)
            · first
              | have hrow : f35_17 = KP (RD (M 3) (mtc (M 56)) (M 200) (M 32) v) (M 200) (v2 + 1) 0 ∧ SPQ (M 3) (mtc (M 56)) (M 200) (M 32) v m54_17 m202_17 (v2 + 1) 0 := ⟨by rw [KP_t h2.1, hn2, show v3 = M 200 v2 by omega], hQ2.row (by omega)⟩
              | have hskip : f35_17 = KP (RD (M 3) (mtc (M 56)) (M 200) (M 32) v) (M 200) (v2 + 1) 0 ∧ SPQ (M 3) (mtc (M 56)) (M 200) (M 32) v m54_17 m202_17 (v2 + 1) 0 := ⟨by rw [hn2]; exact (KP_skip h2.1 ⟨h3.1, h3.2⟩ (by assumption)).symm, hQ2.skip (by assumption)⟩
              refine r_iinc (lv' := [(2, .int (zi (v2 + 1))), (0, .ref (B 49 0)), (1, .int (zi v)), (3, .int (zi v3))]) C dX0_spell_182 hl (k := 2) rfl (by decide) rfl (fun ls hl => ?_)
              refine lv_goto (tgt := 7) C.x C.b dX0_spell_185 (by decide) ?_
              exact ih7 (v2 + 1) b54_17 f35_17 gg34_17 m54_17 m202_17 cs17 ss17 (by omega) (by omega) (by first | exact hrow.1 | exact hskip.1) (by first | exact hrow.2 | exact hskip.2) (by omega) H locs ls hX hS (lv_sub hl [1, 2, 0] rfl)
            · have hkp := KPF_r (P := (RD (M 3) (mtc (M 56)) (M 200) (M 32) v)) h24 (t := v2) (i := v3) ⟨by omega, by omega⟩ ⟨by omega, by omega⟩
              rw [← hn2] at hkp
              refine lv_iload_n C.x C.b dX0_spell_30 rfl (lv_at hl 1 rfl) ?_
              refine lv_iload_n C.x C.b dX0_spell_31 rfl (lv_at hl 2 rfl) ?_
              refine r_ishr C (by omega) (by omega) rfl dX0_spell_32 ?_
              refine r_const C dX0_spell_33 ?_
              refine r_iand C (zi_and1 _) dX0_spell_34 ?_
              refine r_const C dX0_spell_35 ?_
              refine r_icmp_ne (tgt := 182) C (by omega) (by decide) dX0_spell_36 (by decide) (fun c_3 => ?_) (fun c_3 => ?_)
              · first
                | have hrow : f35_17 = KP (RD (M 3) (mtc (M 56)) (M 200) (M 32) v) (M 200) (v2 + 1) 0 ∧ SPQ (M 3) (mtc (M 56)) (M 200) (M 32) v m54_17 m202_17 (v2 + 1) 0 := ⟨by rw [KP_t h2.1, hn2, show v3 = M 200 v2 by omega], hQ2.row (by omega)⟩
                | have hskip : f35_17 = KP (RD (M 3) (mtc (M 56)) (M 200) (M 32) v) (M 200) (v2 + 1) 0 ∧ SPQ (M 3) (mtc (M 56)) (M 200) (M 32) v m54_17 m202_17 (v2 + 1) 0 := ⟨by rw [hn2]; exact (KP_skip h2.1 ⟨h3.1, h3.2⟩ (by assumption)).symm, hQ2.skip (by assumption)⟩
                refine r_iinc (lv' := [(2, .int (zi (v2 + 1))), (0, .ref (B 49 0)), (1, .int (zi v)), (3, .int (zi v3))]) C dX0_spell_182 hl (k := 2) rfl (by decide) rfl (fun ls hl => ?_)
                refine lv_goto (tgt := 7) C.x C.b dX0_spell_185 (by decide) ?_
                exact ih7 (v2 + 1) b54_17 f35_17 gg34_17 m54_17 m202_17 cs17 ss17 (by omega) (by omega) (by first | exact hrow.1 | exact hskip.1) (by first | exact hrow.2 | exact hskip.2) (by omega) H locs ls hX hS (lv_sub hl [1, 2, 0] rfl)
              · refine lv_aload_n C.x C.b dX0_spell_39 rfl (lv_at hl 0 rfl) ?_
                refine x_ga (B := (va_up B 54 b54_17)) C hX 5 (by decide) rfl q741 (fun _ h => h) dX0_spell_40 ?_
                refine lv_iload_n C.x C.b dX0_spell_43 rfl (lv_at hl 2 rfl) ?_
                refine x_la (B := (va_up B 54 b54_17)) C hX 5 rfl rfl rfl (by decide) rfl rfl (show 0 ≤ v2 ∧ v2 < F 6 from (by omega)) (by omega) (by decide) dX0_spell_44 ?_
                refine lv_iload_n C.x C.b dX0_spell_45 rfl (lv_at hl 3 rfl) ?_
                refine r_callVi (As := [.int (zi v3)]) (rest := []) (cells' := cs17) (slots' := ss17) C (met_X3_endOf l E A (va_up B 54 b54_17) (va_up F 35 f35_17) (va_up (va_up M 54 m54_17) 202 m202_17) (va_up G 34 gg34_17) (va_up T 0 none) v2 v3 (show 0 ≤ v2 ∧ v2 < (F 6) from (by omega)) (show 0 ≤ v3 ∧ v3 < (M 200) v2 from (by omega))) (lw_V q182 q183 q184 q98 q185) hd_X3_endOf rfl (by decide) (x_recv C hX (f := 55) (i := v2) (by decide) (show 0 ≤ v2 ∧ v2 < F 6 from (by omega)).1 (xK_55 (show 0 ≤ v2 ∧ v2 < F 6 from (by omega))) (q := (RX3, TX3, 1)) rfl) hX hS hl.1 rfl (Nat.le_of_ble_eq_true rfl) dX0_spell_46 rfl rfl ⟨(show cs17 ≤ 192 from by omega), (show ss17 ≤ 1152 from by omega)⟩ (fun rr H locs hp hS => ?_)
                obtain ⟨hen, hrr, hX⟩ := hp
                have hrr : rr = sel (wb (mtc ((M 56))) v2 v3) (we (mtc ((M 56))) ((M 200)) v2 v3) v3 := hrr
                subst hrr
                replace hen : v3 ≤ sel (wb (mtc ((M 56))) v2 v3) (we (mtc ((M 56))) ((M 200)) v2 v3) v3 ∧ sel (wb (mtc ((M 56))) v2 v3) (we (mtc ((M 56))) ((M 200)) v2 v3) v3 ≤ (M 200) v2 := hen
                refine lv_istore (lv' := [(4, .int (zi (sel (wb (mtc ((M 56))) v2 v3) (we (mtc ((M 56))) ((M 200)) v2 v3) v3))), (0, .ref (B 49 0)), (1, .int (zi v)), (2, .int (zi v2)), (3, .int (zi v3))]) C.x C.b dX0_spell_49 hl (by decide) rfl (fun ls hl => ?_)
                obtain ⟨v4, hv4⟩ : ∃ z : Int, z = sel (wb (mtc ((M 56))) v2 v3) (we (mtc ((M 56))) ((M 200)) v2 v3) v3 := ⟨_, rfl⟩
                rw [← hv4] at hl
                have hwi := whole_i (tc := (mtc (M 56))) (tl := (M 200)) (t := v2) (i := v3) (fun j => (hcl _).1) (by omega)
                rw [← hv4] at hwi hen
                refine lv_aload_n C.x C.b dX0_spell_51 rfl (lv_at hl 1 rfl) ?_
                refine x_ga (B := (va_up B 54 b54_17)) C hX 5 (by decide) rfl q741 (fun _ h => h) dX0_spell_52 ?_
                refine lv_iload_n C.x C.b dX0_spell_55 rfl (lv_at hl 3 rfl) ?_
                refine x_la (B := (va_up B 54 b54_17)) C hX 5 rfl rfl rfl (by decide) rfl rfl (show 0 ≤ v2 ∧ v2 < F 6 from (by omega)) (by omega) (by decide) dX0_spell_56 ?_
                refine lv_iload_n C.x C.b dX0_spell_57 rfl (lv_at hl 4 rfl) ?_
                refine lv_iload C.x C.b dX0_spell_58 (lv_at hl 0 rfl) ?_
                refine r_callVi (As := [.int (zi v3), .int (zi v4)]) (rest := []) (cells' := cs17) (slots' := ss17) C (met_X3_isWhole l E A (va_up B 54 b54_17) (va_up F 35 f35_17) (va_up (va_up M 54 m54_17) 202 m202_17) (va_up G 34 gg34_17) (va_up T 0 none) v2 v3 v4 (show 0 ≤ v2 ∧ v2 < (F 6) from (by omega)) (show 0 ≤ v3 ∧ v3 ≤ v4 ∧ v4 ≤ (M 200) v2 from (by omega))) (lw_V q186 q187 q188 q98 q189) hd_X3_isWhole rfl (by decide) (x_recv C hX (f := 55) (i := v2) (by decide) (show 0 ≤ v2 ∧ v2 < F 6 from (by omega)).1 (xK_55 (show 0 ≤ v2 ∧ v2 < F 6 from (by omega))) (q := (RX3, TX3, 1)) rfl) hX hS hl.1 rfl (Nat.le_of_ble_eq_true rfl) dX0_spell_60 rfl rfl ⟨(show cs17 ≤ 192 from by omega), (show ss17 ≤ 1152 from by omega)⟩ (fun rr H locs hp hS => ?_)
                obtain ⟨hrr, hX⟩ := hp
                have hrr : rr = bI (v3 < v4 ∧ ∀ j : Int, v3 ≤ j → j < v4 → ¬ (M 56) (24 * v2 + j) < 0) := hrr
                subst hrr
                refine r_if_eq_b (tgt := 176) C dX0_spell_63 (by decide) (fun c_4 => ?_) (fun c_4 => ?_)
                · first
                  | have hnr : ¬ (RD (M 3) (mtc (M 56)) (M 200) (M 32) v) v2 v3 := fun z => by first | exact absurd (hwi.2 z.1) (by assumption) | exact absurd z.2.1 (by omega) | exact absurd (hRD.2 z) (by assumption)
                  | skip
                  refine r_iinc (lv' := [(3, .int (zi (v3 + 1))), (4, .int (zi v4)), (0, .ref (B 49 0)), (1, .int (zi v)), (2, .int (zi v2))]) C dX0_spell_176 hl (k := 4) rfl (by decide) rfl (fun ls hl => ?_)
                  refine lv_goto (tgt := 17) C.x C.b dX0_spell_179 (by decide) ?_
                  exact ih17 (v3 + 1) b54_17 f35_17 gg34_17 m54_17 m202_17 cs17 ss17 (by omega) (by omega) (by first | exact hyes.1 | (rw [KP_s h3.1, ← hn2, bI_f hnr]; omega)) (by first | exact hyes.2 | exact hQ2.no hnr) (by omega) H locs ls hX hS (lv_sub hl [2, 3, 4, 0] rfl)
                · have hwh := hwi.1 (by assumption)
                  have hv4e : v4 = we (mtc (M 56)) (M 200) v2 v3 := by rw [hv4]; exact sel_t hwh.1
                  obtain ⟨hlt, hwn⟩ := (show v3 < v4 ∧ ∀ j : Int, v3 ≤ j → j < v4 → ¬ M 56 (24 * v2 + j) < 0 by assumption)
                  have hsr : ∀ j : Int, v3 ≤ j → j < v4 → 0 ≤ sa (M 3) (M 56 (24 * v2 + j)) ∧ sa (M 3) (M 56 (24 * v2 + j)) < 24 := fun j a b => by
                    have q := sa_n (sg := M 3) (c := M 56 (24 * v2 + j)) (hs3 _).1
                    have q2 := sa_r (sg := M 3) (hcl (24 * v2 + j)).1 (hcl (24 * v2 + j)).2 (hs3 (M 56 (24 * v2 + j)))
                    have := hwn j a b
                    omega
                  refine lv_iload C.x C.b dX0_spell_66 (lv_at hl 0 rfl) ?_
                  refine lv_iload_n C.x C.b dX0_spell_68 rfl (lv_at hl 4 rfl) ?_
                  refine r_isub C dX0_spell_69 ?_
                  refine r_bipush C (by decide) dX0_spell_70 ?_
                  refine r_icmp_gt (tgt := 176) C (by omega) (by decide) dX0_spell_72 (by decide) (fun c_5 => ?_) (fun c_5 => ?_)
                  · first
                    | have hnr : ¬ (RD (M 3) (mtc (M 56)) (M 200) (M 32) v) v2 v3 := fun z => by first | exact absurd (hwi.2 z.1) (by assumption) | exact absurd z.2.1 (by omega) | exact absurd (hRD.2 z) (by assumption)
                    | skip
                    refine r_iinc (lv' := [(3, .int (zi (v3 + 1))), (4, .int (zi v4)), (0, .ref (B 49 0)), (1, .int (zi v)), (2, .int (zi v2))]) C dX0_spell_176 hl (k := 4) rfl (by decide) rfl (fun ls hl => ?_)
                    refine lv_goto (tgt := 17) C.x C.b dX0_spell_179 (by decide) ?_
                    exact ih17 (v3 + 1) b54_17 f35_17 gg34_17 m54_17 m202_17 cs17 ss17 (by omega) (by omega) (by first | exact hyes.1 | (rw [KP_s h3.1, ← hn2, bI_f hnr]; omega)) (by first | exact hyes.2 | exact hQ2.no hnr) (by omega) H locs ls hX hS (lv_sub hl [2, 3, 4, 0] rfl)
                  · refine lv_iload C.x C.b dX0_spell_75 (lv_at hl 0 rfl) ?_
                    refine lv_iload_n C.x C.b dX0_spell_77 rfl (lv_at hl 4 rfl) ?_
                    refine r_isub C dX0_spell_78 ?_
                    refine x_newi (B := (va_up B 54 b54_17)) C hX hS 0 (by decide) (v := (v4 - v3)) (show 0 ≤ (v4 - v3) ∧ (v4 - v3) ≤ 1000 from (by omega)) q325 (show cs17 + 1 ≤ 192 from (by omega)) (show ss17 + ((v4 - v3)).toNat ≤ 1152 from (by omega)) dX0_spell_79 (fun ta_6 H hX hS => ?_)
                    have hX : XH E A (va_up B 54 b54_17) (va_up F 35 f35_17) (va_up (va_up M 54 m54_17) 202 m202_17) (va_up G 34 gg34_17) (va_up T 0 (some (tA E ta_6 ((v4 - v3)).toNat (fun _ => 0)))) H := hX.to rfl rfl rfl rfl (up_up _ _ _ _)
                    refine lv_astore (lv' := [(5, .ref ta_6), (4, .int (zi v4)), (0, .ref (B 49 0)), (1, .int (zi v)), (2, .int (zi v2)), (3, .int (zi v3))]) C.x C.b dX0_spell_81 hl (by decide) rfl (fun ls hl => ?_)
                    refine r_const C dX0_spell_83 ?_
                    refine lv_istore (lv' := [(6, .int (zi 1)), (5, .ref ta_6), (4, .int (zi v4)), (0, .ref (B 49 0)), (1, .int (zi v)), (2, .int (zi v2)), (3, .int (zi v3))]) C.x C.b dX0_spell_84 hl (by decide) rfl (fun ls hl => ?_)
                    refine lv_iload_n C.x C.b dX0_spell_86 rfl (lv_at hl 6 rfl) ?_
                    refine lv_istore (lv' := [(7, .int (zi v3)), (6, .int (zi 1)), (5, .ref ta_6), (4, .int (zi v4)), (0, .ref (B 49 0)), (1, .int (zi v)), (2, .int (zi v2)), (3, .int (zi v3))]) C.x C.b dX0_spell_87 hl (by decide) rfl (fun ls hl => ?_)
                    have L89 : ∀ (fu : Nat) (v6 : Prop) (xv6 : Int) (hv6 : xv6 = bI v6) (v7 : Int) (g89 : Int → Int) (h7 : v3 ≤ v7 ∧ v7 ≤ v4) (hg1 : ∀ x : Int, 0 ≤ x → x < v7 - v3 → g89 x = M 32 (sa (M 3) (M 56 (24 * v2 + (v3 + x))))) (hg0 : ∀ x : Int, v7 - v3 ≤ x → g89 x = 0) (hu : v6 ↔ ∀ x : Int, 0 ≤ x → x < v7 - v3 → ¬ M 32 (sa (M 3) (M 56 (24 * v2 + (v3 + x)))) = -4) (hm : Int.toNat (v4 - v7) < fu) (H : Heap) (locs : List Loc) (ls : Array Slot) (hX : XH E A (va_up B 54 b54_17) (va_up F 35 f35_17) (va_up (va_up M 54 m54_17) 202 m202_17) (va_up G 34 gg34_17) (va_up T 0 (some (tA E ta_6 ((v4 - v3)).toNat g89))) H) (hS : va_S A s.heap H locs) (hl : lv_has ls 8 [(0, .ref (B 49 0)), (1, .int (zi v)), (2, .int (zi v2)), (3, .int (zi v3)), (4, .int (zi v4)), (5, .ref ta_6), (6, .int (zi xv6)), (7, .int (zi v7))]), W p l e rm_X0_spell s m args below meth c H locs (cs17 + 1) (ss17 + ((v4 - v3)).toNat) QQ (F0 m 89 ls []) := by
                      intro fu
                      induction fu with
                      | zero => intro v6 xv6 hv6 v7 g89 h7 hg1 hg0 hu hm; exact absurd hm (Nat.not_lt_zero _)
                      | succ fu ih89 =>
                        intro v6 xv6 hv6 v7 g89 h7 hg1 hg0 hu hm H locs ls hX hS hl
                        subst hv6
                        refine lv_iload C.x C.b dX0_spell_89 (lv_at hl 7 rfl) ?_
                        refine lv_iload C.x C.b dX0_spell_91 (lv_at hl 4 rfl) ?_
                        refine r_icmp_ge (tgt := 150) C (by omega) (by omega) dX0_spell_93 (by decide) (fun c_7 => ?_) (fun c_7 => ?_)
                        · have hRD : v6 ↔ (RD (M 3) (mtc (M 56)) (M 200) (M 32) v) v2 v3 := by
                            first
                            | (rw [hu, show v7 = v4 by omega]; exact ⟨fun q => ⟨hwh, by omega, by assumption, fun j a b => q j a (by omega)⟩, fun q x a b => q.2.2.2 x a (by omega)⟩)
                          refine lv_iload C.x C.b dX0_spell_150 (lv_at hl 6 rfl) ?_
                          refine r_if_eq_b (tgt := 176) C dX0_spell_152 (by decide) (fun c_8 => ?_) (fun c_8 => ?_)
                          · have hX : XH E A (va_up B 54 b54_17) (va_up F 35 f35_17) (va_up (va_up M 54 m54_17) 202 m202_17) (va_up G 34 gg34_17) (va_up T 0 none) H := (x_tdrop hX 0).to rfl rfl rfl rfl (up_up _ _ _ _)
                            first
                            | have hnr : ¬ (RD (M 3) (mtc (M 56)) (M 200) (M 32) v) v2 v3 := fun z => by first | exact absurd (hwi.2 z.1) (by assumption) | exact absurd z.2.1 (by omega) | exact absurd (hRD.2 z) (by assumption)
                            | skip
                            refine r_iinc (lv' := [(3, .int (zi (v3 + 1))), (0, .ref (B 49 0)), (1, .int (zi v)), (2, .int (zi v2)), (4, .int (zi v4)), (5, .ref ta_6), (6, .int (zi (bI v6))), (7, .int (zi v7))]) C dX0_spell_176 hl (k := 3) rfl (by decide) rfl (fun ls hl => ?_)
                            refine lv_goto (tgt := 17) C.x C.b dX0_spell_179 (by decide) ?_
                            exact ih17 (v3 + 1) b54_17 f35_17 gg34_17 m54_17 m202_17 (cs17 + 1) (ss17 + ((v4 - v3)).toNat) (by omega) (by omega) (by first | exact hyes.1 | (rw [KP_s h3.1, ← hn2, bI_f hnr]; omega)) (by first | exact hyes.2 | exact hQ2.no hnr) (by omega) H locs ls hX hS (lv_sub hl [1, 2, 3, 0] rfl)
                          · have hg0_ : ∀ x : Int, 6 ≤ x → g89 x = 0 := fun x a => hg0 x (by omega)
                            have hgb_ : ∀ x : Int, 0 ≤ x → x < 6 → 0 ≤ g89 x ∧ g89 x ≤ 5 := fun x a b => by
                              rcases Int.lt_or_le x (v7 - v3) with q | q
                              · have z1 := hsr (v3 + x) (by omega) (by omega)
                                have z2 := hsp _ z1.1 z1.2
                                have z3 := hu.1 (by assumption) x a q
                                have z4 : -4 ≤ M 32 (sa (M 3) (M 56 (24 * v2 + (v3 + x)))) ∧ M 32 (sa (M 3) (M 56 (24 * v2 + (v3 + x)))) ≤ 5 := hX.2.2.1 32 (-4, 5) rfl _
                                rw [hg1 x a q]
                                omega
                              · rw [hg0 x q]; omega
                            have hyes : f35_17 + 1 = KP (RD (M 3) (mtc (M 56)) (M 200) (M 32) v) (M 200) v2 (v3 + 1) ∧ SPQ (M 3) (mtc (M 56)) (M 200) (M 32) v (sp6 m54_17 f35_17 g89) (fup m202_17 f35_17 (v4 - v3)) v2 (v3 + 1) := ⟨by rw [KP_s h3.1, ← hn2, bI_t (hRD.1 (by assumption))], hQ2.yes h24a h2.1 ⟨h3.1, by omega⟩ hn2 (by rw [hv4e]) (by omega) (fun j a b => hg1 j a (by omega))⟩
                            refine lv_aload_n C.x C.b dX0_spell_155 rfl (lv_at hl 0 rfl) ?_
                            refine x_ga (B := (va_up B 54 b54_17)) C hX 34 (by decide) rfl q770 (fun _ h => h) dX0_spell_156 ?_
                            refine lv_aload_n C.x C.b dX0_spell_159 rfl (lv_at hl 0 rfl) ?_
                            refine x_gi (B := (va_up B 54 b54_17)) C hX 35 (by decide) rfl q771 (fun _ h => h) f35_17 rfl (b := (0, 192)) rfl dX0_spell_160 (fun r160 => ?_)
                            have r160 : 0 ≤ f35_17 ∧ f35_17 ≤ 192 := r160
                            refine lv_aload C.x C.b dX0_spell_163 (lv_at hl 5 rfl) ?_
                            refine x_aspelt (B := (va_up B 54 b54_17)) C hX hS 0 (by decide) (a := ta_6) (n := ((v4 - v3)).toNat) (g := g89) (va_up_self _ _ _) (show f35_17 ≤ f35_17 ∧ f35_17 < 192 from (by omega)) dX0_spell_165 (G' := (va_up G 34 (fup gg34_17 f35_17 (some ta_6)))) (up_up _ _ _ _) (fun H locs hX hS => ?_)
                            refine lv_aload_n C.x C.b dX0_spell_166 rfl (lv_at hl 0 rfl) ?_
                            refine lv_dup C.x C.b dX0_spell_167 rfl ?_
                            refine x_gi (B := (va_up B 54 b54_17)) C hX 35 (by decide) rfl q771 (fun _ h => h) f35_17 rfl (b := (0, 192)) rfl dX0_spell_168 (fun _ => ?_)
                            refine r_const C dX0_spell_171 ?_
                            refine r_iadd C dX0_spell_172 ?_
                            refine x_pspelt (B := (va_up B 54 b54_17)) C hX hS 0 (by decide) (a := ta_6) (n := (v4 - v3)) (g := g89) (va_up_self _ _ _) (by rw [va_up_self]; exact fup_s _ _ _) (show f35_17 ≤ 191 from (by omega)) (show 0 ≤ (v4 - v3) ∧ (v4 - v3) ≤ 6 from by omega) hg0_ hgb_ q771 (fun _ h => h) dX0_spell_173 (fun H locs hX hS => ?_)
                            have hX : XH E A (va_up B 54 (fup b54_17 f35_17 ta_6)) (va_up F 35 (f35_17 + 1)) (va_up (va_up M 54 (sp6 m54_17 f35_17 g89)) 202 (fup m202_17 f35_17 (v4 - v3))) (va_up G 34 (fup gg34_17 f35_17 (some ta_6))) (va_up T 0 none) H := hX.to (up_up _ _ _ _) (up_up _ _ _ _) ((congrArg (fun z => va_up z 202 (fup m202_17 f35_17 (v4 - v3))) (up_in (by decide) (up_up _ _ _ _))).trans (up_up _ _ _ _)) rfl (up_up _ _ _ _)
                            first
                            | have hnr : ¬ (RD (M 3) (mtc (M 56)) (M 200) (M 32) v) v2 v3 := fun z => by first | exact absurd (hwi.2 z.1) (by assumption) | exact absurd z.2.1 (by omega) | exact absurd (hRD.2 z) (by assumption)
                            | skip
                            refine r_iinc (lv' := [(3, .int (zi (v3 + 1))), (0, .ref (B 49 0)), (1, .int (zi v)), (2, .int (zi v2)), (4, .int (zi v4)), (5, .ref ta_6), (6, .int (zi (bI v6))), (7, .int (zi v7))]) C dX0_spell_176 hl (k := 3) rfl (by decide) rfl (fun ls hl => ?_)
                            refine lv_goto (tgt := 17) C.x C.b dX0_spell_179 (by decide) ?_
                            exact ih17 (v3 + 1) (fup b54_17 f35_17 ta_6) (f35_17 + 1) (fup gg34_17 f35_17 (some ta_6)) (sp6 m54_17 f35_17 g89) (fup m202_17 f35_17 (v4 - v3)) (cs17 + 1) (ss17 + ((v4 - v3)).toNat) (by omega) (by omega) (by first | exact hyes.1 | (rw [KP_s h3.1, ← hn2, bI_f hnr]; omega)) (by first | exact hyes.2 | exact hQ2.no hnr) (by omega) H locs ls hX hS (lv_sub hl [1, 2, 3, 0] rfl)
                        · have hsv := hsr v7 (by omega) (by omega)
                          refine lv_aload C.x C.b dX0_spell_96 (lv_at hl 5 rfl) ?_
                          refine lv_iload C.x C.b dX0_spell_98 (lv_at hl 7 rfl) ?_
                          refine lv_iload_n C.x C.b dX0_spell_100 rfl (lv_at hl 3 rfl) ?_
                          refine r_isub C dX0_spell_101 ?_
                          refine lv_aload_n C.x C.b dX0_spell_102 rfl (lv_at hl 0 rfl) ?_
                          refine x_ga (B := (va_up B 54 b54_17)) C hX 32 (by decide) rfl q768 (fun _ h => h) dX0_spell_103 ?_
                          refine lv_aload_n C.x C.b dX0_spell_106 rfl (lv_at hl 0 rfl) ?_
                          refine lv_aload_n C.x C.b dX0_spell_107 rfl (lv_at hl 0 rfl) ?_
                          refine x_ga (B := (va_up B 54 b54_17)) C hX 5 (by decide) rfl q741 (fun _ h => h) dX0_spell_108 ?_
                          refine lv_iload_n C.x C.b dX0_spell_111 rfl (lv_at hl 2 rfl) ?_
                          refine x_la (B := (va_up B 54 b54_17)) C hX 5 rfl rfl rfl (by decide) rfl rfl (show 0 ≤ v2 ∧ v2 < F 6 from (by omega)) (by omega) (by decide) dX0_spell_112 ?_
                          refine lv_iload C.x C.b dX0_spell_113 (lv_at hl 7 rfl) ?_
                          refine r_callVi (As := [.ref (B 55 v2), .int (zi v7)]) (rest := [.ref (B 32 0), .int (zi (v7 - v3)), .ref ta_6]) (cells' := cs17 + 1) (slots' := ss17 + ((v4 - v3)).toNat) C (met_X0_signAt l E A (va_up B 54 b54_17) (va_up F 35 f35_17) (va_up (va_up M 54 m54_17) 202 m202_17) (va_up G 34 gg34_17) (va_up T 0 (some (tA E ta_6 ((v4 - v3)).toNat g89))) v2 v7 (show 0 ≤ v2 ∧ v2 < (F 6) from (by omega)) (show 0 ≤ v7 ∧ v7 < (M 200) v2 from (by omega))) (lw_V q178 q180 qs6 q86 q181) hd_X0_signAt rfl (by decide) (x_this C hX) hX hS hl.1 rfl (Nat.le_of_ble_eq_true rfl) dX0_spell_115 rfl rfl ⟨(show cs17 + 1 ≤ 192 from by omega), (show ss17 + ((v4 - v3)).toNat ≤ 1152 from by omega)⟩ (fun rr H locs hp hS => ?_)
                          obtain ⟨hat, hrr, hX⟩ := hp
                          have hrr : rr = sa ((M 3)) ((M 56) (24 * v2 + v7)) := hrr
                          subst hrr
                          replace hat : -2 ≤ sa ((M 3)) ((M 56) (24 * v2 + v7)) ∧ sa ((M 3)) ((M 56) (24 * v2 + v7)) ≤ 23 := hat
                          refine x_li1 (B := (va_up B 54 b54_17)) C hX 32 rfl (by decide) rfl (show 0 ≤ (sa ((M 3)) ((M 56) (24 * v2 + v7))) ∧ (sa ((M 3)) ((M 56) (24 * v2 + v7))) < 24 from (by omega)) (by decide) (M 32 (sa ((M 3)) ((M 56) (24 * v2 + v7)))) rfl dX0_spell_118 (fun r118 => ?_)
                          have r118 : -4 ≤ M 32 (sa ((M 3)) ((M 56) (24 * v2 + v7))) ∧ M 32 (sa ((M 3)) ((M 56) (24 * v2 + v7))) ≤ 5 := r118 (-4, 5) rfl
                          refine x_tsi (B := (va_up B 54 b54_17)) C hX hS 0 (by decide) (a := ta_6) (n := ((v4 - v3)).toNat) (g := g89) (va_up_self _ _ _) (show 0 ≤ (v7 - v3) ∧ (v7 - v3) < ((((v4 - v3)).toNat : Nat) : Int) from (by omega)) (show ((v4 - v3)).toNat < 2147483648 from by omega) (T' := (va_up T 0 (some (tA E ta_6 ((v4 - v3)).toNat (fup g89 (v7 - v3) (M 32 (sa ((M 3)) ((M 56) (24 * v2 + v7))))))))) (up_up _ _ _ _) dX0_spell_119 (fun H locs hX hS => ?_)
                          refine lv_iload C.x C.b dX0_spell_120 (lv_at hl 6 rfl) ?_
                          have J142_9 : ∀ (t0 : Int) (ht0 : t0 = bI (v6 ∧ (¬ (((fup g89 (v7 - v3) (M 32 (sa ((M 3)) ((M 56) (24 * v2 + v7))))) (v7 - v3)) = (-4))))) (H : Heap) (locs : List Loc) (ls : Array Slot) (hX : XH E A (va_up B 54 b54_17) (va_up F 35 f35_17) (va_up (va_up M 54 m54_17) 202 m202_17) (va_up G 34 gg34_17) (va_up T 0 (some (tA E ta_6 ((v4 - v3)).toNat (fup g89 (v7 - v3) (M 32 (sa ((M 3)) ((M 56) (24 * v2 + v7)))))))) H) (hS : va_S A s.heap H locs) (hl : lv_has ls 8 [(0, .ref (B 49 0)), (1, .int (zi v)), (2, .int (zi v2)), (3, .int (zi v3)), (4, .int (zi v4)), (5, .ref ta_6), (6, .int (zi (bI v6))), (7, .int (zi v7))]), W p l e rm_X0_spell s m args below meth c H locs (cs17 + 1) (ss17 + ((v4 - v3)).toNat) QQ (F0 m 142 ls [.int (zi t0)]) := by
                            intro t0 ht0 H locs ls hX hS hl
                            subst ht0
                            refine lv_istore (lv' := [(6, .int (zi (bI (v6 ∧ (¬ (((fup g89 (v7 - v3) (M 32 (sa ((M 3)) ((M 56) (24 * v2 + v7))))) (v7 - v3)) = (-4))))))), (0, .ref (B 49 0)), (1, .int (zi v)), (2, .int (zi v2)), (3, .int (zi v3)), (4, .int (zi v4)), (5, .ref ta_6), (7, .int (zi v7))]) C.x C.b dX0_spell_142 hl (by decide) rfl (fun ls hl => ?_)
                            have hrb : fup g89 (v7 - v3) (M 32 (sa (M 3) (M 56 (24 * v2 + v7)))) (v7 - v3) = M 32 (sa (M 3) (M 56 (24 * v2 + v7))) := fup_s _ _ _
                            have hst1 : ∀ x : Int, 0 ≤ x → x < v7 + 1 - v3 → fup g89 (v7 - v3) (M 32 (sa (M 3) (M 56 (24 * v2 + v7)))) x = M 32 (sa (M 3) (M 56 (24 * v2 + (v3 + x)))) := fun x a b => by
                              by_cases q : x = v7 - v3
                              · rw [q, fup_s, show v3 + (v7 - v3) = v7 by omega]
                              · rw [fup_n _ _ q]; exact hg1 x a (by omega)
                            have hst0 : ∀ x : Int, v7 + 1 - v3 ≤ x → fup g89 (v7 - v3) (M 32 (sa (M 3) (M 56 (24 * v2 + v7)))) x = 0 := fun x a => by rw [fup_n _ _ (by omega)]; exact hg0 x (by omega)
                            have hstu : (v6 ∧ ¬ fup g89 (v7 - v3) (M 32 (sa (M 3) (M 56 (24 * v2 + v7)))) (v7 - v3) = -4) ↔ ∀ x : Int, 0 ≤ x → x < v7 + 1 - v3 → ¬ M 32 (sa (M 3) (M 56 (24 * v2 + (v3 + x)))) = -4 := by
                              rw [hrb, hu, show v7 + 1 - v3 = (v7 - v3) + 1 by omega, bl_s (P := fun x => ¬ M 32 (sa (M 3) (M 56 (24 * v2 + (v3 + x)))) = -4) (by omega)]
                              refine and_congr Iff.rfl ?_
                              show _ ↔ ¬ M 32 (sa (M 3) (M 56 (24 * v2 + (v3 + (v7 - v3))))) = -4
                              rw [show v3 + (v7 - v3) = v7 by omega]
                            refine r_iinc (lv' := [(7, .int (zi (v7 + 1))), (6, .int (zi (bI (v6 ∧ (¬ (((fup g89 (v7 - v3) (M 32 (sa ((M 3)) ((M 56) (24 * v2 + v7))))) (v7 - v3)) = (-4))))))), (0, .ref (B 49 0)), (1, .int (zi v)), (2, .int (zi v2)), (3, .int (zi v3)), (4, .int (zi v4)), (5, .ref ta_6)]) C dX0_spell_144 hl (k := 7) rfl (by decide) rfl (fun ls hl => ?_)
                            refine lv_goto (tgt := 89) C.x C.b dX0_spell_147 (by decide) ?_
                            exact ih89 (v6 ∧ (¬ (((fup g89 (v7 - v3) (M 32 (sa ((M 3)) ((M 56) (24 * v2 + v7))))) (v7 - v3)) = (-4)))) (bI (v6 ∧ (¬ (((fup g89 (v7 - v3) (M 32 (sa ((M 3)) ((M 56) (24 * v2 + v7))))) (v7 - v3)) = (-4))))) rfl (v7 + 1) (fup g89 (v7 - v3) (M 32 (sa ((M 3)) ((M 56) (24 * v2 + v7))))) (by omega) hst1 hst0 hstu (by omega) H locs ls hX hS (lv_sub hl [2, 3, 4, 5, 6, 7, 1, 0] rfl)
                          refine r_if_eq_b (tgt := 141) C dX0_spell_122 (by decide) (fun c_10 => ?_) (fun c_10 => ?_)
                          · refine r_const C dX0_spell_141 ?_
                            exact J142_9 0 ((bI_f (fun q => c_10 q.1)).symm) H locs ls hX hS hl
                          · refine lv_aload C.x C.b dX0_spell_125 (lv_at hl 5 rfl) ?_
                            refine lv_iload C.x C.b dX0_spell_127 (lv_at hl 7 rfl) ?_
                            refine lv_iload_n C.x C.b dX0_spell_129 rfl (lv_at hl 3 rfl) ?_
                            refine r_isub C dX0_spell_130 ?_
                            refine x_tli (B := (va_up B 54 b54_17)) C hX 0 (by decide) (a := ta_6) (n := ((v4 - v3)).toNat) (g := (fup g89 (v7 - v3) (M 32 (sa ((M 3)) ((M 56) (24 * v2 + v7)))))) (va_up_self _ _ _) (show 0 ≤ (v7 - v3) ∧ (v7 - v3) < ((((v4 - v3)).toNat : Nat) : Int) from (by omega)) (show ((v4 - v3)).toNat < 2147483648 from by omega) (v := (fup g89 (v7 - v3) (M 32 (sa ((M 3)) ((M 56) (24 * v2 + v7))))) (v7 - v3)) rfl dX0_spell_131 ?_
                            have hrb : fup g89 (v7 - v3) (M 32 (sa (M 3) (M 56 (24 * v2 + v7)))) (v7 - v3) = M 32 (sa (M 3) (M 56 (24 * v2 + v7))) := fup_s _ _ _
                            refine r_bipush C (by decide) dX0_spell_132 ?_
                            refine r_icmp_eq (tgt := 141) C (by omega) (by decide) dX0_spell_134 (by decide) (fun c_11 => ?_) (fun c_11 => ?_)
                            · refine r_const C dX0_spell_141 ?_
                              exact J142_9 0 ((bI_f (fun q => (fun q => q c_11) q.2)).symm) H locs ls hX hS hl
                            · refine r_const C dX0_spell_137 ?_
                              refine lv_goto (tgt := 142) C.x C.b dX0_spell_138 (by decide) ?_
                              exact J142_9 1 ((bI_t ⟨c_10, c_11⟩).symm) H locs ls hX hS hl
                    exact L89 _ True 1 bI_T.symm v3 (fun _ => 0) (by omega) (fun x a b => absurd a (by omega)) (fun _ _ => rfl) (by rw [show v3 - v3 = (0 : Int) by omega]; exact bl_0) (Nat.lt_succ_self _) H locs ls hX hS (lv_sub hl [4, 5, 6, 7, 3, 2, 1, 0] rfl)
        exact L17 _ 0 b54 f35 gg34 m54 m202 cs7 ss7 (by have := h24 v2; omega) (by omega) hn hQ (Nat.lt_succ_self _) H locs ls hX hS (lv_sub hl [1, 2, 3, 0] rfl)
  exact L7 _ 0 (B 54) 0 (G 34) (M 54) (M 202) 0 0 (by omega) (by omega) rfl SPQ.zero (Nat.lt_succ_self _) H locs ls (hX.to ((up_id B (k := 54) (a := (B 54)) rfl).symm.trans rfl) rfl (((up_id M (k := 54) (a := (M 54)) rfl).symm.trans rfl).trans ((up_id (va_up M 54 (M 54)) (k := 202) (a := (M 202)) rfl).symm.trans rfl)) ((up_id G (k := 34) (a := (G 34)) rfl).symm.trans rfl) rfl) hS (lv_sub hl [1, 2, 0] rfl)
