set_option maxRecDepth 100000

theorem hd_X0_layAkin : yX0_layAkin.cls = RX0 ∧ yX0_layAkin.cls ≠ "java/lang/invoke/MethodHandle" ∧ yX0_layAkin.cls ≠ "java/lang/invoke/VarHandle" ∧ (parseMethodDescriptor yX0_layAkin.desc).map (fun d => d.parameters.length) = some 0 := by decide +kernel
abbrev rm_X0_layAkin : Room := { frames := 3, cells := 0, slots := 0, locals := 75 }
set_option maxHeartbeats 8000000 in
theorem met_X0_layAkin (l : Launch) (E : us_E) (A : Nat → Prop) (B : Nat → Int → Nat) (F : Nat → Int) (M : Nat → Int → Int) (G : Nat → Int → Option Nat) (T : x_T) : cMet l yX0_layAkin cX0_layAkin 5 none rm_X0_layAkin A E [.ref (B 49 0)] (fun H => XH E A B F M G T H) (qv A (fun H => ∃ f12 : Int, ∃ m3 : Int → Int, ∃ m9 : Int → Int, ∃ m10 : Int → Int, ∃ m11 : Int → Int, ∃ m51 : Int → Int, ∃ m52 : Int → Int, SgOK (F 1) (M 0) (F 2) m3 ∧ (∀ a b : Int, 0 ≤ a → a < 24 → 0 ≤ b → b < 24 → m51 (24 * a + b) = akS m3 (mtc (M 56)) (M 200) (F 6) a b) ∧ (∀ x u : Int, 0 ≤ x → x < 24 → 0 ≤ u → u < 24 → m52 (24 * x + u) = sel (x = u) 0 (apS (F 1) m3 (fun a b => M 50 (24 * a + b)) x u)) ∧ XH E A B (va_up F 12 f12) (va_up (va_up (va_up (va_up (va_up (va_up M 3 m3) 9 m9) 10 m10) 11 m11) 51 m51) 52 m52) G T H)) := by
  refine cMet.of (by decide) (Nat.le_of_ble_eq_true rfl) (fun p e s m args below meth c C hnm hX hS ls hl => ?_)
  have C : Cx p s m args meth c A RX0 cX0_layAkin 5 none E := C
  have hX : XH E A B F M G T s.heap := hX
  have hl : lv_has ls 5 [(0, .ref (B 49 0))] := hl
  generalize hH : s.heap = H at hX
  have hS : va_S A s.heap H [] := by rw [← hH]; exact hS
  generalize hlocs : ([] : List Loc) = locs at hS ⊢
  obtain ⟨QQ, hQQ⟩ : ∃ zQQ, MQ below (qv A (fun H => ∃ f12 : Int, ∃ m3 : Int → Int, ∃ m9 : Int → Int, ∃ m10 : Int → Int, ∃ m11 : Int → Int, ∃ m51 : Int → Int, ∃ m52 : Int → Int, SgOK (F 1) (M 0) (F 2) m3 ∧ (∀ a b : Int, 0 ≤ a → a < 24 → 0 ≤ b → b < 24 → m51 (24 * a + b) = akS m3 (mtc (M 56)) (M 200) (F 6) a b) ∧ (∀ x u : Int, 0 ≤ x → x < 24 → 0 ≤ u → u < 24 → m52 (24 * x + u) = sel (x = u) 0 (apS (F 1) m3 (fun a b => M 50 (24 * a + b)) x u)) ∧ XH E A B (va_up F 12 f12) (va_up (va_up (va_up (va_up (va_up (va_up M 3 m3) 9 m9) 10 m10) 11 m11) 51 m51) 52 m52) G T H)) args s (rm_X0_layAkin).cells (rm_X0_layAkin).slots A = zQQ := ⟨_, rfl⟩
  rw [hQQ]
  have rF1 : 0 ≤ F 1 ∧ F 1 ≤ 24 := hX.2.1 1 (0, 24) rfl
  have rF6 : 0 ≤ F 6 ∧ F 6 ≤ 8 := hX.2.1 6 (0, 8) rfl
  have rF12 : 0 ≤ F 12 ∧ F 12 ≤ 192 := hX.2.1 12 (0, 192) rfl
  have h24 : ∀ t, 0 ≤ M 200 t ∧ M 200 t ≤ 24 := fun t => hX.2.2.1 200 (0, 24) rfl t
  have hcl : ∀ q, -2 ≤ M 56 q ∧ M 56 q ≤ 23 := fun q => hX.2.2.1 56 (-2, 23) rfl q
  have hs3 : ∀ q, 0 ≤ M 3 q ∧ M 3 q ≤ 23 := fun q => hX.2.2.1 3 (0, 23) rfl q
  have h24a : ∀ a, 0 ≤ (M 200) a := fun a => (h24 a).1
  refine lv_aload_n C.x C.b dX0_layAkin_0 rfl (lv_at hl 0 rfl) ?_
  refine r_callVv (As := []) (rest := []) (cells' := 0) (slots' := 0) C (met_X0_layAll l E A B F M G T) (lw_V q134 q136 qs1 q86 q137) hd_X0_layAll rfl (by decide) (x_this C hX) hX hS hl.1 rfl (Nat.le_of_ble_eq_true rfl) dX0_layAkin_1 rfl rfl ⟨Nat.le_of_ble_eq_true rfl, Nat.le_of_ble_eq_true rfl⟩ (fun H locs hp hS => ?_)
  obtain ⟨sg, hsg, hX⟩ := hp
  replace hsg : SgOK ((F 1)) ((M 0)) ((F 2)) sg := hsg
  have hX : XH E A B F (va_up M 3 sg) G T H := hX.to rfl rfl rfl rfl rfl
  refine lv_aload_n C.x C.b dX0_layAkin_4 rfl (lv_at hl 0 rfl) ?_
  refine r_callVv (As := []) (rest := []) (cells' := 0) (slots' := 0) C (met_X0_layWords l E A B F (va_up M 3 sg) G T) (lw_V q237 q239 qs11 q86 q240) hd_X0_layWords rfl (by decide) (x_this C hX) hX hS hl.1 rfl (Nat.le_of_ble_eq_true rfl) dX0_layAkin_5 rfl rfl ⟨Nat.le_of_ble_eq_true rfl, Nat.le_of_ble_eq_true rfl⟩ (fun H locs hp hS => ?_)
  obtain ⟨wn, w9, w10, w11, hwn, hwq, hX⟩ := hp
  replace hwn : wn = KP (FR (sg) (mtc ((M 56))) ((M 200))) ((M 200)) ((F 6)) 0 := hwn
  replace hwq : WQ (sg) (mtc ((M 56))) ((M 200)) w9 w10 w11 ((F 6)) 0 := hwq
  have hX : XH E A B (va_up F 12 wn) (va_up (va_up (va_up (va_up M 3 sg) 9 w9) 10 w10) 11 w11) G T H := hX.to rfl rfl ((congrArg (fun z => va_up z 11 w11) ((congrArg (fun z => va_up z 10 w10) rfl).trans rfl)).trans rfl) rfl rfl
  have hwn192 : 0 ≤ wn ∧ wn ≤ 192 := hX.2.1 12 (0, 192) rfl
  refine r_const C dX0_layAkin_8 ?_
  refine lv_istore_n (lv' := [(1, .int (zi 0)), (0, .ref (B 49 0))]) C.x C.b dX0_layAkin_9 rfl hl (by decide) rfl (fun ls hl => ?_)
  have L10 : ∀ (fu : Nat) (v1 : Int) (m51 : Int → Int) (m52 : Int → Int) (h1 : 0 ≤ v1 ∧ v1 ≤ 24) (h0 : ∀ k : Int, 0 ≤ k → k < 24 * v1 → m51 k = 0) (h0b : ∀ k : Int, 0 ≤ k → k < 24 * v1 → m52 k = 0) (hm : Int.toNat (24 - v1) < fu) (H : Heap) (locs : List Loc) (ls : Array Slot) (hX : XH E A B (va_up F 12 wn) (va_up (va_up (va_up (va_up (va_up (va_up M 3 sg) 9 w9) 10 w10) 11 w11) 51 m51) 52 m52) G T H) (hS : va_S A s.heap H locs) (hl : lv_has ls 5 [(0, .ref (B 49 0)), (1, .int (zi v1))]), W p l e rm_X0_layAkin s m args below meth c H locs 0 0 QQ (F0 m 10 ls []) := by
    intro fu
    induction fu with
    | zero => intro v1 m51 m52 h1 h0 h0b hm; exact absurd hm (Nat.not_lt_zero _)
    | succ fu ih10 =>
      intro v1 m51 m52 h1 h0 h0b hm H locs ls hX hS hl
      refine lv_iload_n C.x C.b dX0_layAkin_10 rfl (lv_at hl 1 rfl) ?_
      refine r_bipush C (by decide) dX0_layAkin_11 ?_
      refine r_icmp_ge (tgt := 42) C (by omega) (by decide) dX0_layAkin_13 (by decide) (fun c_1 => ?_) (fun c_1 => ?_)
      · refine r_const C dX0_layAkin_42 ?_
        refine lv_istore_n (lv' := [(1, .int (zi 0)), (0, .ref (B 49 0))]) C.x C.b dX0_layAkin_43 rfl hl (by decide) rfl (fun ls hl => ?_)
        have L44 : ∀ (fu : Nat) (v1_44 : Int) (m51_44 : Int → Int) (h1b : 0 ≤ v1_44 ∧ v1_44 ≤ wn) (ha : ∀ a b : Int, 0 ≤ a → a < 24 → 0 ≤ b → b < 24 → m51_44 (24 * a + b) = isum (fun w => isum (fun v => gx sg (M 56) w9 w10 w11 a b w v) w) v1_44) (hm : Int.toNat (wn - v1_44) < fu) (H : Heap) (locs : List Loc) (ls : Array Slot) (hX : XH E A B (va_up F 12 wn) (va_up (va_up (va_up (va_up (va_up (va_up M 3 sg) 9 w9) 10 w10) 11 w11) 51 m51_44) 52 m52) G T H) (hS : va_S A s.heap H locs) (hl : lv_has ls 5 [(0, .ref (B 49 0)), (1, .int (zi v1_44))]), W p l e rm_X0_layAkin s m args below meth c H locs 0 0 QQ (F0 m 44 ls []) := by
          intro fu
          induction fu with
          | zero => intro v1_44 m51_44 h1b ha hm; exact absurd hm (Nat.not_lt_zero _)
          | succ fu ih44 =>
            intro v1_44 m51_44 h1b ha hm H locs ls hX hS hl
            refine lv_iload_n C.x C.b dX0_layAkin_44 rfl (lv_at hl 1 rfl) ?_
            refine lv_aload_n C.x C.b dX0_layAkin_45 rfl (lv_at hl 0 rfl) ?_
            refine x_gi C hX 12 (by decide) rfl q748 (fun _ h => h) wn rfl (b := (0, 192)) rfl dX0_layAkin_46 (fun r46 => ?_)
            have r46 : 0 ≤ wn ∧ wn ≤ 192 := r46
            refine r_icmp_ge (tgt := 138) C (by omega) (by omega) dX0_layAkin_49 (by decide) (fun c_2 => ?_) (fun c_2 => ?_)
            · have hak_ : ∀ a b : Int, 0 ≤ a → a < 24 → 0 ≤ b → b < 24 → m51_44 (24 * a + b) = akS sg (mtc (M 56)) (M 200) (F 6) a b := fun a b q1 q2 q3 q4 => by
                rw [ha a b q1 q2 q3 q4, show v1_44 = wn by omega, hwn]
                exact akx_words h24a rF6.1 hwq
              refine r_const C dX0_layAkin_138 ?_
              refine lv_istore_n (lv' := [(1, .int (zi 0)), (0, .ref (B 49 0))]) C.x C.b dX0_layAkin_139 rfl hl (by decide) rfl (fun ls hl => ?_)
              have L140 : ∀ (fu : Nat) (v1_140 : Int) (m52_140 : Int → Int) (h1c : 0 ≤ v1_140 ∧ v1_140 ≤ F 1) (hA : ApI (F 1) sg (fun a b => M 50 (24 * a + b)) m52_140 v1_140 0) (hm : Int.toNat (F 1 - v1_140) < fu) (H : Heap) (locs : List Loc) (ls : Array Slot) (hX : XH E A B (va_up F 12 wn) (va_up (va_up (va_up (va_up (va_up (va_up M 3 sg) 9 w9) 10 w10) 11 w11) 51 m51_44) 52 m52_140) G T H) (hS : va_S A s.heap H locs) (hl : lv_has ls 5 [(0, .ref (B 49 0)), (1, .int (zi v1_140))]), W p l e rm_X0_layAkin s m args below meth c H locs 0 0 QQ (F0 m 140 ls []) := by
                intro fu
                induction fu with
                | zero => intro v1_140 m52_140 h1c hA hm; exact absurd hm (Nat.not_lt_zero _)
                | succ fu ih140 =>
                  intro v1_140 m52_140 h1c hA hm H locs ls hX hS hl
                  refine lv_iload_n C.x C.b dX0_layAkin_140 rfl (lv_at hl 1 rfl) ?_
                  refine lv_aload_n C.x C.b dX0_layAkin_141 rfl (lv_at hl 0 rfl) ?_
                  refine x_gi C hX 1 (by decide) rfl q737 (fun _ h => h) (F 1) rfl (b := (0, 24)) rfl dX0_layAkin_142 (fun _ => ?_)
                  refine r_icmp_ge (tgt := 224) C (by omega) (by omega) dX0_layAkin_145 (by decide) (fun c_3 => ?_) (fun c_3 => ?_)
                  · rw [← hQQ]
                    exact r_vret C hS (Nat.le_of_ble_eq_true rfl) (Nat.le_of_ble_eq_true rfl) dX0_layAkin_224 ⟨wn, sg, w9, w10, w11, m51_44, m52_140, hsg, hak_, (by have z := hA; rw [show v1_140 = F 1 by omega] at z; exact z.fin), hX⟩
                  · refine r_const C dX0_layAkin_148 ?_
                    refine lv_istore_n (lv' := [(2, .int (zi 0)), (0, .ref (B 49 0)), (1, .int (zi v1_140))]) C.x C.b dX0_layAkin_149 rfl hl (by decide) rfl (fun ls hl => ?_)
                    have L150 : ∀ (fu : Nat) (v2_150 : Int) (m52_150 : Int → Int) (h2b : 0 ≤ v2_150 ∧ v2_150 ≤ F 1) (hB : ApI (F 1) sg (fun a b => M 50 (24 * a + b)) m52_150 v1_140 v2_150) (hm : Int.toNat (F 1 - v2_150) < fu) (H : Heap) (locs : List Loc) (ls : Array Slot) (hX : XH E A B (va_up F 12 wn) (va_up (va_up (va_up (va_up (va_up (va_up M 3 sg) 9 w9) 10 w10) 11 w11) 51 m51_44) 52 m52_150) G T H) (hS : va_S A s.heap H locs) (hl : lv_has ls 5 [(0, .ref (B 49 0)), (1, .int (zi v1_140)), (2, .int (zi v2_150))]), W p l e rm_X0_layAkin s m args below meth c H locs 0 0 QQ (F0 m 150 ls []) := by
                      intro fu
                      induction fu with
                      | zero => intro v2_150 m52_150 h2b hB hm; exact absurd hm (Nat.not_lt_zero _)
                      | succ fu ih150 =>
                        intro v2_150 m52_150 h2b hB hm H locs ls hX hS hl
                        refine lv_iload_n C.x C.b dX0_layAkin_150 rfl (lv_at hl 2 rfl) ?_
                        refine lv_aload_n C.x C.b dX0_layAkin_151 rfl (lv_at hl 0 rfl) ?_
                        refine x_gi C hX 1 (by decide) rfl q737 (fun _ h => h) (F 1) rfl (b := (0, 24)) rfl dX0_layAkin_152 (fun _ => ?_)
                        refine r_icmp_ge (tgt := 218) C (by omega) (by omega) dX0_layAkin_155 (by decide) (fun c_4 => ?_) (fun c_4 => ?_)
                        · refine r_iinc (lv' := [(1, .int (zi (v1_140 + 1))), (0, .ref (B 49 0)), (2, .int (zi v2_150))]) C dX0_layAkin_218 hl (k := 1) rfl (by decide) rfl (fun ls hl => ?_)
                          refine lv_goto (tgt := 140) C.x C.b dX0_layAkin_221 (by decide) ?_
                          exact ih140 (v1_140 + 1) m52_150 (by omega) (hB.row (by omega)) (by omega) H locs ls hX hS (lv_sub hl [1, 0] rfl)
                        · have r3a : 0 ≤ sg v1_140 ∧ sg v1_140 ≤ 23 := hX.2.2.1 3 (0, 23) rfl _
                          have r3b : 0 ≤ sg v2_150 ∧ sg v2_150 ≤ 23 := hX.2.2.1 3 (0, 23) rfl _
                          refine lv_aload_n C.x C.b dX0_layAkin_158 rfl (lv_at hl 0 rfl) ?_
                          refine x_ga C hX 3 (by decide) rfl q739 (fun _ h => h) dX0_layAkin_159 ?_
                          refine lv_iload_n C.x C.b dX0_layAkin_162 rfl (lv_at hl 1 rfl) ?_
                          refine x_li1 C hX 3 rfl (by decide) rfl (show 0 ≤ v1_140 ∧ v1_140 < 24 from (by omega)) (by decide) (sg v1_140) rfl dX0_layAkin_163 (fun r163 => ?_)
                          have r163 : 0 ≤ sg v1_140 ∧ sg v1_140 ≤ 23 := r163 (0, 23) rfl
                          refine lv_istore_n (lv' := [(3, .int (zi (sg v1_140))), (0, .ref (B 49 0)), (1, .int (zi v1_140)), (2, .int (zi v2_150))]) C.x C.b dX0_layAkin_164 rfl hl (by decide) rfl (fun ls hl => ?_)
                          refine lv_aload_n C.x C.b dX0_layAkin_165 rfl (lv_at hl 1 rfl) ?_
                          refine x_ga C hX 3 (by decide) rfl q739 (fun _ h => h) dX0_layAkin_166 ?_
                          refine lv_iload_n C.x C.b dX0_layAkin_169 rfl (lv_at hl 3 rfl) ?_
                          refine x_li1 C hX 3 rfl (by decide) rfl (show 0 ≤ v2_150 ∧ v2_150 < 24 from (by omega)) (by decide) (sg v2_150) rfl dX0_layAkin_170 (fun r170 => ?_)
                          have r170 : 0 ≤ sg v2_150 ∧ sg v2_150 ≤ 23 := r170 (0, 23) rfl
                          refine lv_istore (lv' := [(4, .int (zi (sg v2_150))), (3, .int (zi (sg v1_140))), (0, .ref (B 49 0)), (1, .int (zi v1_140)), (2, .int (zi v2_150))]) C.x C.b dX0_layAkin_171 hl (by decide) rfl (fun ls hl => ?_)
                          refine lv_aload_n C.x C.b dX0_layAkin_173 rfl (lv_at hl 2 rfl) ?_
                          refine x_ga C hX 14 (by decide) rfl q750 (fun _ h => h) dX0_layAkin_174 ?_
                          refine lv_iload_n C.x C.b dX0_layAkin_177 rfl (lv_at hl 1 rfl) ?_
                          refine x_la C hX 14 rfl rfl rfl (by decide) rfl rfl (show 0 ≤ (sg v1_140) ∧ (sg v1_140) < 24 from (by omega)) (by omega) (by decide) dX0_layAkin_178 ?_
                          refine lv_iload C.x C.b dX0_layAkin_179 (lv_at hl 0 rfl) ?_
                          refine lv_iload_n C.x C.b dX0_layAkin_181 rfl (lv_at hl 1 rfl) ?_
                          refine lv_iload C.x C.b dX0_layAkin_182 (lv_at hl 0 rfl) ?_
                          have hmx : 0 ≤ sel (m52_150 (24 * sg v1_140 + sg v2_150) < M 50 (24 * v1_140 + v2_150)) (M 50 (24 * v1_140 + v2_150)) (m52_150 (24 * sg v1_140 + sg v2_150)) ∧ sel (m52_150 (24 * sg v1_140 + sg v2_150) < M 50 (24 * v1_140 + v2_150)) (M 50 (24 * v1_140 + v2_150)) (m52_150 (24 * sg v1_140 + sg v2_150)) ≤ 9 := sel_rg (fun _ => hX.2.2.1 50 (0, 9) rfl _) (fun _ => hX.2.2.1 52 (0, 9) rfl _)
                          have J211_5 : ∀ (t2 : Int) (ht2 : t2 = sel ((sg v1_140) = (sg v2_150)) 0 (sel ((m52_150 (24 * (sg v1_140) + (sg v2_150))) < (M 50 (24 * v1_140 + v2_150))) (M 50 (24 * v1_140 + v2_150)) (m52_150 (24 * (sg v1_140) + (sg v2_150))))) (H : Heap) (locs : List Loc) (ls : Array Slot) (hX : XH E A B (va_up F 12 wn) (va_up (va_up (va_up (va_up (va_up (va_up M 3 sg) 9 w9) 10 w10) 11 w11) 51 m51_44) 52 m52_150) G T H) (hS : va_S A s.heap H locs) (hl : lv_has ls 5 [(4, .int (zi (sg v2_150))), (3, .int (zi (sg v1_140))), (0, .ref (B 49 0)), (1, .int (zi v1_140)), (2, .int (zi v2_150))]), W p l e rm_X0_layAkin s m args below meth c H locs 0 0 QQ (F0 m 211 ls [.int (zi t2), .int (zi (sg v2_150)), .ref (B 52 (sg v1_140))]) := by
                            intro t2 ht2 H locs ls hX hS hl
                            subst ht2
                            have hrt2 : (0 : Int) ≤ ((sel ((sg v1_140) = (sg v2_150)) 0 (sel ((m52_150 (24 * (sg v1_140) + (sg v2_150))) < (M 50 (24 * v1_140 + v2_150))) (M 50 (24 * v1_140 + v2_150)) (m52_150 (24 * (sg v1_140) + (sg v2_150))))) : Int) ∧ ((sel ((sg v1_140) = (sg v2_150)) 0 (sel ((m52_150 (24 * (sg v1_140) + (sg v2_150))) < (M 50 (24 * v1_140 + v2_150))) (M 50 (24 * v1_140 + v2_150)) (m52_150 (24 * (sg v1_140) + (sg v2_150))))) : Int) ≤ 9 := by
                              exact (sel_rg (fun qq => (by omega)) (fun qq => (by omega)))
                            refine x_si C hX hS 52 rfl (by decide) rfl (show 0 ≤ (sg v1_140) ∧ (sg v1_140) < 24 from (by omega)) (show 0 ≤ (sg v2_150) ∧ (sg v2_150) < 24 from (by omega)) (by decide) (fun b hb => by cases hb; exact (show 0 ≤ sel ((sg v1_140) = (sg v2_150)) 0 (sel ((m52_150 (24 * (sg v1_140) + (sg v2_150))) < (M 50 (24 * v1_140 + v2_150))) (M 50 (24 * v1_140 + v2_150)) (m52_150 (24 * (sg v1_140) + (sg v2_150)))) ∧ sel ((sg v1_140) = (sg v2_150)) 0 (sel ((m52_150 (24 * (sg v1_140) + (sg v2_150))) < (M 50 (24 * v1_140 + v2_150))) (M 50 (24 * v1_140 + v2_150)) (m52_150 (24 * (sg v1_140) + (sg v2_150)))) ≤ 9 from (by omega))) (M' := (va_up (va_up (va_up (va_up (va_up (va_up M 3 sg) 9 w9) 10 w10) 11 w11) 51 m51_44) 52 (fup m52_150 (24 * (sg v1_140) + (sg v2_150)) (sel ((sg v1_140) = (sg v2_150)) 0 (sel ((m52_150 (24 * (sg v1_140) + (sg v2_150))) < (M 50 (24 * v1_140 + v2_150))) (M 50 (24 * v1_140 + v2_150)) (m52_150 (24 * (sg v1_140) + (sg v2_150)))))))) (up_up _ _ _ _) dX0_layAkin_211 (fun H locs hX hS => ?_)
                            refine r_iinc (lv' := [(2, .int (zi (v2_150 + 1))), (4, .int (zi (sg v2_150))), (3, .int (zi (sg v1_140))), (0, .ref (B 49 0)), (1, .int (zi v1_140))]) C dX0_layAkin_212 hl (k := 4) rfl (by decide) rfl (fun ls hl => ?_)
                            refine lv_goto (tgt := 150) C.x C.b dX0_layAkin_215 (by decide) ?_
                            exact ih150 (v2_150 + 1) (fup m52_150 (24 * (sg v1_140) + (sg v2_150)) (sel ((sg v1_140) = (sg v2_150)) 0 (sel ((m52_150 (24 * (sg v1_140) + (sg v2_150))) < (M 50 (24 * v1_140 + v2_150))) (M 50 (24 * v1_140 + v2_150)) (m52_150 (24 * (sg v1_140) + (sg v2_150)))))) (by omega) (hB.st h1c.1 ⟨h2b.1, by omega⟩ ⟨r3a.1, by omega⟩ ⟨r3b.1, by omega⟩ (hX.2.2.1 50 (0, 9) rfl _).1 rfl) (by omega) H locs ls hX hS (lv_sub hl [3, 4, 0] rfl)
                          refine r_icmp_ne (tgt := 191) C (by omega) (by omega) dX0_layAkin_184 (by decide) (fun c_6 => ?_) (fun c_6 => ?_)
                          · refine lv_aload_n C.x C.b dX0_layAkin_191 rfl (lv_at hl 2 rfl) ?_
                            refine x_ga C hX 14 (by decide) rfl q750 (fun _ h => h) dX0_layAkin_192 ?_
                            refine lv_iload_n C.x C.b dX0_layAkin_195 rfl (lv_at hl 1 rfl) ?_
                            refine x_la C hX 14 rfl rfl rfl (by decide) rfl rfl (show 0 ≤ (sg v1_140) ∧ (sg v1_140) < 24 from (by omega)) (by omega) (by decide) dX0_layAkin_196 ?_
                            refine lv_iload C.x C.b dX0_layAkin_197 (lv_at hl 0 rfl) ?_
                            refine x_li C hX 52 rfl (by decide) rfl (show 0 ≤ (sg v1_140) ∧ (sg v1_140) < 24 from (by omega)) (show 0 ≤ (sg v2_150) ∧ (sg v2_150) < 24 from (by omega)) (by decide) (m52_150 (24 * (sg v1_140) + (sg v2_150))) rfl dX0_layAkin_199 (fun r199 => ?_)
                            have r199 : 0 ≤ m52_150 (24 * (sg v1_140) + (sg v2_150)) ∧ m52_150 (24 * (sg v1_140) + (sg v2_150)) ≤ 9 := r199 (0, 9) rfl
                            refine lv_aload_n C.x C.b dX0_layAkin_200 rfl (lv_at hl 2 rfl) ?_
                            refine x_ga C hX 4 (by decide) rfl q740 (fun _ h => h) dX0_layAkin_201 ?_
                            refine lv_iload_n C.x C.b dX0_layAkin_204 rfl (lv_at hl 3 rfl) ?_
                            refine x_la C hX 4 rfl rfl rfl (by decide) rfl rfl (show 0 ≤ v1_140 ∧ v1_140 < 24 from (by omega)) (by omega) (by decide) dX0_layAkin_205 ?_
                            refine lv_iload_n C.x C.b dX0_layAkin_206 rfl (lv_at hl 4 rfl) ?_
                            refine x_li C hX 50 rfl (by decide) rfl (show 0 ≤ v1_140 ∧ v1_140 < 24 from (by omega)) (show 0 ≤ v2_150 ∧ v2_150 < 24 from (by omega)) (by decide) (M 50 (24 * v1_140 + v2_150)) rfl dX0_layAkin_207 (fun r207 => ?_)
                            have r207 : 0 ≤ M 50 (24 * v1_140 + v2_150) ∧ M 50 (24 * v1_140 + v2_150) ≤ 9 := r207 (0, 9) rfl
                            refine r_mmax C hl.1 (by omega) (by omega) q190 q191 q99 q192 (by decide) (Nat.le_trans (Nat.add_le_add_right (show _ ≤ 8 from Nat.le_of_ble_eq_true rfl) 13) (by decide)) (Nat.le_of_ble_eq_true rfl) (Nat.le_of_ble_eq_true rfl) dX0_layAkin_208 ?_
                            exact J211_5 (sel ((m52_150 (24 * (sg v1_140) + (sg v2_150))) < (M 50 (24 * v1_140 + v2_150))) (M 50 (24 * v1_140 + v2_150)) (m52_150 (24 * (sg v1_140) + (sg v2_150)))) ((sel_f c_6).symm) H locs ls hX hS hl
                          · refine r_const C dX0_layAkin_187 ?_
                            refine lv_goto (tgt := 211) C.x C.b dX0_layAkin_188 (by decide) ?_
                            exact J211_5 0 ((sel_t c_6).symm) H locs ls hX hS hl
                    exact L150 _ 0 m52_140 (by omega) hA (Nat.lt_succ_self _) H locs ls hX hS (lv_sub hl [1, 2, 0] rfl)
              exact L140 _ 0 m52 (by omega) (ApI.zero (fun k a b => h0b k a (by omega))) (Nat.lt_succ_self _) H locs ls hX hS (lv_sub hl [1, 0] rfl)
            · refine r_const C dX0_layAkin_52 ?_
              refine lv_istore_n (lv' := [(2, .int (zi 0)), (0, .ref (B 49 0)), (1, .int (zi v1_44))]) C.x C.b dX0_layAkin_53 rfl hl (by decide) rfl (fun ls hl => ?_)
              have L54 : ∀ (fu : Nat) (v2_54 : Int) (m51_54 : Int → Int) (h2 : 0 ≤ v2_54 ∧ v2_54 ≤ v1_44) (hb : ∀ a b : Int, 0 ≤ a → a < 24 → 0 ≤ b → b < 24 → m51_54 (24 * a + b) = isum (fun w => isum (fun v => gx sg (M 56) w9 w10 w11 a b w v) w) v1_44 + isum (fun v => gx sg (M 56) w9 w10 w11 a b v1_44 v) v2_54) (hm : Int.toNat (v1_44 - v2_54) < fu) (H : Heap) (locs : List Loc) (ls : Array Slot) (hX : XH E A B (va_up F 12 wn) (va_up (va_up (va_up (va_up (va_up (va_up M 3 sg) 9 w9) 10 w10) 11 w11) 51 m51_54) 52 m52) G T H) (hS : va_S A s.heap H locs) (hl : lv_has ls 5 [(0, .ref (B 49 0)), (1, .int (zi v1_44)), (2, .int (zi v2_54))]), W p l e rm_X0_layAkin s m args below meth c H locs 0 0 QQ (F0 m 54 ls []) := by
                intro fu
                induction fu with
                | zero => intro v2_54 m51_54 h2 hb hm; exact absurd hm (Nat.not_lt_zero _)
                | succ fu ih54 =>
                  intro v2_54 m51_54 h2 hb hm H locs ls hX hS hl
                  refine lv_iload_n C.x C.b dX0_layAkin_54 rfl (lv_at hl 2 rfl) ?_
                  refine lv_iload_n C.x C.b dX0_layAkin_55 rfl (lv_at hl 1 rfl) ?_
                  refine r_icmp_ge (tgt := 132) C (by omega) (by omega) dX0_layAkin_56 (by decide) (fun c_7 => ?_) (fun c_7 => ?_)
                  · refine r_iinc (lv' := [(1, .int (zi (v1_44 + 1))), (0, .ref (B 49 0)), (2, .int (zi v2_54))]) C dX0_layAkin_132 hl (k := 1) rfl (by decide) rfl (fun ls hl => ?_)
                    refine lv_goto (tgt := 44) C.x C.b dX0_layAkin_135 (by decide) ?_
                    exact ih44 (v1_44 + 1) m51_54 (by omega) (fun a b q1 q2 q3 q4 => by rw [isum_s h1b.1, hb a b q1 q2 q3 q4, show v2_54 = v1_44 by omega]) (by omega) H locs ls hX hS (lv_sub hl [1, 0] rfl)
                  · have hwv1 := hwq.wv (tm := F 6) (w := v1_44) h24a rF6.1 ⟨Int.le_refl 0, h24a _⟩ (Or.inr ⟨rfl, rfl⟩) (by omega) (by omega)
                    have hwv2 := hwq.wv (tm := F 6) (w := v2_54) h24a rF6.1 ⟨Int.le_refl 0, h24a _⟩ (Or.inr ⟨rfl, rfl⟩) (by omega) (by omega)
                    have hno : ¬ PxW sg (M 56) w9 w10 w11 v1_44 v2_54 → ∀ a b : Int, 0 ≤ a → a < 24 → 0 ≤ b → b < 24 → m51_54 (24 * a + b) = isum (fun w => isum (fun v => gx sg (M 56) w9 w10 w11 a b w v) w) v1_44 + isum (fun v => gx sg (M 56) w9 w10 w11 a b v1_44 v) (v2_54 + 1) := fun z a b q1 q2 q3 q4 => by
                      rw [isum_s h2.1, show gx sg (M 56) w9 w10 w11 a b v1_44 v2_54 = 0 from sel_f z, Int.add_zero]; exact hb a b q1 q2 q3 q4
                    refine lv_aload_n C.x C.b dX0_layAkin_59 rfl (lv_at hl 0 rfl) ?_
                    refine x_ga C hX 11 (by decide) rfl q747 (fun _ h => h) dX0_layAkin_60 ?_
                    refine lv_iload_n C.x C.b dX0_layAkin_63 rfl (lv_at hl 1 rfl) ?_
                    refine x_li1 C hX 11 rfl (by decide) rfl (show 0 ≤ v1_44 ∧ v1_44 < 192 from (by omega)) (by decide) (w11 v1_44) rfl dX0_layAkin_64 (fun r64 => ?_)
                    have r64 : 0 ≤ w11 v1_44 ∧ w11 v1_44 ≤ 24 := r64 (0, 24) rfl
                    refine lv_aload_n C.x C.b dX0_layAkin_65 rfl (lv_at hl 0 rfl) ?_
                    refine x_ga C hX 10 (by decide) rfl q746 (fun _ h => h) dX0_layAkin_66 ?_
                    refine lv_iload_n C.x C.b dX0_layAkin_69 rfl (lv_at hl 1 rfl) ?_
                    refine x_li1 C hX 10 rfl (by decide) rfl (show 0 ≤ v1_44 ∧ v1_44 < 192 from (by omega)) (by decide) (w10 v1_44) rfl dX0_layAkin_70 (fun r70 => ?_)
                    have r70 : 0 ≤ w10 v1_44 ∧ w10 v1_44 ≤ 23 := r70 (0, 23) rfl
                    refine r_isub C dX0_layAkin_71 ?_
                    refine r_const C dX0_layAkin_72 ?_
                    refine r_icmp_le (tgt := 126) C (by omega) (by decide) dX0_layAkin_73 (by decide) (fun c_8 => ?_) (fun c_8 => ?_)
                    · refine r_iinc (lv' := [(2, .int (zi (v2_54 + 1))), (0, .ref (B 49 0)), (1, .int (zi v1_44))]) C dX0_layAkin_126 hl (k := 2) rfl (by decide) rfl (fun ls hl => ?_)
                      refine lv_goto (tgt := 54) C.x C.b dX0_layAkin_129 (by decide) ?_
                      exact ih54 (v2_54 + 1) m51_54 (by omega) (by first | exact hst | exact hno (fun z => by first | exact absurd z.1 (by omega) | exact absurd z.2 (by assumption))) (by omega) H locs ls hX hS (lv_sub hl [1, 2, 0] rfl)
                    · refine lv_aload_n C.x C.b dX0_layAkin_76 rfl (lv_at hl 0 rfl) ?_
                      refine lv_iload_n C.x C.b dX0_layAkin_77 rfl (lv_at hl 1 rfl) ?_
                      refine lv_iload_n C.x C.b dX0_layAkin_78 rfl (lv_at hl 2 rfl) ?_
                      refine r_const C dX0_layAkin_79 ?_
                      refine r_callVi (As := [.int (zi v1_44), .int (zi v2_54), .int (zi 1)]) (rest := []) (cells' := 0) (slots' := 0) C (met_X0_areAlike l E A B (va_up F 12 wn) (va_up (va_up (va_up (va_up (va_up (va_up M 3 sg) 9 w9) 10 w10) 11 w11) 51 m51_54) 52 m52) G T v1_44 v2_54 1 (show (0 ≤ v1_44 ∧ v1_44 < 192) ∧ (0 ≤ v2_54 ∧ v2_54 < 192) from (by omega)) (show 0 ≤ (1 : Int) ∧ (1 : Int) ≤ 1 from (by omega)) (show WV (w9) (w10) (w11) ((M 200)) ((F 6)) v1_44 ∧ WV (w9) (w10) (w11) ((M 200)) ((F 6)) v2_54 from ⟨hwv1, hwv2⟩)) (lw_V q241 q243 qs12 q86 q244) hd_X0_areAlike rfl (by decide) (x_this C hX) hX hS hl.1 rfl (Nat.le_of_ble_eq_true rfl) dX0_layAkin_80 rfl rfl ⟨Nat.le_of_ble_eq_true rfl, Nat.le_of_ble_eq_true rfl⟩ (fun rr H locs hp hS => ?_)
                      obtain ⟨hrr, hX⟩ := hp
                      have hrr : rr = bI (alk (sg) ((M 56)) (w9) (w10) (w11) v1_44 v2_54 (1 : Int)) := hrr
                      subst hrr
                      refine r_if_eq_b (tgt := 126) C dX0_layAkin_83 (by decide) (fun c_9 => ?_) (fun c_9 => ?_)
                      · refine r_iinc (lv' := [(2, .int (zi (v2_54 + 1))), (0, .ref (B 49 0)), (1, .int (zi v1_44))]) C dX0_layAkin_126 hl (k := 2) rfl (by decide) rfl (fun ls hl => ?_)
                        refine lv_goto (tgt := 54) C.x C.b dX0_layAkin_129 (by decide) ?_
                        exact ih54 (v2_54 + 1) m51_54 (by omega) (by first | exact hst | exact hno (fun z => by first | exact absurd z.1 (by omega) | exact absurd z.2 (by assumption))) (by omega) H locs ls hX hS (lv_sub hl [1, 2, 0] rfl)
                      · have hP : PxW sg (M 56) w9 w10 w11 v1_44 v2_54 := ⟨by omega, by assumption⟩
                        have hne := ak_ne h24a rF6.1 ⟨Int.le_refl 0, h24a _⟩ hwq h2.1 (by omega) (by omega) hP
                        have hc1 := lw_cell (w := v1_44) (fun j => (hcl j).1) h24a rF6.1 ⟨Int.le_refl 0, h24a _⟩ hwq (by omega) (by omega)
                        have hc2 := lw_cell (w := v2_54) (fun j => (hcl j).1) h24a rF6.1 ⟨Int.le_refl 0, h24a _⟩ hwq (by omega) (by omega)
                        have hsn1 := sa_n (sg := sg) (c := M 56 (24 * w9 v1_44 + (w11 v1_44 - 1))) (hX.2.2.1 3 (0, 23) rfl _).1
                        have hsn2 := sa_n (sg := sg) (c := M 56 (24 * w9 v2_54 + (w11 v2_54 - 1))) (hX.2.2.1 3 (0, 23) rfl _).1
                        refine lv_aload_n C.x C.b dX0_layAkin_86 rfl (lv_at hl 0 rfl) ?_
                        refine x_ga C hX 13 (by decide) rfl q749 (fun _ h => h) dX0_layAkin_87 ?_
                        refine lv_aload_n C.x C.b dX0_layAkin_90 rfl (lv_at hl 0 rfl) ?_
                        refine lv_iload_n C.x C.b dX0_layAkin_91 rfl (lv_at hl 1 rfl) ?_
                        refine r_callVi (As := [.int (zi v1_44)]) (rest := [.ref (B 13 0)]) (cells' := 0) (slots' := 0) C (met_X0_lastOf l E A B (va_up F 12 wn) (va_up (va_up (va_up (va_up (va_up (va_up M 3 sg) 9 w9) 10 w10) 11 w11) 51 m51_54) 52 m52) G T v1_44 (show 0 ≤ v1_44 ∧ v1_44 < 192 from (by omega)) (show WV (w9) (w10) (w11) ((M 200)) ((F 6)) v1_44 from hwv1)) (lw_V q245 q247 qs13 q86 q248) hd_X0_lastOf rfl (by decide) (x_this C hX) hX hS hl.1 rfl (Nat.le_of_ble_eq_true rfl) dX0_layAkin_92 rfl rfl ⟨Nat.le_of_ble_eq_true rfl, Nat.le_of_ble_eq_true rfl⟩ (fun rr H locs hp hS => ?_)
                        obtain ⟨hla1, hrr, hX⟩ := hp
                        have hrr : rr = sa (sg) ((M 56) (24 * w9 v1_44 + (w11 v1_44 - 1))) := hrr
                        subst hrr
                        replace hla1 : -2 ≤ sa (sg) ((M 56) (24 * w9 v1_44 + (w11 v1_44 - 1))) ∧ sa (sg) ((M 56) (24 * w9 v1_44 + (w11 v1_44 - 1))) ≤ 23 := hla1
                        refine x_la C hX 13 rfl rfl rfl (by decide) rfl rfl (show 0 ≤ (sa (sg) ((M 56) (24 * w9 v1_44 + (w11 v1_44 - 1)))) ∧ (sa (sg) ((M 56) (24 * w9 v1_44 + (w11 v1_44 - 1)))) < 24 from (by omega)) (by omega) (by decide) dX0_layAkin_95 ?_
                        refine lv_aload_n C.x C.b dX0_layAkin_96 rfl (lv_at hl 0 rfl) ?_
                        refine lv_iload_n C.x C.b dX0_layAkin_97 rfl (lv_at hl 2 rfl) ?_
                        refine r_callVi (As := [.int (zi v2_54)]) (rest := [.ref (B 51 (sa (sg) ((M 56) (24 * w9 v1_44 + (w11 v1_44 - 1)))))]) (cells' := 0) (slots' := 0) C (met_X0_lastOf l E A B (va_up F 12 wn) (va_up (va_up (va_up (va_up (va_up (va_up M 3 sg) 9 w9) 10 w10) 11 w11) 51 m51_54) 52 m52) G T v2_54 (show 0 ≤ v2_54 ∧ v2_54 < 192 from (by omega)) (show WV (w9) (w10) (w11) ((M 200)) ((F 6)) v2_54 from hwv2)) (lw_V q245 q247 qs13 q86 q248) hd_X0_lastOf rfl (by decide) (x_this C hX) hX hS hl.1 rfl (Nat.le_of_ble_eq_true rfl) dX0_layAkin_98 rfl rfl ⟨Nat.le_of_ble_eq_true rfl, Nat.le_of_ble_eq_true rfl⟩ (fun rr H locs hp hS => ?_)
                        obtain ⟨hla2, hrr, hX⟩ := hp
                        have hrr : rr = sa (sg) ((M 56) (24 * w9 v2_54 + (w11 v2_54 - 1))) := hrr
                        subst hrr
                        replace hla2 : -2 ≤ sa (sg) ((M 56) (24 * w9 v2_54 + (w11 v2_54 - 1))) ∧ sa (sg) ((M 56) (24 * w9 v2_54 + (w11 v2_54 - 1))) ≤ 23 := hla2
                        refine lv_dup2_11 C.x C.b dX0_layAkin_101 rfl rfl ?_
                        refine x_li C hX 51 rfl (by decide) rfl (show 0 ≤ (sa (sg) ((M 56) (24 * w9 v1_44 + (w11 v1_44 - 1)))) ∧ (sa (sg) ((M 56) (24 * w9 v1_44 + (w11 v1_44 - 1)))) < 24 from (by omega)) (show 0 ≤ (sa (sg) ((M 56) (24 * w9 v2_54 + (w11 v2_54 - 1)))) ∧ (sa (sg) ((M 56) (24 * w9 v2_54 + (w11 v2_54 - 1)))) < 24 from (by omega)) (by decide) (m51_54 (24 * (sa (sg) ((M 56) (24 * w9 v1_44 + (w11 v1_44 - 1)))) + (sa (sg) ((M 56) (24 * w9 v2_54 + (w11 v2_54 - 1)))))) rfl dX0_layAkin_102 (fun _ => ?_)
                        refine r_const C dX0_layAkin_103 ?_
                        refine r_iadd C dX0_layAkin_104 ?_
                        refine x_si C hX hS 51 rfl (by decide) rfl (show 0 ≤ (sa (sg) ((M 56) (24 * w9 v1_44 + (w11 v1_44 - 1)))) ∧ (sa (sg) ((M 56) (24 * w9 v1_44 + (w11 v1_44 - 1)))) < 24 from (by omega)) (show 0 ≤ (sa (sg) ((M 56) (24 * w9 v2_54 + (w11 v2_54 - 1)))) ∧ (sa (sg) ((M 56) (24 * w9 v2_54 + (w11 v2_54 - 1)))) < 24 from (by omega)) (by decide) (fun b hb => by cases hb) (M' := (va_up (va_up (va_up (va_up (va_up (va_up M 3 sg) 9 w9) 10 w10) 11 w11) 51 (fup m51_54 (24 * (sa (sg) ((M 56) (24 * w9 v1_44 + (w11 v1_44 - 1)))) + (sa (sg) ((M 56) (24 * w9 v2_54 + (w11 v2_54 - 1))))) ((m51_54 (24 * (sa (sg) ((M 56) (24 * w9 v1_44 + (w11 v1_44 - 1)))) + (sa (sg) ((M 56) (24 * w9 v2_54 + (w11 v2_54 - 1)))))) + 1))) 52 m52)) (up_in (by decide) (up_up _ _ _ _)) dX0_layAkin_105 (fun H locs hX hS => ?_)
                        refine lv_aload_n C.x C.b dX0_layAkin_106 rfl (lv_at hl 0 rfl) ?_
                        refine x_ga C hX 13 (by decide) rfl q749 (fun _ h => h) dX0_layAkin_107 ?_
                        refine lv_aload_n C.x C.b dX0_layAkin_110 rfl (lv_at hl 0 rfl) ?_
                        refine lv_iload_n C.x C.b dX0_layAkin_111 rfl (lv_at hl 2 rfl) ?_
                        refine r_callVi (As := [.int (zi v2_54)]) (rest := [.ref (B 13 0)]) (cells' := 0) (slots' := 0) C (met_X0_lastOf l E A B (va_up F 12 wn) (va_up (va_up (va_up (va_up (va_up (va_up M 3 sg) 9 w9) 10 w10) 11 w11) 51 (fup m51_54 (24 * (sa (sg) ((M 56) (24 * w9 v1_44 + (w11 v1_44 - 1)))) + (sa (sg) ((M 56) (24 * w9 v2_54 + (w11 v2_54 - 1))))) ((m51_54 (24 * (sa (sg) ((M 56) (24 * w9 v1_44 + (w11 v1_44 - 1)))) + (sa (sg) ((M 56) (24 * w9 v2_54 + (w11 v2_54 - 1)))))) + 1))) 52 m52) G T v2_54 (show 0 ≤ v2_54 ∧ v2_54 < 192 from (by omega)) (show WV (w9) (w10) (w11) ((M 200)) ((F 6)) v2_54 from hwv2)) (lw_V q245 q247 qs13 q86 q248) hd_X0_lastOf rfl (by decide) (x_this C hX) hX hS hl.1 rfl (Nat.le_of_ble_eq_true rfl) dX0_layAkin_112 rfl rfl ⟨Nat.le_of_ble_eq_true rfl, Nat.le_of_ble_eq_true rfl⟩ (fun rr H locs hp hS => ?_)
                        obtain ⟨hla3, hrr, hX⟩ := hp
                        have hrr : rr = sa (sg) ((M 56) (24 * w9 v2_54 + (w11 v2_54 - 1))) := hrr
                        subst hrr
                        replace hla3 : -2 ≤ sa (sg) ((M 56) (24 * w9 v2_54 + (w11 v2_54 - 1))) ∧ sa (sg) ((M 56) (24 * w9 v2_54 + (w11 v2_54 - 1))) ≤ 23 := hla3
                        refine x_la C hX 13 rfl rfl rfl (by decide) rfl rfl (show 0 ≤ (sa (sg) ((M 56) (24 * w9 v2_54 + (w11 v2_54 - 1)))) ∧ (sa (sg) ((M 56) (24 * w9 v2_54 + (w11 v2_54 - 1)))) < 24 from (by omega)) (by omega) (by decide) dX0_layAkin_115 ?_
                        refine lv_aload_n C.x C.b dX0_layAkin_116 rfl (lv_at hl 0 rfl) ?_
                        refine lv_iload_n C.x C.b dX0_layAkin_117 rfl (lv_at hl 1 rfl) ?_
                        refine r_callVi (As := [.int (zi v1_44)]) (rest := [.ref (B 51 (sa (sg) ((M 56) (24 * w9 v2_54 + (w11 v2_54 - 1)))))]) (cells' := 0) (slots' := 0) C (met_X0_lastOf l E A B (va_up F 12 wn) (va_up (va_up (va_up (va_up (va_up (va_up M 3 sg) 9 w9) 10 w10) 11 w11) 51 (fup m51_54 (24 * (sa (sg) ((M 56) (24 * w9 v1_44 + (w11 v1_44 - 1)))) + (sa (sg) ((M 56) (24 * w9 v2_54 + (w11 v2_54 - 1))))) ((m51_54 (24 * (sa (sg) ((M 56) (24 * w9 v1_44 + (w11 v1_44 - 1)))) + (sa (sg) ((M 56) (24 * w9 v2_54 + (w11 v2_54 - 1)))))) + 1))) 52 m52) G T v1_44 (show 0 ≤ v1_44 ∧ v1_44 < 192 from (by omega)) (show WV (w9) (w10) (w11) ((M 200)) ((F 6)) v1_44 from hwv1)) (lw_V q245 q247 qs13 q86 q248) hd_X0_lastOf rfl (by decide) (x_this C hX) hX hS hl.1 rfl (Nat.le_of_ble_eq_true rfl) dX0_layAkin_118 rfl rfl ⟨Nat.le_of_ble_eq_true rfl, Nat.le_of_ble_eq_true rfl⟩ (fun rr H locs hp hS => ?_)
                        obtain ⟨hla4, hrr, hX⟩ := hp
                        have hrr : rr = sa (sg) ((M 56) (24 * w9 v1_44 + (w11 v1_44 - 1))) := hrr
                        subst hrr
                        replace hla4 : -2 ≤ sa (sg) ((M 56) (24 * w9 v1_44 + (w11 v1_44 - 1))) ∧ sa (sg) ((M 56) (24 * w9 v1_44 + (w11 v1_44 - 1))) ≤ 23 := hla4
                        refine lv_dup2_11 C.x C.b dX0_layAkin_121 rfl rfl ?_
                        refine x_li C hX 51 rfl (by decide) rfl (show 0 ≤ (sa (sg) ((M 56) (24 * w9 v2_54 + (w11 v2_54 - 1)))) ∧ (sa (sg) ((M 56) (24 * w9 v2_54 + (w11 v2_54 - 1)))) < 24 from (by omega)) (show 0 ≤ (sa (sg) ((M 56) (24 * w9 v1_44 + (w11 v1_44 - 1)))) ∧ (sa (sg) ((M 56) (24 * w9 v1_44 + (w11 v1_44 - 1)))) < 24 from (by omega)) (by decide) ((fup m51_54 (24 * (sa (sg) ((M 56) (24 * w9 v1_44 + (w11 v1_44 - 1)))) + (sa (sg) ((M 56) (24 * w9 v2_54 + (w11 v2_54 - 1))))) ((m51_54 (24 * (sa (sg) ((M 56) (24 * w9 v1_44 + (w11 v1_44 - 1)))) + (sa (sg) ((M 56) (24 * w9 v2_54 + (w11 v2_54 - 1)))))) + 1)) (24 * (sa (sg) ((M 56) (24 * w9 v2_54 + (w11 v2_54 - 1)))) + (sa (sg) ((M 56) (24 * w9 v1_44 + (w11 v1_44 - 1)))))) rfl dX0_layAkin_122 (fun _ => ?_)
                        refine r_const C dX0_layAkin_123 ?_
                        refine r_iadd C dX0_layAkin_124 ?_
                        have hst : ∀ a b : Int, 0 ≤ a → a < 24 → 0 ≤ b → b < 24 → (fup (fup m51_54 (24 * (sa sg (M 56 (24 * w9 v1_44 + (w11 v1_44 - 1)))) + (sa sg (M 56 (24 * w9 v2_54 + (w11 v2_54 - 1))))) (m51_54 (24 * (sa sg (M 56 (24 * w9 v1_44 + (w11 v1_44 - 1)))) + (sa sg (M 56 (24 * w9 v2_54 + (w11 v2_54 - 1))))) + 1)) (24 * (sa sg (M 56 (24 * w9 v2_54 + (w11 v2_54 - 1)))) + (sa sg (M 56 (24 * w9 v1_44 + (w11 v1_44 - 1))))) (fup m51_54 (24 * (sa sg (M 56 (24 * w9 v1_44 + (w11 v1_44 - 1)))) + (sa sg (M 56 (24 * w9 v2_54 + (w11 v2_54 - 1))))) (m51_54 (24 * (sa sg (M 56 (24 * w9 v1_44 + (w11 v1_44 - 1)))) + (sa sg (M 56 (24 * w9 v2_54 + (w11 v2_54 - 1))))) + 1) (24 * (sa sg (M 56 (24 * w9 v2_54 + (w11 v2_54 - 1)))) + (sa sg (M 56 (24 * w9 v1_44 + (w11 v1_44 - 1))))) + 1)) (24 * a + b) = isum (fun w => isum (fun v => gx sg (M 56) w9 w10 w11 a b w v) w) v1_44 + isum (fun v => gx sg (M 56) w9 w10 w11 a b v1_44 v) (v2_54 + 1) := fun a b q1 q2 q3 q4 => by
                          rw [ak_up (m := m51_54) (a := sa sg (M 56 (24 * w9 v1_44 + (w11 v1_44 - 1)))) (b := sa sg (M 56 (24 * w9 v2_54 + (w11 v2_54 - 1)))) (by omega) (by omega) ⟨q1, q2⟩ ⟨q3, q4⟩ hne, hb a b q1 q2 q3 q4, isum_s h2.1, show gx sg (M 56) w9 w10 w11 a b v1_44 v2_54 = _ from sel_t hP, Int.add_assoc]
                          rfl
                        refine x_si C hX hS 51 rfl (by decide) rfl (show 0 ≤ (sa (sg) ((M 56) (24 * w9 v2_54 + (w11 v2_54 - 1)))) ∧ (sa (sg) ((M 56) (24 * w9 v2_54 + (w11 v2_54 - 1)))) < 24 from (by omega)) (show 0 ≤ (sa (sg) ((M 56) (24 * w9 v1_44 + (w11 v1_44 - 1)))) ∧ (sa (sg) ((M 56) (24 * w9 v1_44 + (w11 v1_44 - 1)))) < 24 from (by omega)) (by decide) (fun b hb => by cases hb) (M' := (va_up (va_up (va_up (va_up (va_up (va_up M 3 sg) 9 w9) 10 w10) 11 w11) 51 (fup (fup m51_54 (24 * (sa (sg) ((M 56) (24 * w9 v1_44 + (w11 v1_44 - 1)))) + (sa (sg) ((M 56) (24 * w9 v2_54 + (w11 v2_54 - 1))))) ((m51_54 (24 * (sa (sg) ((M 56) (24 * w9 v1_44 + (w11 v1_44 - 1)))) + (sa (sg) ((M 56) (24 * w9 v2_54 + (w11 v2_54 - 1)))))) + 1)) (24 * (sa (sg) ((M 56) (24 * w9 v2_54 + (w11 v2_54 - 1)))) + (sa (sg) ((M 56) (24 * w9 v1_44 + (w11 v1_44 - 1))))) (((fup m51_54 (24 * (sa (sg) ((M 56) (24 * w9 v1_44 + (w11 v1_44 - 1)))) + (sa (sg) ((M 56) (24 * w9 v2_54 + (w11 v2_54 - 1))))) ((m51_54 (24 * (sa (sg) ((M 56) (24 * w9 v1_44 + (w11 v1_44 - 1)))) + (sa (sg) ((M 56) (24 * w9 v2_54 + (w11 v2_54 - 1)))))) + 1)) (24 * (sa (sg) ((M 56) (24 * w9 v2_54 + (w11 v2_54 - 1)))) + (sa (sg) ((M 56) (24 * w9 v1_44 + (w11 v1_44 - 1)))))) + 1))) 52 m52)) (up_in (by decide) (up_up _ _ _ _)) dX0_layAkin_125 (fun H locs hX hS => ?_)
                        refine r_iinc (lv' := [(2, .int (zi (v2_54 + 1))), (0, .ref (B 49 0)), (1, .int (zi v1_44))]) C dX0_layAkin_126 hl (k := 2) rfl (by decide) rfl (fun ls hl => ?_)
                        refine lv_goto (tgt := 54) C.x C.b dX0_layAkin_129 (by decide) ?_
                        exact ih54 (v2_54 + 1) (fup (fup m51_54 (24 * (sa (sg) ((M 56) (24 * w9 v1_44 + (w11 v1_44 - 1)))) + (sa (sg) ((M 56) (24 * w9 v2_54 + (w11 v2_54 - 1))))) ((m51_54 (24 * (sa (sg) ((M 56) (24 * w9 v1_44 + (w11 v1_44 - 1)))) + (sa (sg) ((M 56) (24 * w9 v2_54 + (w11 v2_54 - 1)))))) + 1)) (24 * (sa (sg) ((M 56) (24 * w9 v2_54 + (w11 v2_54 - 1)))) + (sa (sg) ((M 56) (24 * w9 v1_44 + (w11 v1_44 - 1))))) (((fup m51_54 (24 * (sa (sg) ((M 56) (24 * w9 v1_44 + (w11 v1_44 - 1)))) + (sa (sg) ((M 56) (24 * w9 v2_54 + (w11 v2_54 - 1))))) ((m51_54 (24 * (sa (sg) ((M 56) (24 * w9 v1_44 + (w11 v1_44 - 1)))) + (sa (sg) ((M 56) (24 * w9 v2_54 + (w11 v2_54 - 1)))))) + 1)) (24 * (sa (sg) ((M 56) (24 * w9 v2_54 + (w11 v2_54 - 1)))) + (sa (sg) ((M 56) (24 * w9 v1_44 + (w11 v1_44 - 1)))))) + 1)) (by omega) (by first | exact hst | exact hno (fun z => by first | exact absurd z.1 (by omega) | exact absurd z.2 (by assumption))) (by omega) H locs ls hX hS (lv_sub hl [1, 2, 0] rfl)
              exact L54 _ 0 m51_44 (by omega) (fun a b q1 q2 q3 q4 => (ha a b q1 q2 q3 q4).trans (Int.add_zero _).symm) (Nat.lt_succ_self _) H locs ls hX hS (lv_sub hl [1, 2, 0] rfl)
        exact L44 _ 0 m51 (by omega) (fun a b q1 q2 q3 q4 => h0 _ (by omega) (by omega)) (Nat.lt_succ_self _) H locs ls hX hS (lv_sub hl [1, 0] rfl)
      · refine lv_aload_n C.x C.b dX0_layAkin_16 rfl (lv_at hl 0 rfl) ?_
        refine x_ga C hX 13 (by decide) rfl q749 (fun _ h => h) dX0_layAkin_17 ?_
        refine lv_iload_n C.x C.b dX0_layAkin_20 rfl (lv_at hl 1 rfl) ?_
        refine x_la C hX 13 rfl rfl rfl (by decide) rfl rfl (show 0 ≤ v1 ∧ v1 < 24 from (by omega)) (by omega) (by decide) dX0_layAkin_21 ?_
        refine r_const C dX0_layAkin_22 ?_
        refine r_callSv (As := [.ref (B 51 v1), .int (zi 0)]) (rest := []) (cells' := 0) (slots' := 0) C (met_J10_fill l E A B (va_up F 12 wn) (va_up (va_up (va_up (va_up (va_up (va_up M 3 sg) 9 w9) 10 w10) 11 w11) 51 m51) 52 m52) G T 51 24 24 v1 0 rfl (by decide) (by decide) (show 0 ≤ v1 ∧ v1 < 24 from (by omega)) (fun b hb => by cases hb)) (lw_S q223 q224 q100 q225) hd_J10_fill rfl (by decide) hX hS hl.1 rfl (Nat.le_of_ble_eq_true rfl) dX0_layAkin_23 rfl rfl ⟨Nat.le_of_ble_eq_true rfl, Nat.le_of_ble_eq_true rfl⟩ (fun H locs hp hS => ?_)
        have hX : XH E A B (va_up F 12 wn) (va_up (va_up (va_up (va_up (va_up (va_up M 3 sg) 9 w9) 10 w10) 11 w11) 51 (ffill m51 (24 * v1) 24 0)) 52 m52) G T H := hp.to rfl rfl (up_in (by decide) (up_up _ _ _ _)) rfl rfl
        refine lv_aload_n C.x C.b dX0_layAkin_26 rfl (lv_at hl 0 rfl) ?_
        refine x_ga C hX 14 (by decide) rfl q750 (fun _ h => h) dX0_layAkin_27 ?_
        refine lv_iload_n C.x C.b dX0_layAkin_30 rfl (lv_at hl 1 rfl) ?_
        refine x_la C hX 14 rfl rfl rfl (by decide) rfl rfl (show 0 ≤ v1 ∧ v1 < 24 from (by omega)) (by omega) (by decide) dX0_layAkin_31 ?_
        refine r_const C dX0_layAkin_32 ?_
        refine r_callSv (As := [.ref (B 52 v1), .int (zi 0)]) (rest := []) (cells' := 0) (slots' := 0) C (met_J10_fill l E A B (va_up F 12 wn) (va_up (va_up (va_up (va_up (va_up (va_up M 3 sg) 9 w9) 10 w10) 11 w11) 51 (ffill m51 (24 * v1) 24 0)) 52 m52) G T 52 24 24 v1 0 rfl (by decide) (by decide) (show 0 ≤ v1 ∧ v1 < 24 from (by omega)) (fun b hb => by cases hb; exact (show 0 ≤ 0 ∧ 0 ≤ 9 from (by omega)))) (lw_S q223 q224 q100 q225) hd_J10_fill rfl (by decide) hX hS hl.1 rfl (Nat.le_of_ble_eq_true rfl) dX0_layAkin_33 rfl rfl ⟨Nat.le_of_ble_eq_true rfl, Nat.le_of_ble_eq_true rfl⟩ (fun H locs hp hS => ?_)
        have hX : XH E A B (va_up F 12 wn) (va_up (va_up (va_up (va_up (va_up (va_up M 3 sg) 9 w9) 10 w10) 11 w11) 51 (ffill m51 (24 * v1) 24 0)) 52 (ffill m52 (24 * v1) 24 0)) G T H := hp.to rfl rfl (up_up _ _ _ _) rfl rfl
        refine r_iinc (lv' := [(1, .int (zi (v1 + 1))), (0, .ref (B 49 0))]) C dX0_layAkin_36 hl (k := 1) rfl (by decide) rfl (fun ls hl => ?_)
        refine lv_goto (tgt := 10) C.x C.b dX0_layAkin_39 (by decide) ?_
        exact ih10 (v1 + 1) (ffill m51 (24 * v1) 24 0) (ffill m52 (24 * v1) 24 0) (by omega) (fun k a b => by by_cases z : k < 24 * v1; (rw [ffill_out (by omega)]; exact h0 k a z); exact ffill_in ⟨by omega, by omega⟩) (fun k a b => by by_cases z : k < 24 * v1; (rw [ffill_out (by omega)]; exact h0b k a z); exact ffill_in ⟨by omega, by omega⟩) (by omega) H locs ls hX hS (lv_sub hl [1, 0] rfl)
  exact L10 _ 0 (M 51) (M 52) (by omega) (fun k a b => absurd a (by omega)) (fun k a b => absurd a (by omega)) (Nat.lt_succ_self _) H locs ls (hX.to rfl rfl (((up_id (va_up (va_up (va_up (va_up M 3 sg) 9 w9) 10 w10) 11 w11) (k := 51) (a := (M 51)) rfl).symm.trans rfl).trans ((up_id (va_up (va_up (va_up (va_up (va_up M 3 sg) 9 w9) 10 w10) 11 w11) 51 (M 51)) (k := 52) (a := (M 52)) rfl).symm.trans rfl)) rfl rfl) hS (lv_sub hl [1, 0] rfl)
