set_option maxRecDepth 100000

theorem hd_X0_layBest : yX0_layBest.cls = RX0 ∧ yX0_layBest.cls ≠ "java/lang/invoke/MethodHandle" ∧ yX0_layBest.cls ≠ "java/lang/invoke/VarHandle" ∧ (parseMethodDescriptor yX0_layBest.desc).map (fun d => d.parameters.length) = some 1 := by decide +kernel
abbrev rm_X0_layBest : Room := { frames := 4, cells := 192, slots := 1152, locals := 91 }
set_option maxHeartbeats 8000000 in
theorem met_X0_layBest (l : Launch) (E : us_E) (A : Nat → Prop) (B : Nat → Int → Nat) (F : Nat → Int) (M : Nat → Int → Int) (G : Nat → Int → Option Nat) (T : x_T) (t : Int) (hv : 0 ≤ t ∧ t < 2147483648) (hT0 : T 0 = none) : cMet l yX0_layBest cX0_layBest 4 none rm_X0_layBest A E [.ref (B 49 0), .int (zi t)] (fun H => XH E A B F M G T H) (qv A (fun H => ∃ b54 : Int → Nat, ∃ f31 : Int, ∃ f35 : Int, ∃ f36 : Int, ∃ f37 : Int, ∃ f38 : Int, ∃ gg34 : Int → Option Nat, ∃ m3 : Int → Int, ∃ m30 : Int → Int, ∃ m32 : Int → Int, ∃ m33 : Int → Int, ∃ m54 : Int → Int, ∃ m202 : Int → Int, SgOK (F 1) (M 0) (F 2) m3 ∧ (f31 = tnum (F 1) m3 (cnt m3 (mtc (M 56)) (M 200) (F 6))) ∧ (∀ s : Int, 0 ≤ s → s < 24 → m32 s = tsp (F 1) m3 (cnt m3 (mtc (M 56)) (M 200) (F 6)) f31 s) ∧ (f36 = fBt (fun sd => rdX m3 (mtc (M 56)) (M 200) (F 6) (tsp (F 1) m3 (cnt m3 (mtc (M 56)) (M 200) (F 6)) (tnum (F 1) m3 (cnt m3 (mtc (M 56)) (M 200) (F 6)))) (M 53) t sd) f31) ∧ (f37 = fRt (fun sd => rdX m3 (mtc (M 56)) (M 200) (F 6) (tsp (F 1) m3 (cnt m3 (mtc (M 56)) (M 200) (F 6)) (tnum (F 1) m3 (cnt m3 (mtc (M 56)) (M 200) (F 6)))) (M 53) t sd) f31) ∧ (f38 = fMt (fun sd => rdX m3 (mtc (M 56)) (M 200) (F 6) (tsp (F 1) m3 (cnt m3 (mtc (M 56)) (M 200) (F 6)) (tnum (F 1) m3 (cnt m3 (mtc (M 56)) (M 200) (F 6)))) (M 53) t sd) f31) ∧ ((0 ≤ f36 ∧ f36 ≤ 4095) ∧ (0 ≤ f31 ∧ f31 ≤ 6)) ∧ XH E A (va_up B 54 b54) (va_up (va_up (va_up (va_up (va_up F 31 f31) 35 f35) 36 f36) 37 f37) 38 f38) (va_up (va_up (va_up (va_up (va_up (va_up M 3 m3) 30 m30) 32 m32) 33 m33) 54 m54) 202 m202) (va_up G 34 gg34) T H)) := by
  refine cMet.of (by decide) (Nat.le_of_ble_eq_true rfl) (fun p e s m args below meth c C hnm hX hS ls hl => ?_)
  have C : Cx p s m args meth c A RX0 cX0_layBest 4 none E := C
  have hX : XH E A B F M G T s.heap := hX
  have hl : lv_has ls 4 [(0, .ref (B 49 0)), (1, .int (zi t))] := hl
  generalize hH : s.heap = H at hX
  have hS : va_S A s.heap H [] := by rw [← hH]; exact hS
  generalize hlocs : ([] : List Loc) = locs at hS ⊢
  obtain ⟨QQ, hQQ⟩ : ∃ zQQ, MQ below (qv A (fun H => ∃ b54 : Int → Nat, ∃ f31 : Int, ∃ f35 : Int, ∃ f36 : Int, ∃ f37 : Int, ∃ f38 : Int, ∃ gg34 : Int → Option Nat, ∃ m3 : Int → Int, ∃ m30 : Int → Int, ∃ m32 : Int → Int, ∃ m33 : Int → Int, ∃ m54 : Int → Int, ∃ m202 : Int → Int, SgOK (F 1) (M 0) (F 2) m3 ∧ (f31 = tnum (F 1) m3 (cnt m3 (mtc (M 56)) (M 200) (F 6))) ∧ (∀ s : Int, 0 ≤ s → s < 24 → m32 s = tsp (F 1) m3 (cnt m3 (mtc (M 56)) (M 200) (F 6)) f31 s) ∧ (f36 = fBt (fun sd => rdX m3 (mtc (M 56)) (M 200) (F 6) (tsp (F 1) m3 (cnt m3 (mtc (M 56)) (M 200) (F 6)) (tnum (F 1) m3 (cnt m3 (mtc (M 56)) (M 200) (F 6)))) (M 53) t sd) f31) ∧ (f37 = fRt (fun sd => rdX m3 (mtc (M 56)) (M 200) (F 6) (tsp (F 1) m3 (cnt m3 (mtc (M 56)) (M 200) (F 6)) (tnum (F 1) m3 (cnt m3 (mtc (M 56)) (M 200) (F 6)))) (M 53) t sd) f31) ∧ (f38 = fMt (fun sd => rdX m3 (mtc (M 56)) (M 200) (F 6) (tsp (F 1) m3 (cnt m3 (mtc (M 56)) (M 200) (F 6)) (tnum (F 1) m3 (cnt m3 (mtc (M 56)) (M 200) (F 6)))) (M 53) t sd) f31) ∧ ((0 ≤ f36 ∧ f36 ≤ 4095) ∧ (0 ≤ f31 ∧ f31 ≤ 6)) ∧ XH E A (va_up B 54 b54) (va_up (va_up (va_up (va_up (va_up F 31 f31) 35 f35) 36 f36) 37 f37) 38 f38) (va_up (va_up (va_up (va_up (va_up (va_up M 3 m3) 30 m30) 32 m32) 33 m33) 54 m54) 202 m202) (va_up G 34 gg34) T H)) args s (rm_X0_layBest).cells (rm_X0_layBest).slots A = zQQ := ⟨_, rfl⟩
  rw [hQQ]
  have rF1 : 0 ≤ F 1 ∧ F 1 ≤ 24 := hX.2.1 1 (0, 24) rfl
  have rF6 : 0 ≤ F 6 ∧ F 6 ≤ 8 := hX.2.1 6 (0, 8) rfl
  have h24 : ∀ t, 0 ≤ M 200 t ∧ M 200 t ≤ 24 := fun t => hX.2.2.1 200 (0, 24) rfl t
  have hcl : ∀ q, -2 ≤ M 56 q ∧ M 56 q ≤ 23 := fun q => hX.2.2.1 56 (-2, 23) rfl q
  have hs3 : ∀ q, 0 ≤ M 3 q ∧ M 3 q ≤ 23 := fun q => hX.2.2.1 3 (0, 23) rfl q
  refine lv_aload_n C.x C.b dX0_layBest_0 rfl (lv_at hl 0 rfl) ?_
  refine r_callVv (As := []) (rest := []) (cells' := 0) (slots' := 0) C (met_X0_layTabled l E A B F M G T) (lw_V q375 q377 qs21 q86 q378) hd_X0_layTabled rfl (by decide) (x_this C hX) hX hS hl.1 rfl (Nat.le_of_ble_eq_true rfl) dX0_layBest_1 rfl rfl ⟨Nat.le_of_ble_eq_true rfl, Nat.le_of_ble_eq_true rfl⟩ (fun H locs hp hS => ?_)
  obtain ⟨tn, sg, tt, sp, hsg, htn, htb, hts_, hX⟩ := hp
  replace hsg : SgOK ((F 1)) ((M 0)) ((F 2)) sg := hsg
  replace htn : tn = tnum ((F 1)) sg (cnt sg (mtc ((M 56))) ((M 200)) ((F 6))) := htn
  replace htb : ∀ j : Int, 0 ≤ j → j < tn → tt j = tb ((F 1)) sg (cnt sg (mtc ((M 56))) ((M 200)) ((F 6))) j := htb
  replace hts_ : ∀ s : Int, 0 ≤ s → s < 24 → sp s = tsp ((F 1)) sg (cnt sg (mtc ((M 56))) ((M 200)) ((F 6))) tn s := hts_
  have hX : XH E A B (va_up F 31 tn) (va_up (va_up (va_up M 3 sg) 30 tt) 32 sp) G T H := hX.to rfl rfl ((congrArg (fun z => va_up z 32 sp) ((congrArg (fun z => va_up z 30 tt) rfl).trans rfl)).trans rfl) rfl rfl
  have htnr := tnum_r (F 1) sg (cnt sg (mtc (M 56)) (M 200) (F 6))
  rw [← htn] at htnr
  have hpt := p2_12 (k := 2 * tn) (by omega)
  refine lv_aload_n C.x C.b dX0_layBest_4 rfl (lv_at hl 0 rfl) ?_
  refine lv_iload_n C.x C.b dX0_layBest_5 rfl (lv_at hl 1 rfl) ?_
  refine r_callVv (As := [.int (zi t)]) (rest := []) (cells' := 192) (slots' := 1152) C (met_X0_spell l E A B (va_up F 31 tn) (va_up (va_up (va_up M 3 sg) 30 tt) 32 sp) G T t (show 0 ≤ t ∧ t < 2147483648 from (by omega)) (show ∀ s : Int, 0 ≤ s → s < 24 → sp s = -4 ∨ 0 ≤ sp s from (fun s a b => by rw [hts_ s a b]; exact (tsp_r rF1.1 htnr.1 s).imp id (fun z => z.1))) (show (T 0) = none from hT0)) (lw_V q387 q389 qs23 q86 q390) hd_X0_spell rfl (by decide) (x_this C hX) hX hS hl.1 rfl (Nat.le_of_ble_eq_true rfl) dX0_layBest_6 rfl rfl ⟨Nat.le_of_ble_eq_true rfl, Nat.le_of_ble_eq_true rfl⟩ (fun H locs hp hS => ?_)
  obtain ⟨b54_1, rn, r54, r202, gg34_2, hkp, hsq, hX⟩ := hp
  replace hkp : rn = KP (RD (sg) (mtc ((M 56))) ((M 200)) (sp) t) ((M 200)) ((F 6)) 0 := hkp
  replace hsq : SPQ (sg) (mtc ((M 56))) ((M 200)) (sp) t r54 r202 ((F 6)) 0 := hsq
  have hX : XH E A (va_up B 54 b54_1) (va_up (va_up F 31 tn) 35 rn) (va_up (va_up (va_up (va_up (va_up M 3 sg) 30 tt) 32 sp) 54 r54) 202 r202) (va_up G 34 gg34_2) T H := hX.to rfl rfl ((congrArg (fun z => va_up z 202 r202) rfl).trans rfl) rfl rfl
  refine lv_aload_n C.x C.b dX0_layBest_9 rfl (lv_at hl 0 rfl) ?_
  refine r_const C dX0_layBest_10 ?_
  refine x_pi (B := (va_up B 54 b54_1)) C hX hS 37 (by decide) rfl (by decide) rfl rfl q773 (fun _ h => h) (b := (-1, 192)) rfl (show -1 ≤ -1 ∧ -1 ≤ 192 from (by omega)) (F' := (va_up (va_up (va_up F 31 tn) 35 rn) 37 (-1))) rfl dX0_layBest_11 (fun H locs hX hS => ?_)
  refine lv_aload_n C.x C.b dX0_layBest_14 rfl (lv_at hl 0 rfl) ?_
  refine r_const C dX0_layBest_15 ?_
  refine x_pi (B := (va_up B 54 b54_1)) C hX hS 38 (by decide) rfl (by decide) rfl rfl q774 (fun _ h => h) (b := (0, 4096)) rfl (show 0 ≤ 0 ∧ 0 ≤ 4096 from (by omega)) (F' := (va_up (va_up (va_up (va_up F 31 tn) 35 rn) 37 (-1)) 38 0)) rfl dX0_layBest_16 (fun H locs hX hS => ?_)
  refine r_const C dX0_layBest_19 ?_
  refine lv_istore_n (lv' := [(2, .int (zi 0)), (0, .ref (B 49 0)), (1, .int (zi t))]) C.x C.b dX0_layBest_20 rfl hl (by decide) rfl (fun ls hl => ?_)
  have L21 : ∀ (fu : Nat) (v2 : Int) (f36 : Int) (f37 : Int) (f38 : Int) (m33 : Int → Int) (h2 : 0 ≤ v2 ∧ v2 ≤ 1 * 2 ^ (2 * tn).toNat) (hr : f37 = bR (fun k => (fun sd => rdX sg (mtc (M 56)) (M 200) (F 6) (tsp (F 1) sg (cnt sg (mtc (M 56)) (M 200) (F 6)) (tnum (F 1) sg (cnt sg (mtc (M 56)) (M 200) (F 6)))) (M 53) t sd) (snd (rowS (snd k) tn))) v2) (hb : 0 < v2 → f36 = bB (fun k => (fun sd => rdX sg (mtc (M 56)) (M 200) (F 6) (tsp (F 1) sg (cnt sg (mtc (M 56)) (M 200) (F 6)) (tnum (F 1) sg (cnt sg (mtc (M 56)) (M 200) (F 6)))) (M 53) t sd) (snd (rowS (snd k) tn))) (fun k => rowS (snd k) tn) v2) (hm38 : f38 = bM (fun k => (fun sd => rdX sg (mtc (M 56)) (M 200) (F 6) (tsp (F 1) sg (cnt sg (mtc (M 56)) (M 200) (F 6)) (tnum (F 1) sg (cnt sg (mtc (M 56)) (M 200) (F 6)))) (M 53) t sd) (snd (rowS (snd k) tn))) v2) (hm : Int.toNat (1 * 2 ^ (2 * tn).toNat - v2) < fu) (H : Heap) (locs : List Loc) (ls : Array Slot) (hX : XH E A (va_up B 54 b54_1) (va_up (va_up (va_up (va_up (va_up F 31 tn) 35 rn) 36 f36) 37 f37) 38 f38) (va_up (va_up (va_up (va_up (va_up (va_up M 3 sg) 30 tt) 32 sp) 33 m33) 54 r54) 202 r202) (va_up G 34 gg34_2) T H) (hS : va_S A s.heap H locs) (hl : lv_has ls 4 [(0, .ref (B 49 0)), (1, .int (zi t)), (2, .int (zi v2))]), W p l e rm_X0_layBest s m args below meth c H locs 192 1152 QQ (F0 m 21 ls []) := by
    intro fu
    induction fu with
    | zero => intro v2 f36 f37 f38 m33 h2 hr hb hm38 hm; exact absurd hm (Nat.not_lt_zero _)
    | succ fu ih21 =>
      intro v2 f36 f37 f38 m33 h2 hr hb hm38 hm H locs ls hX hS hl
      refine lv_iload_n C.x C.b dX0_layBest_21 rfl (lv_at hl 2 rfl) ?_
      refine r_const C dX0_layBest_22 ?_
      refine r_const C dX0_layBest_23 ?_
      refine lv_aload_n C.x C.b dX0_layBest_24 rfl (lv_at hl 0 rfl) ?_
      refine x_gi (B := (va_up B 54 b54_1)) C hX 31 (by decide) rfl q767 (fun _ h => h) tn rfl (b := (0, 6)) rfl dX0_layBest_25 (fun r25 => ?_)
      have r25 : 0 ≤ tn ∧ tn ≤ 6 := r25
      refine r_imul C dX0_layBest_28 ?_
      refine r_ishl C (by omega) (by omega) rfl dX0_layBest_29 ?_
      refine r_icmp_ge (tgt := 128) C (by omega) (by omega) dX0_layBest_30 (by decide) (fun c_3 => ?_) (fun c_3 => ?_)
      · have e2 : v2 = 1 * 2 ^ (2 * tn).toNat := by omega
        rw [e2] at hr hb hm38
        rw [← hQQ]
        exact r_vret C hS (Nat.le_of_ble_eq_true rfl) (Nat.le_of_ble_eq_true rfl) dX0_layBest_128 ⟨b54_1, tn, rn, f36, f37, f38, gg34_2, sg, tt, sp, m33, r54, r202, hsg, htn, hts_, (hb (by omega)), hr, hm38, ⟨hX.2.1 36 (0, 4095) rfl, htnr⟩, hX⟩
      · refine r_const C dX0_layBest_33 ?_
        refine lv_istore_n (lv' := [(3, .int (zi 0)), (0, .ref (B 49 0)), (1, .int (zi t)), (2, .int (zi v2))]) C.x C.b dX0_layBest_34 rfl hl (by decide) rfl (fun ls hl => ?_)
        have L35 : ∀ (fu : Nat) (v3 : Int) (m33_35 : Int → Int) (h3 : 0 ≤ v3 ∧ v3 ≤ tn) (hd : ∀ j : Int, 0 ≤ j → j < v3 → m33_35 j = snd v2 (tn - 1 - j)) (hm : Int.toNat (tn - v3) < fu) (H : Heap) (locs : List Loc) (ls : Array Slot) (hX : XH E A (va_up B 54 b54_1) (va_up (va_up (va_up (va_up (va_up F 31 tn) 35 rn) 36 f36) 37 f37) 38 f38) (va_up (va_up (va_up (va_up (va_up (va_up M 3 sg) 30 tt) 32 sp) 33 m33_35) 54 r54) 202 r202) (va_up G 34 gg34_2) T H) (hS : va_S A s.heap H locs) (hl : lv_has ls 4 [(0, .ref (B 49 0)), (1, .int (zi t)), (2, .int (zi v2)), (3, .int (zi v3))]), W p l e rm_X0_layBest s m args below meth c H locs 192 1152 QQ (F0 m 35 ls []) := by
          intro fu
          induction fu with
          | zero => intro v3 m33_35 h3 hd hm; exact absurd hm (Nat.not_lt_zero _)
          | succ fu ih35 =>
            intro v3 m33_35 h3 hd hm H locs ls hX hS hl
            refine lv_iload_n C.x C.b dX0_layBest_35 rfl (lv_at hl 3 rfl) ?_
            refine lv_aload_n C.x C.b dX0_layBest_36 rfl (lv_at hl 0 rfl) ?_
            refine x_gi (B := (va_up B 54 b54_1)) C hX 31 (by decide) rfl q767 (fun _ h => h) tn rfl (b := (0, 6)) rfl dX0_layBest_37 (fun _ => ?_)
            refine r_icmp_ge (tgt := 69) C (by omega) (by omega) dX0_layBest_40 (by decide) (fun c_4 => ?_) (fun c_4 => ?_)
            · have hrdg := rowS_dig (f := snd v2) htnr.1 (fun j => snd_r v2 j)
              have hdr : DigS (rowS (snd v2) tn) tn m33_35 := ⟨hrdg.1, fun j a b => (hrdg.2 j a b).trans (hd j a (by omega)).symm⟩
              have hs3g : ∀ q, 0 ≤ sg q ∧ sg q ≤ 23 := fun q => hX.2.2.1 3 (0, 23) rfl q
              have hsd : ∀ a b j : Int, 0 ≤ b → b < M 200 a → RD sg (mtc (M 56)) (M 200) sp t a b → 0 ≤ j → j < we (mtc (M 56)) (M 200) a b - b → m33_35 (sp (sa sg ((mtc (M 56)) a (b + j)))) = snd (rowS (snd v2) tn) (sp (sa sg ((mtc (M 56)) a (b + j)))) := fun a b j hb0 hb hr j0 j1 => by
                have hne := hr.2.2.2 j j0 j1
                have hc := wh_cell (j := b + j) hr.1 ⟨hb0, by omega⟩ (fun j => (hcl _).1) (by omega) (by omega)
                have hq := hs3g ((mtc (M 56)) a (b + j))
                have hsa : sa sg ((mtc (M 56)) a (b + j)) = sg ((mtc (M 56)) a (b + j)) := by
                  unfold sa
                  rw [sel_f (by omega)]
                rw [hsa] at hne ⊢
                have z := tsp_r (sg := sg) (ct := cnt sg (mtc (M 56)) (M 200) (F 6)) rF1.1 htnr.1 (sg ((mtc (M 56)) a (b + j)))
                rw [← hts_ _ hq.1 (by omega)] at z
                have z2 := z.resolve_left hne
                exact (hdr.2 _ z2.1 z2.2.1).symm
              refine lv_aload_n C.x C.b dX0_layBest_69 rfl (lv_at hl 0 rfl) ?_
              refine r_callVi (As := []) (rest := []) (cells' := 192) (slots' := 1152) C (met_X0_reads l E A (va_up B 54 b54_1) (va_up (va_up (va_up (va_up (va_up F 31 tn) 35 rn) 36 f36) 37 f37) 38 f38) (va_up (va_up (va_up (va_up (va_up (va_up M 3 sg) 30 tt) 32 sp) 33 m33_35) 54 r54) 202 r202) (va_up G 34 gg34_2) T) (lw_V q395 q397 qs25 q86 q398) hd_X0_reads rfl (by decide) (x_this C hX) hX hS hl.1 rfl (Nat.le_of_ble_eq_true rfl) dX0_layBest_70 rfl rfl ⟨Nat.le_of_ble_eq_true rfl, Nat.le_of_ble_eq_true rfl⟩ (fun rr H locs hp hS => ?_)
              obtain ⟨hrd, hrr, hX⟩ := hp
              have hrr : rr = isum (fun i => bI ((M 53) (4096 * r202 i + rowS (fun j => m33_35 (r54 (6 * i + j))) (r202 i)) = 1)) (rn) := hrr
              subst hrr
              replace hrd : 0 ≤ isum (fun i => bI ((M 53) (4096 * r202 i + rowS (fun j => m33_35 (r54 (6 * i + j))) (r202 i)) = 1)) (rn) ∧ isum (fun i => bI ((M 53) (4096 * r202 i + rowS (fun j => m33_35 (r54 (6 * i + j))) (r202 i)) = 1)) (rn) ≤ rn := hrd
              refine lv_istore_n (lv' := [(3, .int (zi (isum (fun i => bI ((M 53) (4096 * r202 i + rowS (fun j => m33_35 (r54 (6 * i + j))) (r202 i)) = 1)) (rn)))), (0, .ref (B 49 0)), (1, .int (zi t)), (2, .int (zi v2))]) C.x C.b dX0_layBest_73 rfl hl (by decide) rfl (fun ls hl => ?_)
              obtain ⟨rv, hrv⟩ : ∃ z : Int, z = isum (fun i => bI ((M 53) (4096 * r202 i + rowS (fun j => m33_35 (r54 (6 * i + j))) (r202 i)) = 1)) (rn) := ⟨_, rfl⟩
              rw [← hrv] at hl
              rw [← hrv] at hrd
              have hgv : rv = (fun k => (fun sd => rdX sg (mtc (M 56)) (M 200) (F 6) (tsp (F 1) sg (cnt sg (mtc (M 56)) (M 200) (F 6)) (tnum (F 1) sg (cnt sg (mtc (M 56)) (M 200) (F 6)))) (M 53) t sd) (snd (rowS (snd k) tn))) v2 := by
                rw [hrv, hkp]
                exact (hsq.sum (m53 := M 53) (m33 := m33_35) (sd := snd (rowS (snd v2) tn)) (fun a => (h24 a).1) rF6.1 hsd).trans (rdX_cg rF6.1 (fun a b => (hcl _).1) hs3g (fun s a b => by rw [hts_ s a b, htn]))
              have hmr := bM_r (g := (fun k => (fun sd => rdX sg (mtc (M 56)) (M 200) (F 6) (tsp (F 1) sg (cnt sg (mtc (M 56)) (M 200) (F 6)) (tnum (F 1) sg (cnt sg (mtc (M 56)) (M 200) (F 6)))) (M 53) t sd) (snd (rowS (snd k) tn)))) h2.1
              rw [← hm38] at hmr
              have r37 : -1 ≤ f37 ∧ f37 ≤ 192 := hX.2.1 37 (-1, 192) rfl
              have rrn : 0 ≤ rn ∧ rn ≤ 192 := hX.2.1 35 (0, 192) rfl
              refine lv_iload_n C.x C.b dX0_layBest_74 rfl (lv_at hl 0 rfl) ?_
              refine lv_aload_n C.x C.b dX0_layBest_75 rfl (lv_at hl 1 rfl) ?_
              refine x_gi (B := (va_up B 54 b54_1)) C hX 37 (by decide) rfl q773 (fun _ h => h) f37 rfl (b := (-1, 192)) rfl dX0_layBest_76 (fun r76 => ?_)
              have r76 : -1 ≤ f37 ∧ f37 ≤ 192 := r76
              refine r_icmp_le (tgt := 100) C (by omega) (by omega) dX0_layBest_79 (by decide) (fun c_5 => ?_) (fun c_5 => ?_)
              · refine lv_aload_n C.x C.b dX0_layBest_100 rfl (lv_at hl 1 rfl) ?_
                refine lv_dup C.x C.b dX0_layBest_101 rfl ?_
                refine x_gi (B := (va_up B 54 b54_1)) C hX 38 (by decide) rfl q774 (fun _ h => h) f38 rfl (b := (0, 4096)) rfl dX0_layBest_102 (fun r102 => ?_)
                have r102 : 0 ≤ f38 ∧ f38 ≤ 4096 := r102
                refine lv_iload_n C.x C.b dX0_layBest_105 rfl (lv_at hl 0 rfl) ?_
                refine lv_aload_n C.x C.b dX0_layBest_106 rfl (lv_at hl 1 rfl) ?_
                refine x_gi (B := (va_up B 54 b54_1)) C hX 37 (by decide) rfl q773 (fun _ h => h) f37 rfl (b := (-1, 192)) rfl dX0_layBest_107 (fun _ => ?_)
                have J118_6 : ∀ (t2 : Int) (ht2 : t2 = bI (rv = f37)) (H : Heap) (locs : List Loc) (ls : Array Slot) (hX : XH E A (va_up B 54 b54_1) (va_up (va_up (va_up (va_up (va_up F 31 tn) 35 rn) 36 f36) 37 f37) 38 f38) (va_up (va_up (va_up (va_up (va_up (va_up M 3 sg) 30 tt) 32 sp) 33 m33_35) 54 r54) 202 r202) (va_up G 34 gg34_2) T H) (hS : va_S A s.heap H locs) (hl : lv_has ls 4 [(3, .int (zi rv)), (0, .ref (B 49 0)), (1, .int (zi t)), (2, .int (zi v2))]), W p l e rm_X0_layBest s m args below meth c H locs 192 1152 QQ (F0 m 118 ls [.int (zi t2), .int (zi f38), .ref (B 49 0)]) := by
                  intro t2 ht2 H locs ls hX hS hl
                  subst ht2
                  have hb01a := bI_01 (rv = rv)
                  have hb01b := bI_01 (rv = f37)
                  refine r_iadd C dX0_layBest_118 ?_
                  refine x_pi (B := (va_up B 54 b54_1)) C hX hS 38 (by decide) rfl (by decide) rfl rfl q774 (fun _ h => h) (b := (0, 4096)) rfl (show 0 ≤ f38 + (bI (rv = f37)) ∧ f38 + (bI (rv = f37)) ≤ 4096 from (by omega)) (F' := (va_up (va_up (va_up (va_up (va_up F 31 tn) 35 rn) 36 f36) 37 f37) 38 (f38 + (bI (rv = f37))))) (up_up _ _ _ _) dX0_layBest_119 (fun H locs hX hS => ?_)
                  first
                  | have hst := bst3_up (g := (fun k => (fun sd => rdX sg (mtc (M 56)) (M 200) (F 6) (tsp (F 1) sg (cnt sg (mtc (M 56)) (M 200) (F 6)) (tnum (F 1) sg (cnt sg (mtc (M 56)) (M 200) (F 6)))) (M 53) t sd) (snd (rowS (snd k) tn)))) (tr := (fun k => rowS (snd k) tn)) (b := f36) (m := f38) h2.1 hr hgv hnum (by assumption)
                  | have hst := bst3_no (g := (fun k => (fun sd => rdX sg (mtc (M 56)) (M 200) (F 6) (tsp (F 1) sg (cnt sg (mtc (M 56)) (M 200) (F 6)) (tnum (F 1) sg (cnt sg (mtc (M 56)) (M 200) (F 6)))) (M 53) t sd) (snd (rowS (snd k) tn)))) (tr := (fun k => rowS (snd k) tn)) h2.1 hr hgv hb hm38 (by assumption) (by omega)
                  refine r_iinc (lv' := [(2, .int (zi (v2 + 1))), (3, .int (zi rv)), (0, .ref (B 49 0)), (1, .int (zi t))]) C dX0_layBest_122 hl (k := 3) rfl (by decide) rfl (fun ls hl => ?_)
                  refine lv_goto (tgt := 21) C.x C.b dX0_layBest_125 (by decide) ?_
                  exact ih21 (v2 + 1) f36 f37 (f38 + (bI (rv = f37))) m33_35 (by omega) hst.1 hst.2.1 hst.2.2 (by omega) H locs ls hX hS (lv_sub hl [2, 3, 0] rfl)
                refine r_icmp_ne (tgt := 117) C (by omega) (by omega) dX0_layBest_110 (by decide) (fun c_7 => ?_) (fun c_7 => ?_)
                · refine r_const C dX0_layBest_117 ?_
                  exact J118_6 0 ((bI_f c_7).symm) H locs ls hX hS hl
                · refine r_const C dX0_layBest_113 ?_
                  refine lv_goto (tgt := 118) C.x C.b dX0_layBest_114 (by decide) ?_
                  exact J118_6 1 ((bI_t c_7).symm) H locs ls hX hS hl
              · refine lv_aload_n C.x C.b dX0_layBest_82 rfl (lv_at hl 1 rfl) ?_
                refine lv_iload_n C.x C.b dX0_layBest_83 rfl (lv_at hl 0 rfl) ?_
                refine x_pi (B := (va_up B 54 b54_1)) C hX hS 37 (by decide) rfl (by decide) rfl rfl q773 (fun _ h => h) (b := (-1, 192)) rfl (show -1 ≤ rv ∧ rv ≤ 192 from (by omega)) (F' := (va_up (va_up (va_up (va_up (va_up F 31 tn) 35 rn) 36 f36) 37 rv) 38 f38)) (up_in (by decide) (up_up _ _ _ _)) dX0_layBest_84 (fun H locs hX hS => ?_)
                refine lv_aload_n C.x C.b dX0_layBest_87 rfl (lv_at hl 1 rfl) ?_
                refine lv_aload_n C.x C.b dX0_layBest_88 rfl (lv_at hl 1 rfl) ?_
                refine r_callVi (As := []) (rest := [.ref (B 49 0)]) (cells' := 192) (slots' := 1152) C (met_X0_number l E A (va_up B 54 b54_1) (va_up (va_up (va_up (va_up (va_up F 31 tn) 35 rn) 36 f36) 37 rv) 38 f38) (va_up (va_up (va_up (va_up (va_up (va_up M 3 sg) 30 tt) 32 sp) 33 m33_35) 54 r54) 202 r202) (va_up G 34 gg34_2) T) (lw_V q411 q413 qs28 q86 q414) hd_X0_number rfl (by decide) (x_this C hX) hX hS hl.1 rfl (Nat.le_of_ble_eq_true rfl) dX0_layBest_89 rfl rfl ⟨Nat.le_of_ble_eq_true rfl, Nat.le_of_ble_eq_true rfl⟩ (fun rr H locs hp hS => ?_)
                obtain ⟨r_8, hrr⟩ : ∃ z, z = rr := ⟨_, rfl⟩
                rw [← hrr] at hp ⊢
                obtain ⟨hnb, hnr, hX⟩ := hp
                replace hnb : DigS r_8 (tn) (m33_35) := hnb
                replace hnr : 0 ≤ r_8 ∧ r_8 ≤ 4095 := hnr
                have hnum := DigS.uq htnr.1 hnb hdr
                refine x_pi (B := (va_up B 54 b54_1)) C hX hS 36 (by decide) rfl (by decide) rfl rfl q772 (fun _ h => h) (b := (0, 4095)) rfl (show 0 ≤ r_8 ∧ r_8 ≤ 4095 from (by omega)) (F' := (va_up (va_up (va_up (va_up (va_up F 31 tn) 35 rn) 36 r_8) 37 rv) 38 f38)) (up_in (by decide) (up_in (by decide) (up_up _ _ _ _))) dX0_layBest_92 (fun H locs hX hS => ?_)
                refine lv_aload_n C.x C.b dX0_layBest_95 rfl (lv_at hl 1 rfl) ?_
                refine r_const C dX0_layBest_96 ?_
                refine x_pi (B := (va_up B 54 b54_1)) C hX hS 38 (by decide) rfl (by decide) rfl rfl q774 (fun _ h => h) (b := (0, 4096)) rfl (show 0 ≤ 0 ∧ 0 ≤ 4096 from (by omega)) (F' := (va_up (va_up (va_up (va_up (va_up F 31 tn) 35 rn) 36 r_8) 37 rv) 38 0)) (up_up _ _ _ _) dX0_layBest_97 (fun H locs hX hS => ?_)
                refine lv_aload_n C.x C.b dX0_layBest_100 rfl (lv_at hl 1 rfl) ?_
                refine lv_dup C.x C.b dX0_layBest_101 rfl ?_
                refine x_gi (B := (va_up B 54 b54_1)) C hX 38 (by decide) rfl q774 (fun _ h => h) 0 rfl (b := (0, 4096)) rfl dX0_layBest_102 (fun _ => ?_)
                refine lv_iload_n C.x C.b dX0_layBest_105 rfl (lv_at hl 0 rfl) ?_
                refine lv_aload_n C.x C.b dX0_layBest_106 rfl (lv_at hl 1 rfl) ?_
                refine x_gi (B := (va_up B 54 b54_1)) C hX 37 (by decide) rfl q773 (fun _ h => h) rv rfl (b := (-1, 192)) rfl dX0_layBest_107 (fun _ => ?_)
                have J118_9 : ∀ (t2 : Int) (ht2 : t2 = bI (rv = rv)) (H : Heap) (locs : List Loc) (ls : Array Slot) (hX : XH E A (va_up B 54 b54_1) (va_up (va_up (va_up (va_up (va_up F 31 tn) 35 rn) 36 r_8) 37 rv) 38 0) (va_up (va_up (va_up (va_up (va_up (va_up M 3 sg) 30 tt) 32 sp) 33 m33_35) 54 r54) 202 r202) (va_up G 34 gg34_2) T H) (hS : va_S A s.heap H locs) (hl : lv_has ls 4 [(3, .int (zi rv)), (0, .ref (B 49 0)), (1, .int (zi t)), (2, .int (zi v2))]), W p l e rm_X0_layBest s m args below meth c H locs 192 1152 QQ (F0 m 118 ls [.int (zi t2), .int (zi 0), .ref (B 49 0)]) := by
                  intro t2 ht2 H locs ls hX hS hl
                  subst ht2
                  have hb01a := bI_01 (rv = rv)
                  have hb01b := bI_01 (rv = f37)
                  refine r_iadd C dX0_layBest_118 ?_
                  refine x_pi (B := (va_up B 54 b54_1)) C hX hS 38 (by decide) rfl (by decide) rfl rfl q774 (fun _ h => h) (b := (0, 4096)) rfl (show 0 ≤ 0 + (bI (rv = rv)) ∧ 0 + (bI (rv = rv)) ≤ 4096 from (by omega)) (F' := (va_up (va_up (va_up (va_up (va_up F 31 tn) 35 rn) 36 r_8) 37 rv) 38 (0 + (bI (rv = rv))))) (up_up _ _ _ _) dX0_layBest_119 (fun H locs hX hS => ?_)
                  first
                  | have hst := bst3_up (g := (fun k => (fun sd => rdX sg (mtc (M 56)) (M 200) (F 6) (tsp (F 1) sg (cnt sg (mtc (M 56)) (M 200) (F 6)) (tnum (F 1) sg (cnt sg (mtc (M 56)) (M 200) (F 6)))) (M 53) t sd) (snd (rowS (snd k) tn)))) (tr := (fun k => rowS (snd k) tn)) (b := f36) (m := f38) h2.1 hr hgv hnum (by assumption)
                  | have hst := bst3_no (g := (fun k => (fun sd => rdX sg (mtc (M 56)) (M 200) (F 6) (tsp (F 1) sg (cnt sg (mtc (M 56)) (M 200) (F 6)) (tnum (F 1) sg (cnt sg (mtc (M 56)) (M 200) (F 6)))) (M 53) t sd) (snd (rowS (snd k) tn)))) (tr := (fun k => rowS (snd k) tn)) h2.1 hr hgv hb hm38 (by assumption) (by omega)
                  refine r_iinc (lv' := [(2, .int (zi (v2 + 1))), (3, .int (zi rv)), (0, .ref (B 49 0)), (1, .int (zi t))]) C dX0_layBest_122 hl (k := 3) rfl (by decide) rfl (fun ls hl => ?_)
                  refine lv_goto (tgt := 21) C.x C.b dX0_layBest_125 (by decide) ?_
                  exact ih21 (v2 + 1) r_8 rv (0 + (bI (rv = rv))) m33_35 (by omega) hst.1 hst.2.1 hst.2.2 (by omega) H locs ls hX hS (lv_sub hl [2, 3, 0] rfl)
                refine r_icmp_ne (tgt := 117) C (by omega) (by omega) dX0_layBest_110 (by decide) (fun c_10 => ?_) (fun c_10 => ?_)
                · refine r_const C dX0_layBest_117 ?_
                  exact J118_9 0 ((bI_f c_10).symm) H locs ls hX hS hl
                · refine r_const C dX0_layBest_113 ?_
                  refine lv_goto (tgt := 118) C.x C.b dX0_layBest_114 (by decide) ?_
                  exact J118_9 1 ((bI_t c_10).symm) H locs ls hX hS hl
            · refine lv_aload_n C.x C.b dX0_layBest_43 rfl (lv_at hl 0 rfl) ?_
              refine x_ga (B := (va_up B 54 b54_1)) C hX 33 (by decide) rfl q769 (fun _ h => h) dX0_layBest_44 ?_
              refine lv_iload_n C.x C.b dX0_layBest_47 rfl (lv_at hl 3 rfl) ?_
              refine lv_iload_n C.x C.b dX0_layBest_48 rfl (lv_at hl 2 rfl) ?_
              refine r_const C dX0_layBest_49 ?_
              refine lv_aload_n C.x C.b dX0_layBest_50 rfl (lv_at hl 0 rfl) ?_
              refine x_gi (B := (va_up B 54 b54_1)) C hX 31 (by decide) rfl q767 (fun _ h => h) tn rfl (b := (0, 6)) rfl dX0_layBest_51 (fun _ => ?_)
              refine r_const C dX0_layBest_54 ?_
              refine r_isub C dX0_layBest_55 ?_
              refine lv_iload_n C.x C.b dX0_layBest_56 rfl (lv_at hl 3 rfl) ?_
              refine r_isub C dX0_layBest_57 ?_
              refine r_imul C dX0_layBest_58 ?_
              refine r_ishr C (by omega) (by omega) rfl dX0_layBest_59 ?_
              refine r_const C dX0_layBest_60 ?_
              refine r_iand C (zi_and3 _) dX0_layBest_61 ?_
              refine x_si1 (B := (va_up B 54 b54_1)) C hX hS 33 rfl (by decide) rfl (show 0 ≤ v3 ∧ v3 < 6 from (by omega)) (by decide) (fun b hb => by cases hb; exact (show 0 ≤ (v2 / 2 ^ (2 * ((tn - 1) - v3)).toNat) % 4 ∧ (v2 / 2 ^ (2 * ((tn - 1) - v3)).toNat) % 4 ≤ 3 from (by omega))) (M' := (va_up (va_up (va_up (va_up (va_up (va_up M 3 sg) 30 tt) 32 sp) 33 (fup m33_35 v3 ((v2 / 2 ^ (2 * ((tn - 1) - v3)).toNat) % 4))) 54 r54) 202 r202)) (up_in (by decide) (up_in (by decide) (up_up _ _ _ _))) dX0_layBest_62 (fun H locs hX hS => ?_)
              refine r_iinc (lv' := [(3, .int (zi (v3 + 1))), (0, .ref (B 49 0)), (1, .int (zi t)), (2, .int (zi v2))]) C dX0_layBest_63 hl (k := 3) rfl (by decide) rfl (fun ls hl => ?_)
              refine lv_goto (tgt := 35) C.x C.b dX0_layBest_66 (by decide) ?_
              exact ih35 (v3 + 1) (fup m33_35 v3 ((v2 / 2 ^ (2 * ((tn - 1) - v3)).toNat) % 4)) (by omega) (fup_st (P := fun j x => x = snd v2 (tn - 1 - j)) hd rfl) (by omega) H locs ls hX hS (lv_sub hl [1, 2, 3, 0] rfl)
        exact L35 _ 0 m33 (by omega) (fun j a b => absurd a (by omega)) (Nat.lt_succ_self _) H locs ls hX hS (lv_sub hl [1, 2, 3, 0] rfl)
  exact L21 _ 0 (F 36) (-1) 0 (M 33) (by omega) rfl (fun q => absurd q (by omega)) rfl (Nat.lt_succ_self _) H locs ls (hX.to rfl ((up_id (va_up (va_up (va_up (va_up F 31 tn) 35 rn) 37 (-1)) 38 0) (k := 36) (a := (F 36)) rfl).symm.trans (up_in (by decide) (up_in (by decide) rfl))) ((up_id (va_up (va_up (va_up (va_up (va_up M 3 sg) 30 tt) 32 sp) 54 r54) 202 r202) (k := 33) (a := (M 33)) rfl).symm.trans (up_in (by decide) (up_in (by decide) rfl))) rfl rfl) hS (lv_sub hl [1, 2, 0] rfl)

theorem hd_X0_best : yX0_best.cls = RX0 ∧ yX0_best.cls ≠ "java/lang/invoke/MethodHandle" ∧ yX0_best.cls ≠ "java/lang/invoke/VarHandle" ∧ (parseMethodDescriptor yX0_best.desc).map (fun d => d.parameters.length) = some 2 := by decide +kernel
abbrev rm_X0_best : Room := { frames := 5, cells := 192, slots := 1152, locals := 114 }
set_option maxHeartbeats 8000000 in
theorem met_X0_best (l : Launch) (E : us_E) (A : Nat → Prop) (B : Nat → Int → Nat) (F : Nat → Int) (M : Nat → Int → Int) (G : Nat → Int → Option Nat) (T : x_T) (t : Int) (w : Int) (ht : -2147483648 ≤ t ∧ t < 2147483648) (hw : -2147483648 ≤ w ∧ w < 2147483648) (hT0 : T 0 = none) : cMet l yX0_best cX0_best 3 (some .int) rm_X0_best A E [.ref (B 49 0), .int (zi t), .int (zi w)] (fun H => XH E A B F M G T H) (qi A (fun r H => ∃ b54 : Int → Nat, ∃ f31 : Int, ∃ f35 : Int, ∃ f36 : Int, ∃ f37 : Int, ∃ f38 : Int, ∃ gg34 : Int → Option Nat, ∃ m3 : Int → Int, ∃ m30 : Int → Int, ∃ m32 : Int → Int, ∃ m33 : Int → Int, ∃ m54 : Int → Int, ∃ m202 : Int → Int, (((0 ≤ t ∧ t ≤ 1 * 2 ^ (F 6).toNat - 1) ∧ (0 ≤ w ∧ w ≤ 2)) → SgOK (F 1) (M 0) (F 2) m3) ∧ (r = sel ((0 ≤ t ∧ t ≤ 1 * 2 ^ (F 6).toNat - 1) ∧ (0 ≤ w ∧ w ≤ 2)) (sel (w = 0) (fBt (fun sd => rdX m3 (mtc (M 56)) (M 200) (F 6) (tsp (F 1) m3 (cnt m3 (mtc (M 56)) (M 200) (F 6)) (tnum (F 1) m3 (cnt m3 (mtc (M 56)) (M 200) (F 6)))) (M 53) t sd) (tnum (F 1) m3 (cnt m3 (mtc (M 56)) (M 200) (F 6)))) (sel (w = 1) (fRt (fun sd => rdX m3 (mtc (M 56)) (M 200) (F 6) (tsp (F 1) m3 (cnt m3 (mtc (M 56)) (M 200) (F 6)) (tnum (F 1) m3 (cnt m3 (mtc (M 56)) (M 200) (F 6)))) (M 53) t sd) (tnum (F 1) m3 (cnt m3 (mtc (M 56)) (M 200) (F 6)))) (fMt (fun sd => rdX m3 (mtc (M 56)) (M 200) (F 6) (tsp (F 1) m3 (cnt m3 (mtc (M 56)) (M 200) (F 6)) (tnum (F 1) m3 (cnt m3 (mtc (M 56)) (M 200) (F 6)))) (M 53) t sd) (tnum (F 1) m3 (cnt m3 (mtc (M 56)) (M 200) (F 6)))))) (-1)) ∧ XH E A (va_up B 54 b54) (va_up (va_up (va_up (va_up (va_up F 31 f31) 35 f35) 36 f36) 37 f37) 38 f38) (va_up (va_up (va_up (va_up (va_up (va_up M 3 m3) 30 m30) 32 m32) 33 m33) 54 m54) 202 m202) (va_up G 34 gg34) T H)) := by
  refine cMet.of (by decide) (Nat.le_of_ble_eq_true rfl) (fun p e s m args below meth c C hnm hX hS ls hl => ?_)
  have C : Cx p s m args meth c A RX0 cX0_best 3 (some .int) E := C
  have hX : XH E A B F M G T s.heap := hX
  have hl : lv_has ls 3 [(0, .ref (B 49 0)), (1, .int (zi t)), (2, .int (zi w))] := hl
  generalize hH : s.heap = H at hX
  have hS : va_S A s.heap H [] := by rw [← hH]; exact hS
  generalize hlocs : ([] : List Loc) = locs at hS ⊢
  obtain ⟨QQ, hQQ⟩ : ∃ zQQ, MQ below (qi A (fun r H => ∃ b54 : Int → Nat, ∃ f31 : Int, ∃ f35 : Int, ∃ f36 : Int, ∃ f37 : Int, ∃ f38 : Int, ∃ gg34 : Int → Option Nat, ∃ m3 : Int → Int, ∃ m30 : Int → Int, ∃ m32 : Int → Int, ∃ m33 : Int → Int, ∃ m54 : Int → Int, ∃ m202 : Int → Int, (((0 ≤ t ∧ t ≤ 1 * 2 ^ (F 6).toNat - 1) ∧ (0 ≤ w ∧ w ≤ 2)) → SgOK (F 1) (M 0) (F 2) m3) ∧ (r = sel ((0 ≤ t ∧ t ≤ 1 * 2 ^ (F 6).toNat - 1) ∧ (0 ≤ w ∧ w ≤ 2)) (sel (w = 0) (fBt (fun sd => rdX m3 (mtc (M 56)) (M 200) (F 6) (tsp (F 1) m3 (cnt m3 (mtc (M 56)) (M 200) (F 6)) (tnum (F 1) m3 (cnt m3 (mtc (M 56)) (M 200) (F 6)))) (M 53) t sd) (tnum (F 1) m3 (cnt m3 (mtc (M 56)) (M 200) (F 6)))) (sel (w = 1) (fRt (fun sd => rdX m3 (mtc (M 56)) (M 200) (F 6) (tsp (F 1) m3 (cnt m3 (mtc (M 56)) (M 200) (F 6)) (tnum (F 1) m3 (cnt m3 (mtc (M 56)) (M 200) (F 6)))) (M 53) t sd) (tnum (F 1) m3 (cnt m3 (mtc (M 56)) (M 200) (F 6)))) (fMt (fun sd => rdX m3 (mtc (M 56)) (M 200) (F 6) (tsp (F 1) m3 (cnt m3 (mtc (M 56)) (M 200) (F 6)) (tnum (F 1) m3 (cnt m3 (mtc (M 56)) (M 200) (F 6)))) (M 53) t sd) (tnum (F 1) m3 (cnt m3 (mtc (M 56)) (M 200) (F 6)))))) (-1)) ∧ XH E A (va_up B 54 b54) (va_up (va_up (va_up (va_up (va_up F 31 f31) 35 f35) 36 f36) 37 f37) 38 f38) (va_up (va_up (va_up (va_up (va_up (va_up M 3 m3) 30 m30) 32 m32) 33 m33) 54 m54) 202 m202) (va_up G 34 gg34) T H)) args s (rm_X0_best).cells (rm_X0_best).slots A = zQQ := ⟨_, rfl⟩
  rw [hQQ]
  have rF6 : 0 ≤ F 6 ∧ F 6 ≤ 8 := hX.2.1 6 (0, 8) rfl
  refine lv_aload_n C.x C.b dX0_best_0 rfl (lv_at hl 0 rfl) ?_
  refine lv_iload_n C.x C.b dX0_best_1 rfl (lv_at hl 1 rfl) ?_
  refine r_callVi (As := [.int (zi t)]) (rest := []) (cells' := 0) (slots' := 0) C (met_X0_areTexts l E A B F M G T t (show -2147483648 ≤ t ∧ t < 2147483648 from (by omega))) (lw_V q383 q385 qs22 q86 q386) hd_X0_areTexts rfl (by decide) (x_this C hX) hX hS hl.1 rfl (Nat.le_of_ble_eq_true rfl) dX0_best_2 rfl rfl ⟨Nat.le_of_ble_eq_true rfl, Nat.le_of_ble_eq_true rfl⟩ (fun rr H locs hp hS => ?_)
  obtain ⟨hrr, hX⟩ := hp
  have hrr : rr = bI (0 ≤ t ∧ t ≤ 1 * 2 ^ ((F 6)).toNat - 1) := hrr
  subst hrr
  refine r_if_eq_b (tgt := 20) C dX0_best_5 (by decide) (fun c_1 => ?_) (fun c_1 => ?_)
  · refine r_const C dX0_best_20 ?_
    rw [← hQQ]
    exact r_iret C hS (Nat.le_of_ble_eq_true rfl) (Nat.le_of_ble_eq_true rfl) dX0_best_21 ⟨(B 54), (F 31), (F 35), (F 36), (F 37), (F 38), (G 34), (M 3), (M 30), (M 32), (M 33), (M 54), (M 202), (fun q => by first | exact absurd q.1 (by assumption) | exact absurd q.2 (by assumption)), (by first | exact Eq.symm (sel_f (fun q => absurd q.1 (by assumption))) | exact Eq.symm (sel_f (fun q => absurd q.2 (by assumption)))), (hX.to ((up_id B (k := 54) (a := (B 54)) rfl).symm.trans rfl) ((((((up_id F (k := 31) (a := (F 31)) rfl).symm.trans rfl).trans ((up_id (va_up F 31 (F 31)) (k := 35) (a := (F 35)) rfl).symm.trans rfl)).trans ((up_id (va_up (va_up F 31 (F 31)) 35 (F 35)) (k := 36) (a := (F 36)) rfl).symm.trans rfl)).trans ((up_id (va_up (va_up (va_up F 31 (F 31)) 35 (F 35)) 36 (F 36)) (k := 37) (a := (F 37)) rfl).symm.trans rfl)).trans ((up_id (va_up (va_up (va_up (va_up F 31 (F 31)) 35 (F 35)) 36 (F 36)) 37 (F 37)) (k := 38) (a := (F 38)) rfl).symm.trans rfl)) (((((((up_id M (k := 3) (a := (M 3)) rfl).symm.trans rfl).trans ((up_id (va_up M 3 (M 3)) (k := 30) (a := (M 30)) rfl).symm.trans rfl)).trans ((up_id (va_up (va_up M 3 (M 3)) 30 (M 30)) (k := 32) (a := (M 32)) rfl).symm.trans rfl)).trans ((up_id (va_up (va_up (va_up M 3 (M 3)) 30 (M 30)) 32 (M 32)) (k := 33) (a := (M 33)) rfl).symm.trans rfl)).trans ((up_id (va_up (va_up (va_up (va_up M 3 (M 3)) 30 (M 30)) 32 (M 32)) 33 (M 33)) (k := 54) (a := (M 54)) rfl).symm.trans rfl)).trans ((up_id (va_up (va_up (va_up (va_up (va_up M 3 (M 3)) 30 (M 30)) 32 (M 32)) 33 (M 33)) 54 (M 54)) (k := 202) (a := (M 202)) rfl).symm.trans rfl)) ((up_id G (k := 34) (a := (G 34)) rfl).symm.trans rfl) rfl)⟩
  · refine lv_iload_n C.x C.b dX0_best_8 rfl (lv_at hl 2 rfl) ?_
    refine r_i2l C (by omega) dX0_best_9 ?_
    refine r_lconst C 0 rfl dX0_best_10 ?_
    refine r_ldc2 C 2 (by decide) q218 dX0_best_11 ?_
    refine r_callSi (As := [.long (zl w), .long (zl 0), .long (zl 2)]) (rest := []) (cells' := 0) (slots' := 0) C (met_X0_isIn l E A H w 0 2 (show -9223372036854775808 ≤ w ∧ w < 9223372036854775808 from (by omega)) (show -9223372036854775808 ≤ (0 : Int) ∧ (0 : Int) < 9223372036854775808 from (by omega)) (show -9223372036854775808 ≤ (2 : Int) ∧ (2 : Int) < 9223372036854775808 from (by omega))) (lw_S q117 q118 q86 q119) hd_X0_isIn rfl (by decide) rfl hS hl.1 rfl (Nat.le_of_ble_eq_true rfl) dX0_best_14 rfl rfl ⟨Nat.le_of_ble_eq_true rfl, Nat.le_of_ble_eq_true rfl⟩ (fun rr H locs hp hS => ?_)
    obtain ⟨hrr, hH⟩ := hp
    have hrr : rr = bI ((0 : Int) ≤ w ∧ w ≤ (2 : Int)) := hrr
    subst hrr
    have hX : XH E A B F M G T H := by rw [hH]; exact hX
    refine r_if_ne_b (tgt := 22) C dX0_best_17 (by decide) (fun c_2 => ?_) (fun c_2 => ?_)
    · have hp12 := p2_12 (k := F 6) (by omega)
      have htt : 0 ≤ t ∧ t ≤ 1 * 2 ^ (F 6).toNat - 1 := by assumption
      refine lv_aload_n C.x C.b dX0_best_22 rfl (lv_at hl 0 rfl) ?_
      refine lv_iload_n C.x C.b dX0_best_23 rfl (lv_at hl 1 rfl) ?_
      refine r_callVv (As := [.int (zi t)]) (rest := []) (cells' := 192) (slots' := 1152) C (met_X0_layBest l E A B F M G T t (show 0 ≤ t ∧ t < 2147483648 from (by omega)) (show (T 0) = none from hT0)) (lw_V q407 q409 qs27 q86 q410) hd_X0_layBest rfl (by decide) (x_this C hX) hX hS hl.1 rfl (Nat.le_of_ble_eq_true rfl) dX0_best_24 rfl rfl ⟨Nat.le_of_ble_eq_true rfl, Nat.le_of_ble_eq_true rfl⟩ (fun H locs hp hS => ?_)
      obtain ⟨b54_3, tn, rn, b0, b1, b2, gg34_4, sg, tt, sp, sd, r54, r202, hsg, htn, hts_, hb36, hb37, hb38, hbr, hX⟩ := hp
      replace hsg : SgOK ((F 1)) ((M 0)) ((F 2)) sg := hsg
      replace htn : tn = tnum ((F 1)) sg (cnt sg (mtc ((M 56))) ((M 200)) ((F 6))) := htn
      replace hts_ : ∀ s : Int, 0 ≤ s → s < 24 → sp s = tsp ((F 1)) sg (cnt sg (mtc ((M 56))) ((M 200)) ((F 6))) tn s := hts_
      replace hb36 : b0 = fBt (fun sd => rdX sg (mtc ((M 56))) ((M 200)) ((F 6)) (tsp ((F 1)) sg (cnt sg (mtc ((M 56))) ((M 200)) ((F 6))) (tnum ((F 1)) sg (cnt sg (mtc ((M 56))) ((M 200)) ((F 6))))) ((M 53)) t sd) tn := hb36
      replace hb37 : b1 = fRt (fun sd => rdX sg (mtc ((M 56))) ((M 200)) ((F 6)) (tsp ((F 1)) sg (cnt sg (mtc ((M 56))) ((M 200)) ((F 6))) (tnum ((F 1)) sg (cnt sg (mtc ((M 56))) ((M 200)) ((F 6))))) ((M 53)) t sd) tn := hb37
      replace hb38 : b2 = fMt (fun sd => rdX sg (mtc ((M 56))) ((M 200)) ((F 6)) (tsp ((F 1)) sg (cnt sg (mtc ((M 56))) ((M 200)) ((F 6))) (tnum ((F 1)) sg (cnt sg (mtc ((M 56))) ((M 200)) ((F 6))))) ((M 53)) t sd) tn := hb38
      replace hbr : (0 ≤ b0 ∧ b0 ≤ 4095) ∧ (0 ≤ tn ∧ tn ≤ 6) := hbr
      have hX : XH E A (va_up B 54 b54_3) (va_up (va_up (va_up (va_up (va_up F 31 tn) 35 rn) 36 b0) 37 b1) 38 b2) (va_up (va_up (va_up (va_up (va_up (va_up M 3 sg) 30 tt) 32 sp) 33 sd) 54 r54) 202 r202) (va_up G 34 gg34_4) T H := hX.to rfl ((congrArg (fun z => va_up z 38 b2) ((congrArg (fun z => va_up z 37 b1) ((congrArg (fun z => va_up z 36 b0) ((congrArg (fun z => va_up z 35 rn) rfl).trans rfl)).trans rfl)).trans rfl)).trans rfl) ((congrArg (fun z => va_up z 202 r202) ((congrArg (fun z => va_up z 54 r54) ((congrArg (fun z => va_up z 33 sd) ((congrArg (fun z => va_up z 32 sp) ((congrArg (fun z => va_up z 30 tt) rfl).trans rfl)).trans rfl)).trans rfl)).trans rfl)).trans rfl) rfl rfl
      refine lv_iload_n C.x C.b dX0_best_27 rfl (lv_at hl 2 rfl) ?_
      refine r_if_ne (tgt := 38) C (by omega) dX0_best_28 (by decide) (fun c_5 => ?_) (fun c_5 => ?_)
      · refine lv_iload_n C.x C.b dX0_best_38 rfl (lv_at hl 2 rfl) ?_
        refine r_const C dX0_best_39 ?_
        refine r_icmp_ne (tgt := 50) C (by omega) (by decide) dX0_best_40 (by decide) (fun c_6 => ?_) (fun c_6 => ?_)
        · refine lv_aload_n C.x C.b dX0_best_50 rfl (lv_at hl 0 rfl) ?_
          refine x_gi (B := (va_up B 54 b54_3)) C hX 38 (by decide) rfl q774 (fun _ h => h) b2 rfl (b := (0, 4096)) rfl dX0_best_51 (fun r51 => ?_)
          have r51 : 0 ≤ b2 ∧ b2 ≤ 4096 := r51
          have h0_ := hb36.trans (congrArg (fBt (fun sd => rdX sg (mtc (M 56)) (M 200) (F 6) (tsp (F 1) sg (cnt sg (mtc (M 56)) (M 200) (F 6)) (tnum (F 1) sg (cnt sg (mtc (M 56)) (M 200) (F 6)))) (M 53) t sd)) htn)
          have h1_ := hb37.trans (congrArg (fRt (fun sd => rdX sg (mtc (M 56)) (M 200) (F 6) (tsp (F 1) sg (cnt sg (mtc (M 56)) (M 200) (F 6)) (tnum (F 1) sg (cnt sg (mtc (M 56)) (M 200) (F 6)))) (M 53) t sd)) htn)
          have h2_ := hb38.trans (congrArg (fMt (fun sd => rdX sg (mtc (M 56)) (M 200) (F 6) (tsp (F 1) sg (cnt sg (mtc (M 56)) (M 200) (F 6)) (tnum (F 1) sg (cnt sg (mtc (M 56)) (M 200) (F 6)))) (M 53) t sd)) htn)
          rw [← hQQ]
          exact r_iret C hS (Nat.le_of_ble_eq_true rfl) (Nat.le_of_ble_eq_true rfl) dX0_best_54 ⟨b54_3, tn, rn, b0, b1, b2, gg34_4, sg, tt, sp, sd, r54, r202, (fun _ => hsg), (by rw [sel_t (c := (0 ≤ t ∧ t ≤ 1 * 2 ^ (F 6).toNat - 1) ∧ (0 ≤ w ∧ w ≤ 2)) ⟨by assumption, by assumption⟩]; first | (rw [sel_t (by assumption)]; exact h0_) | (rw [sel_f (by assumption), sel_t (by assumption)]; exact h1_) | (rw [sel_f (by assumption), sel_f (by assumption)]; exact h2_)), hX⟩
        · refine lv_aload_n C.x C.b dX0_best_43 rfl (lv_at hl 0 rfl) ?_
          refine x_gi (B := (va_up B 54 b54_3)) C hX 37 (by decide) rfl q773 (fun _ h => h) b1 rfl (b := (-1, 192)) rfl dX0_best_44 (fun r44 => ?_)
          have r44 : -1 ≤ b1 ∧ b1 ≤ 192 := r44
          refine lv_goto (tgt := 54) C.x C.b dX0_best_47 (by decide) ?_
          have h0_ := hb36.trans (congrArg (fBt (fun sd => rdX sg (mtc (M 56)) (M 200) (F 6) (tsp (F 1) sg (cnt sg (mtc (M 56)) (M 200) (F 6)) (tnum (F 1) sg (cnt sg (mtc (M 56)) (M 200) (F 6)))) (M 53) t sd)) htn)
          have h1_ := hb37.trans (congrArg (fRt (fun sd => rdX sg (mtc (M 56)) (M 200) (F 6) (tsp (F 1) sg (cnt sg (mtc (M 56)) (M 200) (F 6)) (tnum (F 1) sg (cnt sg (mtc (M 56)) (M 200) (F 6)))) (M 53) t sd)) htn)
          have h2_ := hb38.trans (congrArg (fMt (fun sd => rdX sg (mtc (M 56)) (M 200) (F 6) (tsp (F 1) sg (cnt sg (mtc (M 56)) (M 200) (F 6)) (tnum (F 1) sg (cnt sg (mtc (M 56)) (M 200) (F 6)))) (M 53) t sd)) htn)
          rw [← hQQ]
          exact r_iret C hS (Nat.le_of_ble_eq_true rfl) (Nat.le_of_ble_eq_true rfl) dX0_best_54 ⟨b54_3, tn, rn, b0, b1, b2, gg34_4, sg, tt, sp, sd, r54, r202, (fun _ => hsg), (by rw [sel_t (c := (0 ≤ t ∧ t ≤ 1 * 2 ^ (F 6).toNat - 1) ∧ (0 ≤ w ∧ w ≤ 2)) ⟨by assumption, by assumption⟩]; first | (rw [sel_t (by assumption)]; exact h0_) | (rw [sel_f (by assumption), sel_t (by assumption)]; exact h1_) | (rw [sel_f (by assumption), sel_f (by assumption)]; exact h2_)), hX⟩
      · refine lv_aload_n C.x C.b dX0_best_31 rfl (lv_at hl 0 rfl) ?_
        refine x_gi (B := (va_up B 54 b54_3)) C hX 36 (by decide) rfl q772 (fun _ h => h) b0 rfl (b := (0, 4095)) rfl dX0_best_32 (fun r32 => ?_)
        have r32 : 0 ≤ b0 ∧ b0 ≤ 4095 := r32
        refine lv_goto (tgt := 54) C.x C.b dX0_best_35 (by decide) ?_
        have h0_ := hb36.trans (congrArg (fBt (fun sd => rdX sg (mtc (M 56)) (M 200) (F 6) (tsp (F 1) sg (cnt sg (mtc (M 56)) (M 200) (F 6)) (tnum (F 1) sg (cnt sg (mtc (M 56)) (M 200) (F 6)))) (M 53) t sd)) htn)
        have h1_ := hb37.trans (congrArg (fRt (fun sd => rdX sg (mtc (M 56)) (M 200) (F 6) (tsp (F 1) sg (cnt sg (mtc (M 56)) (M 200) (F 6)) (tnum (F 1) sg (cnt sg (mtc (M 56)) (M 200) (F 6)))) (M 53) t sd)) htn)
        have h2_ := hb38.trans (congrArg (fMt (fun sd => rdX sg (mtc (M 56)) (M 200) (F 6) (tsp (F 1) sg (cnt sg (mtc (M 56)) (M 200) (F 6)) (tnum (F 1) sg (cnt sg (mtc (M 56)) (M 200) (F 6)))) (M 53) t sd)) htn)
        rw [← hQQ]
        exact r_iret C hS (Nat.le_of_ble_eq_true rfl) (Nat.le_of_ble_eq_true rfl) dX0_best_54 ⟨b54_3, tn, rn, b0, b1, b2, gg34_4, sg, tt, sp, sd, r54, r202, (fun _ => hsg), (by rw [sel_t (c := (0 ≤ t ∧ t ≤ 1 * 2 ^ (F 6).toNat - 1) ∧ (0 ≤ w ∧ w ≤ 2)) ⟨by assumption, by assumption⟩]; first | (rw [sel_t (by assumption)]; exact h0_) | (rw [sel_f (by assumption), sel_t (by assumption)]; exact h1_) | (rw [sel_f (by assumption), sel_f (by assumption)]; exact h2_)), hX⟩
    · refine r_const C dX0_best_20 ?_
      rw [← hQQ]
      exact r_iret C hS (Nat.le_of_ble_eq_true rfl) (Nat.le_of_ble_eq_true rfl) dX0_best_21 ⟨(B 54), (F 31), (F 35), (F 36), (F 37), (F 38), (G 34), (M 3), (M 30), (M 32), (M 33), (M 54), (M 202), (fun q => by first | exact absurd q.1 (by assumption) | exact absurd q.2 (by assumption)), (by first | exact Eq.symm (sel_f (fun q => absurd q.1 (by assumption))) | exact Eq.symm (sel_f (fun q => absurd q.2 (by assumption)))), (hX.to ((up_id B (k := 54) (a := (B 54)) rfl).symm.trans rfl) ((((((up_id F (k := 31) (a := (F 31)) rfl).symm.trans rfl).trans ((up_id (va_up F 31 (F 31)) (k := 35) (a := (F 35)) rfl).symm.trans rfl)).trans ((up_id (va_up (va_up F 31 (F 31)) 35 (F 35)) (k := 36) (a := (F 36)) rfl).symm.trans rfl)).trans ((up_id (va_up (va_up (va_up F 31 (F 31)) 35 (F 35)) 36 (F 36)) (k := 37) (a := (F 37)) rfl).symm.trans rfl)).trans ((up_id (va_up (va_up (va_up (va_up F 31 (F 31)) 35 (F 35)) 36 (F 36)) 37 (F 37)) (k := 38) (a := (F 38)) rfl).symm.trans rfl)) (((((((up_id M (k := 3) (a := (M 3)) rfl).symm.trans rfl).trans ((up_id (va_up M 3 (M 3)) (k := 30) (a := (M 30)) rfl).symm.trans rfl)).trans ((up_id (va_up (va_up M 3 (M 3)) 30 (M 30)) (k := 32) (a := (M 32)) rfl).symm.trans rfl)).trans ((up_id (va_up (va_up (va_up M 3 (M 3)) 30 (M 30)) 32 (M 32)) (k := 33) (a := (M 33)) rfl).symm.trans rfl)).trans ((up_id (va_up (va_up (va_up (va_up M 3 (M 3)) 30 (M 30)) 32 (M 32)) 33 (M 33)) (k := 54) (a := (M 54)) rfl).symm.trans rfl)).trans ((up_id (va_up (va_up (va_up (va_up (va_up M 3 (M 3)) 30 (M 30)) 32 (M 32)) 33 (M 33)) 54 (M 54)) (k := 202) (a := (M 202)) rfl).symm.trans rfl)) ((up_id G (k := 34) (a := (G 34)) rfl).symm.trans rfl) rfl)⟩
