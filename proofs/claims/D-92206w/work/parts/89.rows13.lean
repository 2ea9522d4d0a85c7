set_option maxRecDepth 100000
/-! ROWS: new rows; a sheet gets its row and its size -/
section ROWS13
variable {p : Program} {l : Launch} {e : Env} {R : Room} {s : State} {m : MethodId} {args : Array Value} {below : List Frame} {meth : Method} {c : Code} {H : Heap} {locs : List Loc} {cells slots : Nat} {Q : State → Prop}
variable {A : Nat → Prop} {own : String} {cc : ByteArray} {nL : Nat} {rt : Option FieldType} {E : us_E} {pc : Nat} {ls : Array Slot} {rest : List Value} {B : Nat → Int → Nat} {F : Nat → Int} {M : Nat → Int → Int} {G : Nat → Int → Option Nat} {T : x_T}
abbrev tS (E : us_E) (a n : Nat) (g : Int → Int) : Nat × va_E := (a, .inl (E.2 2, n, .inl (fun j : Nat => zi (g j))))
theorem x_news (C : Cx p s m args meth c A own cc nL rt E) (hX : XH E A B F M G T H) (hS : va_S A s.heap H locs) (j : Nat) (hj : j < 28) {v : Int} (hv : 0 ≤ v ∧ v ≤ 1000) (harr : Cond.arrayClass FieldType.short ∈ lw_all) (hcells : cells + 1 ≤ R.cells) (hslots : slots + v.toNat ≤ R.slots) (hdg : decode cc pc = .ok (.newarray .short, 2)) (kk : ∀ (a : Nat) (H : Heap), XH E A B F M G (va_up T j (some (tS E a v.toNat (fun _ => 0)))) H → va_S A s.heap H locs → W p l e R s m args below meth c H locs (cells + 1) (slots + v.toNat) Q (F0 m (pc + 2) ls (.ref a :: rest))) : W p l e R s m args below meth c H locs cells slots Q (F0 m pc ls (.int (zi v) :: rest)) := by
  have hneg : ¬ zi v < 0 := fun q => by
    have := (zi_lt (a := v) (b := 0) (by omega) (by omega)).1 q
    omega
  refine va_newaK C.x C.b (atype := .short) (C.t _ harr) rfl hdg rfl (n := zi v) hneg (zi_cl (by omega)) (by show v.toNat * 2 ≤ 536870912; omega) hcells hslots rfl fun H1 cA e1 z1 o1 hAr hNm => ?_
  have hcA : cA = E.2 2 := Option.some.inj (hNm.symm.trans (C.k.1.2 2 _ rfl).2)
  have he : va_at E.1 us_cl (H.size, .inl (E.2 2, v.toNat, .inl (fun _ => zi 0))) H1 := by
    show H1[H.size]? = some (vp_cell (E.2 2) (v.toNat, .inl (fun _ => zi 0)))
    rw [e1, hcA]
    rfl
  have h := rw_push (100 + j) hX.1 (C.a _ hS.1) he o1
  rw [show va_up (x_ad B T) (100 + j) H.size = _ from x_tad (q := tS E H.size v.toNat (fun _ => 0)) hj, show va_up (x_ce (xK E.2 B F M G) T) (100 + j) (some (.inl (E.2 2, v.toNat, .inl (fun _ => zi 0)))) = _ from x_tce (q := tS E H.size v.toNat (fun _ => 0)) hj] at h
  exact kk H.size H1 ⟨h, hX.2⟩ ⟨Nat.le_trans hS.1 (by omega), fun x h1 h2 => (o1 x (Nat.lt_of_lt_of_le h1 hS.1)).trans (hS.2.1 x h1 h2), hS.2.2⟩
theorem x_nza (C : Cx p s m args meth c A own cc nL rt E) (hX : XH E A B F M G T H) (hS : va_S A s.heap H locs) (hl0 : l.stackTraces = false) (hz : ls.size = nL) {atype : ArrayType} {v : Int} (hv : -2147483648 ≤ v ∧ v < 0) (hfr : 8 ≤ R.frames) (hlo : (rest.map fun v => v.category).sum + 10240 ≤ R.locals) (hc : cells + 3 ≤ R.cells) (hs : slots + 610 ≤ R.slots) (hdg : decode cc pc = .ok (.newarray atype, 2)) (kk : ∀ (q9 : Nat) (ce : Cell) (H : Heap), XH E A B F M G T H → va_S A s.heap H locs → H[q9]? = some ce → ce.vm = .none → s.vm.findClass "java/lang/NegativeArraySizeException" = some ce.cls → vx_W p l e R s m args below meth c H locs (cells + 3) (slots + 610) Q (F0 m pc ls rest) q9) : W p l e R s m args below meth c H locs cells slots Q (F0 m pc ls (.int (zi v) :: rest)) :=
  vx_newarrayZ C.x C.b (by have := (zi_lt (a := v) (b := 0) (by omega) (by omega)).2 hv.2; exact this) hdg (fun tx htx => r_vmNA C hX hS hl0 hz (htx ▸ tx_na _) hfr hlo hc hs kk)
theorem r_aret {rm : Room} {Post : Nat → Heap → Prop} {XC : Addr → String → State → State → Prop} {a : Nat} {ty : FieldType} (C : Cx p s m args meth c A own cc nL (some ty) E) (hty : (∃ n, ty = .object n) ∨ ∃ t, ty = .array t) (hS : va_S A s.heap H locs) (h1 : cells ≤ rm.cells) (h2 : slots ≤ rm.slots) (hdg : decode cc pc = .ok (.areturn, 1)) (hq : Post a H) : W p l e R s m args below meth c H locs cells slots (vq_MQ below (qr A Post) XC args s rm.cells rm.slots A) (F0 m pc ls [.ref a]) :=
  vq_ret (W.widen h1 h2 (W.aret (v := .ref a) C.x C.b C.r hty (Or.inr ⟨a, rfl⟩) (fun t ht _ => ⟨⟨(), a, rfl, trivial, by show Post a t.heap; rw [ht]; exact hq⟩, hS.F ht⟩) hS.2.2 hdg C.n))
end ROWS13
theorem xK_jsheet {tc : Nat → ClassId} {B : Nat → Int → Nat} {F : Nat → Int} {M : Nat → Int → Int} {G : Nat → Int → Option Nat} {k x n : Int} {a : Nat} (hk : 0 ≤ k ∧ k < 4) (hx : 0 ≤ x ∧ x ≤ 2) : va_up (va_up (xK tc B F M G) 60 (fup (xK tc B F M G 60) k (some (.inr (5, [.ref a, .int (zi n)]))))) 61 (fup ((va_up (xK tc B F M G) 60 (fup (xK tc B F M G 60) k (some (.inr (5, [.ref a, .int (zi n)]))))) 61) k (some (.inl (tc (rty x), n.toNat, .inl (fun j : Nat => zi ((fun _ => 0 : Int → Int) j)))))) = xK tc (va_up B 61 (fup (B 61) k a)) F (va_up (va_up (va_up M 61 (spw 60 (M 61) k (fun _ => 0))) 203 (fup (M 203) k x)) 204 (fup (M 204) k n)) G := by
  have m203 : (va_up (va_up (va_up M 61 (spw 60 (M 61) k (fun _ => 0))) 203 (fup (M 203) k x)) 204 (fup (M 204) k n)) 203 = fup (M 203) k x := rfl
  have m204 : (va_up (va_up (va_up M 61 (spw 60 (M 61) k (fun _ => 0))) 203 (fup (M 203) k x)) 204 (fup (M 204) k n)) 204 = fup (M 204) k n := rfl
  have m61 : (va_up (va_up (va_up M 61 (spw 60 (M 61) k (fun _ => 0))) 203 (fup (M 203) k x)) 204 (fup (M 204) k n)) 61 = spw 60 (M 61) k (fun _ => 0) := rfl
  have b61 : (va_up B 61 (fup (B 61) k a)) 61 = fup (B 61) k a := rfl
  funext f i
  by_cases ea : f = 61
  · subst ea
    rw [va_up_self, xKe_61, m203, m204, m61]
    by_cases ei : i = k
    · subst ei
      rw [fup_s, fup_s, fup_s, if_pos ⟨hk, by omega⟩]
      have ef : (fun j : Nat => zi ((fun _ => 0 : Int → Int) j)) = (fun j : Nat => zi (xrow 60 (spw 60 (M 61) i (fun _ => 0)) i j)) := by
        funext j
        by_cases q : (j : Int) < 60
        · rw [xrow_in ⟨by omega, by omega⟩]
          show _ = zi (if 60 * i ≤ ((60 : Nat) : Int) * i + (j : Int) ∧ ((60 : Nat) : Int) * i + (j : Int) < 60 * i + 60 then 0 else _)
          rw [if_pos ⟨by omega, by omega⟩]
        · rw [show xrow 60 (spw 60 (M 61) i (fun _ => 0)) i (j : Int) = 0 from if_neg (by omega)]
      rw [ef]
      rfl
    · rw [fup_n _ _ ei, fup_n _ _ ei, fup_n _ _ ei, va_up_ne _ _ (by decide), xKe_61]
      have er : xrow 60 (spw 60 (M 61) k (fun _ => 0)) i = xrow 60 (M 61) i := by
        funext y
        unfold xrow
        by_cases z : 0 ≤ y ∧ y < ((60 : Nat) : Int)
        · rw [if_pos z, if_pos z]
          exact if_neg (by omega)
        · rw [if_neg z, if_neg z]
      rw [er]
  rw [va_up_ne _ _ ea]
  by_cases eo : f = 60
  · subst eo
    rw [va_up_self, xKe_60, m203, m204, b61]
    by_cases ei : i = k
    · subst ei
      rw [fup_s, fup_s, fup_s, fup_s, if_pos hk, if_neg (by omega)]
    · rw [fup_n _ _ ei, fup_n _ _ ei, fup_n _ _ ei, fup_n _ _ ei, xKe_60]
  rw [va_up_ne _ _ eo]
  by_cases e49 : f = 49
  · subst e49
    rw [xKe_49, xKe_49, xF_B (B := B) (B' := (va_up B 61 (fup (B 61) k a))) (fun k hk => by rw [va_up_ne _ _ (by omega)])]
  by_cases e54 : f = 54
  · subst e54
    exact xKe_54.trans (xKe_54 (B := (va_up B 61 (fup (B 61) k a))) (F := F) (M := (va_up (va_up (va_up M 61 (spw 60 (M 61) k (fun _ => 0))) 203 (fup (M 203) k x)) 204 (fup (M 204) k n)))).symm
  by_cases e55 : f = 55
  · subst e55
    exact xKe_55.trans (xKe_55 (B := (va_up B 61 (fup (B 61) k a))) (F := F) (M := (va_up (va_up (va_up M 61 (spw 60 (M 61) k (fun _ => 0))) 203 (fup (M 203) k x)) 204 (fup (M 204) k n)))).symm
  by_cases e56 : f = 56
  · subst e56
    exact xKe_56.trans (xKe_56 (B := (va_up B 61 (fup (B 61) k a))) (F := F) (M := (va_up (va_up (va_up M 61 (spw 60 (M 61) k (fun _ => 0))) 203 (fup (M 203) k x)) 204 (fup (M 204) k n)))).symm
  by_cases e57 : f = 57
  · subst e57
    exact xKe_57.trans (xKe_57 (B := (va_up B 61 (fup (B 61) k a))) (F := F) (M := (va_up (va_up (va_up M 61 (spw 60 (M 61) k (fun _ => 0))) 203 (fup (M 203) k x)) 204 (fup (M 204) k n)))).symm
  by_cases e58 : f = 58
  · subst e58
    exact xKe_58.trans (xKe_58 (B := (va_up B 61 (fup (B 61) k a))) (F := F) (M := (va_up (va_up (va_up M 61 (spw 60 (M 61) k (fun _ => 0))) 203 (fup (M 203) k x)) 204 (fup (M 204) k n)))).symm
  by_cases e59 : f = 59
  · subst e59
    exact xKe_59.trans (xKe_59 (B := (va_up B 61 (fup (B 61) k a))) (F := F) (M := (va_up (va_up (va_up M 61 (spw 60 (M 61) k (fun _ => 0))) 203 (fup (M 203) k x)) 204 (fup (M 204) k n)))).symm
  exact xK_oth (by omega) (fun q => by rw [va_up_ne _ _ (by omega), va_up_ne _ _ (by omega), va_up_ne _ _ (by omega)])
section Jsheet
variable {p : Program} {l : Launch} {e : Env} {R : Room} {s : State} {m : MethodId} {args : Array Value} {below : List Frame} {meth : Method} {c : Code} {H : Heap} {locs : List Loc} {cells slots : Nat} {Q : State → Prop}
variable {A : Nat → Prop} {own : String} {cc : ByteArray} {nL : Nat} {rt : Option FieldType} {E : us_E} {pc : Nat} {ls : Array Slot} {rest : List Value} {B : Nat → Int → Nat} {F : Nat → Int} {M : Nat → Int → Int} {G : Nat → Int → Option Nat} {T : x_T}
theorem x_psheet (C : Cx p s m args meth c A own cc nL rt E) (hX : XH E A B F M G T H) (hS : va_S A s.heap H locs) {a : Nat} {k x n : Int} {lv : List (Nat × Value)} (hT0 : T 0 = some (a, .inl (E.2 (rty x), n.toNat, .inl (fun j : Nat => zi ((fun _ => 0 : Int → Int) j))))) (hk : 0 ≤ k ∧ k < 4) (hx : 0 ≤ x ∧ x ≤ 2) (hn : 0 ≤ n ∧ n ≤ 60) (hl : lv_has ls nL lv) {i0 i1 i3 : Nat} (l0 : lv[i0]? = some (0, .ref (B 49 0))) (l1 : lv[i1]? = some (1, .int (zi k))) (l3 : lv[i3]? = some (3, .int (zi n)))
    {ref host : String} {index : Nat} (hlink : Cond.fieldLinkNest own index ref (TX1 0).2.1 (TX1 0).2.2.1 host ∈ us_N) (hsame : ∀ x, s.fieldFound? (TX1 0).1 (TX1 0).2.1 (TX1 0).2.2.1 = some x → s.fieldFound? ref (TX1 0).2.1 (TX1 0).2.2.1 = some x) (d0 : decode cc pc = .ok (.putfield index, 3)) (d3 : decode cc (pc + 3) = .ok (.aload_n 0, 1))
    {ref4 : String} {index4 : Nat} (hlink4 : Cond.fieldLink own index4 ref4 (TX0 48).2.1 (TX0 48).2.2.1 ∈ lw_all) (hsame4 : ∀ x, s.fieldFound? (TX0 48).1 (TX0 48).2.1 (TX0 48).2.2.1 = some x → s.fieldFound? ref4 (TX0 48).2.1 (TX0 48).2.2.1 = some x) (d4 : decode cc (pc + 4) = .ok (.getfield index4, 3)) (d7 : decode cc (pc + 7) = .ok (.iload_n 1, 1)) (d8 : decode cc (pc + 8) = .ok (.aaload, 1)) (d9 : decode cc (pc + 9) = .ok (.iload_n 3, 1))
    {ref2 host2 : String} {index2 : Nat} (hlink2 : Cond.fieldLinkNest own index2 ref2 (TX1 1).2.1 (TX1 1).2.2.1 host2 ∈ us_N) (hsame2 : ∀ x, s.fieldFound? (TX1 1).1 (TX1 1).2.1 (TX1 1).2.2.1 = some x → s.fieldFound? ref2 (TX1 1).2.1 (TX1 1).2.2.1 = some x) (d10 : decode cc (pc + 10) = .ok (.putfield index2, 3))
    (kk : ∀ (H : Heap) (locs : List Loc), XH E A (va_up B 61 (fup (B 61) k a)) F (va_up (va_up (va_up M 61 (spw 60 (M 61) k (fun _ => 0))) 203 (fup (M 203) k x)) 204 (fup (M 204) k n)) G (va_up T 0 none) H → va_S A s.heap H locs → W p l e R s m args below meth c H locs cells slots Q (F0 m (pc + 13) ls rest)) : W p l e R s m args below meth c H locs cells slots Q (F0 m pc ls (.ref a :: .ref (B 60 k) :: rest)) := by
  have hne : ¬ x_r 49 0 = x_r 60 k := fun q => by have := congrArg (fun z => z % 128) q; simp only [x_rm (show 49 < 100 by omega), x_rm (show 60 < 100 by omega)] at this; omega
  have hne4 : ¬ x_r 48 0 = x_r 60 k := fun q => by have := congrArg (fun z => z % 128) q; simp only [x_rm (show 48 < 100 by omega), x_rm (show 60 < 100 by omega)] at this; omega
  have key : W p l e R s m args below meth c H locs cells slots Q (F0 m pc ls (.ref a :: .ref (x_ad B T (x_r 60 k)) :: rest)) := g_putN C hX.1 hS (x_r 60 k) (Cn := RX1) (T := TX1) (N := 2) (ci := 5) (fs := [if M 203 k = -4 then .null else .ref (B 61 k), .int (zi (M 204 k))]) (v := .ref a) (rest := rest) (by rw [x_cef (by omega) hk.1]; exact xK_60 hk) rfl in_X1 tyX1 tyX1_ok nmX1 0 (by decide) hlink hsame rfl rfl rfl (show 0 < 2 by decide) d0 (fun H1 locs1 h1 hS => by
    refine lv_aload_n C.x C.b d3 rfl (lv_at hl i0 l0) ?_
    have k2 : W p l e R s m args below meth c H1 locs1 cells slots Q (F0 m (pc + 4) ls (.ref (x_ad B T (x_r 49 0)) :: rest)) := g_get C h1 (x_r 49 0) (Cn := RX0) (T := TX0) (N := 49) (ci := 0) (fs := xF B F) (rest := rest) (by rw [va_up_ne _ _ hne, x_cef (by omega) (Int.le_refl 0)]; exact xK_49) rfl in_X0 48 (by decide) hlink4 hsame4 (v := .ref (B 48 0)) (by rw [xF_get (by decide)]; rfl) d4 (by
      refine lv_iload_n C.x C.b d7 rfl (lv_at hl i1 l1) ?_
      have k3 : W p l e R s m args below meth c H1 locs1 cells slots Q (F0 m (pc + 8) ls (.int (zi k) :: .ref (x_ad B T (x_r 48 0)) :: rest)) := g_aald C h1 (x_r 48 0) 10 (n := 4) (f := fun j : Nat => G 48 j) (rest := rest) (by rw [va_up_ne _ _ hne4, x_cef (by omega) (Int.le_refl 0)]; exact xK_r rfl rfl) rfl rfl (i := k) (show 0 ≤ k ∧ k < (4 : Nat) by omega) (by decide) (v := some (B 60 k)) (by show G 48 ((k.toNat : Nat) : Int) = _; rw [Int.toNat_of_nonneg hk.1]; exact hX.2.2.2 48 60 rfl k hk.1 (by show k < 4; omega)) d8 (by
        refine lv_iload_n C.x C.b d9 rfl (lv_at hl i3 l3) ?_
        have k4 : W p l e R s m args below meth c H1 locs1 cells slots Q (F0 m (pc + 10) ls (.int (zi n) :: .ref (x_ad B T (x_r 60 k)) :: rest)) := g_putN C h1 hS (x_r 60 k) (Cn := RX1) (T := TX1) (N := 2) (ci := 5) (fs := [.ref a, .int (zi (M 204 k))]) (v := .int (zi n)) (rest := rest) (va_up_self _ _ _) rfl in_X1 tyX1 tyX1_ok nmX1 1 (by decide) hlink2 hsame2 rfl rfl rfl (show 1 < 2 by decide) d10 (fun H2 locs2 h2 hS2 => kk H2 locs2 (by
          have h2 : rw_H E.1 A (x_ad B T) (va_up (va_up (x_ce (xK E.2 B F M G) T) (x_r 60 k) (some (.inr (5, [.ref a, .int (zi (M 204 k))])))) (x_r 60 k) (some (.inr (5, [.ref a, .int (zi n)])))) H2 := h2
          rw [up_up, x_ceu (by omega) hk.1] at h2
          have h3 := x_join h2 (f := 61) (i := k) (by decide) hk.1 (by decide) hT0
          rw [xK_jsheet hk hx] at h3
          refine ⟨h3, hX.2.1, fun f q hq y => ?_, fun f g0 hg y h0 hy => ?_⟩
          · by_cases e4 : f = 204
            · subst e4; cases hq
              rw [va_up_self]
              by_cases z : y = k
              · rw [z, fup_s]; exact hn
              · rw [fup_n _ _ z]; exact hX.2.2.1 204 (0, 60) rfl y
            rw [va_up_ne _ _ e4]
            by_cases e3 : f = 203
            · subst e3; cases hq
              rw [va_up_self]
              by_cases z : y = k
              · rw [z, fup_s]; exact ⟨by show -4 ≤ x; omega, hx.2⟩
              · rw [fup_n _ _ z]; exact hX.2.2.1 203 (-4, 2) rfl y
            rw [va_up_ne _ _ e3]
            by_cases e1 : f = 61
            · subst e1; cases hq
              rw [va_up_self]
              show -2147483648 ≤ (if 60 * k ≤ y ∧ y < 60 * k + 60 then 0 else M 61 y) ∧ (if 60 * k ≤ y ∧ y < 60 * k + 60 then 0 else M 61 y) ≤ 2147483647
              by_cases z : 60 * k ≤ y ∧ y < 60 * k + 60
              · rw [if_pos z]; omega
              · rw [if_neg z]; exact hX.2.2.1 61 (-2147483648, 2147483647) rfl y
            rw [va_up_ne _ _ e1]
            exact hX.2.2.1 f q hq y
          · have eg : ¬ g0 = 61 := fun z => by
              subst z
              unfold xgf at hg
              split at hg <;> cases hg
            rw [va_up_ne _ _ eg]
            exact hX.2.2.2 f g0 hg y h0 hy) hS2)
        rw [x_adf (by omega) hk.1] at k4
        exact k4)
      rw [x_adf (by omega) (Int.le_refl 0)] at k3
      exact k3)
    rw [x_adf (by omega) (Int.le_refl 0)] at k2
    exact k2)
  rw [x_adf (by omega) hk.1] at key
  exact key
end Jsheet
