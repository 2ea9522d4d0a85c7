set_option maxRecDepth 100000
/-! ROWS: a spelt word joins the others -/
def spB (B : Nat → Int → Nat) (k : Int) (a : Nat) : Nat → Int → Nat := va_up B 54 (fup (B 54) k a)
def spM (M : Nat → Int → Int) (k n : Int) (g : Int → Int) : Nat → Int → Int := va_up (va_up M 54 (fun x => if 6 * k ≤ x ∧ x < 6 * k + 6 then g (x - 6 * k) else M 54 x)) 202 (fup (M 202) k n)
theorem spM_54 {M : Nat → Int → Int} {k n : Int} {g : Int → Int} : spM M k n g 54 = (fun x => if 6 * k ≤ x ∧ x < 6 * k + 6 then g (x - 6 * k) else M 54 x) := rfl
theorem spM_202 {M : Nat → Int → Int} {k n : Int} {g : Int → Int} : spM M k n g 202 = fup (M 202) k n := rfl
theorem spM_o {M : Nat → Int → Int} {k n : Int} {g : Int → Int} {f : Nat} (h1 : ¬ f = 54) (h2 : ¬ f = 202) : spM M k n g f = M f := by
  unfold spM
  rw [va_up_ne _ _ h2, va_up_ne _ _ h1]
theorem xK54_none {tc : Nat → ClassId} {B : Nat → Int → Nat} {F : Nat → Int} {M : Nat → Int → Int} {G : Nat → Int → Option Nat} {i : Int} (h : ¬ (0 ≤ i ∧ i < F 35)) : xK tc B F M G 54 i = none := by
  have e : xpr F M 54 i = none := if_neg h
  unfold xK
  rw [show xsp 54 = none from rfl, show xrf 54 = none from rfl]
  simp only [e]
  rfl
theorem xK_sp {tc : Nat → ClassId} {B : Nat → Int → Nat} {F : Nat → Int} {M : Nat → Int → Int} {G : Nat → Int → Option Nat} {a : Nat} {n : Int} {g : Int → Int} (hk : 0 ≤ F 35) (hg : ∀ x : Int, 6 ≤ x → g x = 0) :
    va_up (va_up (xK tc B F M G) 49 (fup (xK tc B F M G 49) 0 (some (.inr (0, (xF B F).set 35 (.int (zi (F 35 + 1)))))))) 54 (fup ((va_up (xK tc B F M G) 49 (fup (xK tc B F M G 49) 0 (some (.inr (0, (xF B F).set 35 (.int (zi (F 35 + 1)))))))) 54) (F 35) (some (.inl (tc 0, n.toNat, .inl (fun j : Nat => zi (g j)))))) = xK tc (spB B (F 35) a) (va_up F 35 (F 35 + 1)) (spM M (F 35) n g) G := by
  have f35 : va_up F 35 (F 35 + 1) 35 = F 35 + 1 := va_up_self _ _ _
  funext f i
  by_cases e54 : f = 54
  · subst e54
    rw [va_up_self]
    by_cases ei : i = F 35
    · subst ei
      have hp : xpr (va_up F 35 (F 35 + 1)) (spM M (F 35) n g) 54 (F 35) = some (0, n.toNat, 6) := by
        have e2 : spM M (F 35) n g 202 (F 35) = n := by rw [spM_202, fup_s]
        show (if 0 ≤ F 35 ∧ F 35 < va_up F 35 (F 35 + 1) 35 then some (0, (spM M (F 35) n g 202 (F 35)).toNat, 6) else none) = _
        rw [f35, if_pos ⟨hk, by omega⟩, e2]
      rw [fup_s, xK_d rfl rfl hp]
      have ef : (fun j : Nat => zi (g j)) = (fun j : Nat => zi (xrow 6 (spM M (F 35) n g 54) (F 35) j)) := by
        funext j
        by_cases q : (j : Int) < 6
        · have c1 : 0 ≤ (j : Int) ∧ (j : Int) < (6 : Nat) := ⟨by omega, by omega⟩
          rw [xrow_in c1, spM_54]
          show _ = zi (if 6 * F 35 ≤ ((6 : Nat) : Int) * F 35 + (j : Int) ∧ ((6 : Nat) : Int) * F 35 + (j : Int) < 6 * F 35 + 6 then g (((6 : Nat) : Int) * F 35 + (j : Int) - 6 * F 35) else _)
          rw [if_pos ⟨by omega, by omega⟩, show ((6 : Nat) : Int) * F 35 + (j : Int) - 6 * F 35 = (j : Int) by omega]
        · have c1 : ¬ (0 ≤ (j : Int) ∧ (j : Int) < ((6 : Nat) : Int)) := by omega
          rw [show xrow 6 (spM M (F 35) n g 54) (F 35) (j : Int) = 0 from if_neg c1, hg _ (by omega)]
      rw [ef]
    · rw [fup_n _ _ ei, va_up_ne _ _ (by decide)]
      by_cases q : 0 ≤ i ∧ i < F 35
      · have hp : xpr (va_up F 35 (F 35 + 1)) (spM M (F 35) n g) 54 i = some (0, (M 202 i).toNat, 6) := by
          have e2 : spM M (F 35) n g 202 i = M 202 i := by rw [spM_202, fup_n _ _ ei]
          show (if 0 ≤ i ∧ i < va_up F 35 (F 35 + 1) 35 then some (0, (spM M (F 35) n g 202 i).toNat, 6) else none) = _
          rw [f35, if_pos ⟨q.1, by omega⟩, e2]
        rw [xK_d rfl rfl hp, xK_d rfl rfl (xpr_54 q)]
        have er : xrow 6 (spM M (F 35) n g 54) i = xrow 6 (M 54) i := by
          funext x
          unfold xrow
          by_cases z : 0 ≤ x ∧ x < ((6 : Nat) : Int)
          · rw [if_pos z, if_pos z, spM_54]
            exact if_neg (by omega)
          · rw [if_neg z, if_neg z]
        rw [er]
      · rw [xK54_none q, xK54_none (by rw [f35]; omega)]
  · rw [va_up_ne _ _ e54]
    by_cases e49 : f = 49
    · subst e49
      rw [va_up_self]
      by_cases ei : i = 0
      · subst ei
        rw [fup_s, xK_49, xF_set rfl]
        have ex : xF B (va_up F 35 (F 35 + 1)) = xF (spB B (F 35) a) (va_up F 35 (F 35 + 1)) := by
          unfold xF
          apply List.map_congr_left
          intro k hk2
          have hk3 := List.mem_range.mp hk2
          rw [show spB B (F 35) a k = B k from va_up_ne _ _ (by omega)]
        rw [ex]
      · rw [fup_n _ _ ei]
        show Option.map _ (if i = 0 then _ else none) = Option.map _ (if i = 0 then _ else none)
        rw [if_neg ei, if_neg ei]
    · rw [va_up_ne _ _ e49]
      by_cases e202 : f = 202
      · subst e202; rfl
      · have ep : xpr (va_up F 35 (F 35 + 1)) (spM M (F 35) n g) f i = xpr F M f i := by
          unfold xpr
          rw [if_neg e54, if_neg e54]
          rfl
        have eo : xob (spB B (F 35) a) (va_up F 35 (F 35 + 1)) (spM M (F 35) n g) f i = xob B F M f i := by
          unfold xob
          rw [if_neg e49, if_neg e49]
          rfl
        unfold xK
        rw [ep, eo, spM_o e54 e202]
theorem xK_G {tc : Nat → ClassId} {B : Nat → Int → Nat} {F : Nat → Int} {M : Nat → Int → Int} {G : Nat → Int → Option Nat} {f t n : Nat} {g : Int → Option Nat} (h0 : xsp f = none) (h : xrf f = some (t, n)) : va_up (xK tc B F M G) f (fup (xK tc B F M G f) 0 (some (.inl (tc t, n, .inr (.inr (.inr (.inr (fun j : Nat => g j)))))))) = xK tc B F M (va_up G f g) := by
  funext f' i'
  by_cases e : f' = f
  · subst e
    rw [va_up_self]
    by_cases e2 : i' = 0
    · subst e2
      rw [fup_s, xK_r h0 h, va_up_self]
    · rw [fup_n _ _ e2]
      unfold xK
      rw [h0, h]
      show (if i' = 0 then _ else none) = (if i' = 0 then _ else none)
      rw [if_neg e2, if_neg e2]
  · rw [va_up_ne _ _ e]
    unfold xK
    rw [va_up_ne G _ e]
section ROWS8
variable {p : Program} {l : Launch} {e : Env} {R : Room} {s : State} {m : MethodId} {args : Array Value} {below : List Frame} {meth : Method} {c : Code} {H : Heap} {locs : List Loc} {cells slots : Nat} {Q : State → Prop}
variable {A : Nat → Prop} {own : String} {cc : ByteArray} {nL : Nat} {rt : Option FieldType} {E : us_E} {pc : Nat} {ls : Array Slot} {rest : List Value} {B : Nat → Int → Nat} {F : Nat → Int} {M : Nat → Int → Int} {G : Nat → Int → Option Nat} {T : x_T}
theorem x_aspelt (C : Cx p s m args meth c A own cc nL rt E) (hX : XH E A B F M G T H) (hS : va_S A s.heap H locs) (j : Nat) (hj : j < 28) {a n : Nat} {g : Int → Int} (hT : T j = some (tA E a n g)) {i : Int} (hi : F 35 ≤ i ∧ i < 192) (hdg : decode cc pc = .ok (.aastore, 1)) {G' : Nat → Int → Option Nat} (hG' : va_up G 34 (fup (G 34) i (some a)) = G') (kk : ∀ (H : Heap) (locs : List Loc), XH E A B F M G' T H → va_S A s.heap H locs → W p l e R s m args below meth c H locs cells slots Q (F0 m (pc + 1) ls rest)) : W p l e R s m args below meth c H locs cells slots Q (F0 m pc ls (.ref a :: .int (zi i) :: .ref (B 34 0) :: rest)) := by
  have h35 : 0 ≤ F 35 ∧ F 35 ≤ 192 := hX.2.1 35 (0, 192) rfl
  have hc0 : x_ce (xK E.2 B F M G) T (x_r 34 0) = some (.inl (E.2 4, 192, .inr (.inr (.inr (.inr (fun j : Nat => G 34 j)))))) := by rw [x_cef (by omega) (Int.le_refl 0)]; exact xK_r rfl rfl
  have c0 : H[B 34 0]? = some (vp_cell (E.2 4) (192, .inr (.inr (.inr (.inr (fun j : Nat => G 34 j)))))) := by
    have z := hX.1.1 _ _ hc0
    rw [x_adf (by omega) (Int.le_refl 0)] at z
    exact z
  have c1 : H[a]? = some (vp_cell (E.2 0) (n, .inl (fun j : Nat => zi (g j)))) := by
    have z := hX.1.1 _ _ (x_cet hj hT)
    rw [x_adt hj hT] at z
    exact z
  have hAa : A (B 34 0) := by
    have z := hX.1.2.2 _ (rw_some hc0)
    rw [x_adf (by omega) (Int.le_refl 0)] at z
    exact z
  obtain ⟨kA, k1, k2⟩ := C.k.2.2.2.2.2.2.2.2.2.2.2.1
  obtain ⟨-, kI, hkI, cmI, hkkI⟩ := (C.k.1.2 0 _ rfl).1 0 (fun _ => .null)
  have hin : vp_in (zi i) 192 := zi_in (by omega) (by omega)
  have hneg : ¬ zi i < 0 := fun q => hin (Or.inl q)
  have hlt : (zi i).toNatClampNeg < 192 := Nat.not_le.mp fun q => hin (Or.inr q)
  have hcl : (zi i).toNatClampNeg = i.toNat := zi_cl (by omega)
  have hsz : (zi i).toNatClampNeg < (vp_cell (E.2 4) (192, .inr (.inr (.inr (.inr (fun j : Nat => G 34 j)))))).slots.size := by rw [vp_cell_q, arrV_size]; exact hlt
  refine W.aast C.x C.b (a := B 34 0) (v := a) c0 (fun q h => by cases h) (fun h => by cases h) k1 k2 rfl hkI ⟨hneg, hsz⟩ c1 (fun q h => by cases h) hkI (va_asg _ _) rfl rfl hdg fun H1 e z oq => ?_
  have he : va_at E.1 us_cl (B 34 0, .inl (E.2 4, 192, .inr (.inr (.inr (.inr (fun x : Nat => fup (G 34) i (some a) x)))))) H1 := by
    show H1[B 34 0]? = some (vp_cell (E.2 4) (192, .inr (.inr (.inr (.inr (fun x : Nat => fup (G 34) i (some a) x))))))
    rw [e]
    rw [vp_cell_q, vp_cell_q, arrV_store]
    congr 2
    funext q
    rw [hcl]
    by_cases hq : q = i.toNat
    · subst hq
      have h5 : ((i.toNat : Nat) : Int) = i := Int.toNat_of_nonneg (by omega)
      simp [updV, h5, fup_s, va_rf]
    · have h5 : ¬ ((q : Nat) : Int) = i := by omega
      simp only [updV, if_neg hq, fup_n _ _ h5]
  have h1 := rw_set (k := x_r 34 0) hX.1 hc0 (by rw [x_adf (by omega) (Int.le_refl 0)]; exact he) (by rw [x_adf (by omega) (Int.le_refl 0)]; exact oq)
  rw [x_ceu (by omega) (Int.le_refl 0), xK_G (f := 34) rfl rfl] at h1
  subst hG'
  refine kk H1 _ ⟨h1, hX.2.1, hX.2.2.1, fun f g0 hg x h0 hx => ?_⟩ (hS.put z oq hAa)
  by_cases e1 : f = 34
  · subst e1
    have hx2 : x < F 35 := hx
    rw [va_up_self, fup_n _ _ (by omega)]
    exact hX.2.2.2 34 g0 hg x h0 hx
  · rw [va_up_ne _ _ e1]; exact hX.2.2.2 f g0 hg x h0 hx
theorem x_pspelt (C : Cx p s m args meth c A own cc nL rt E) (hX : XH E A B F M G T H) (hS : va_S A s.heap H locs) (j : Nat) (hj : j < 28) {a : Nat} {n : Int} {g : Int → Int} (hT : T j = some (tA E a n.toNat g)) (hG : G 34 (F 35) = some a) (hk : F 35 ≤ 191) (hn : 0 ≤ n ∧ n ≤ 6) (hg0 : ∀ x : Int, 6 ≤ x → g x = 0) (hgb : ∀ x : Int, 0 ≤ x → x < 6 → 0 ≤ g x ∧ g x ≤ 5) {ref : String} {index : Nat} (hlink : Cond.fieldLink own index ref (TX0 35).2.1 (TX0 35).2.2.1 ∈ lw_all) (hsame : ∀ x, s.fieldFound? (TX0 35).1 (TX0 35).2.1 (TX0 35).2.2.1 = some x → s.fieldFound? ref (TX0 35).2.1 (TX0 35).2.2.1 = some x) (hdg : decode cc pc = .ok (.putfield index, 3)) (kk : ∀ (H : Heap) (locs : List Loc), XH E A (spB B (F 35) a) (va_up F 35 (F 35 + 1)) (spM M (F 35) n g) G (va_up T j none) H → va_S A s.heap H locs → W p l e R s m args below meth c H locs cells slots Q (F0 m (pc + 3) ls rest)) : W p l e R s m args below meth c H locs cells slots Q (F0 m pc ls (.int (zi (F 35 + 1)) :: .ref (B 49 0) :: rest)) := by
  have h35 : 0 ≤ F 35 ∧ F 35 ≤ 192 := hX.2.1 35 (0, 192) rfl
  have key := g_put C hX.1 hS (x_r 49 0) (Cn := RX0) (T := TX0) (N := 49) (ci := 0) (fs := xF B F) (by rw [x_cef (by omega) (Int.le_refl 0)]; exact xK_49) rfl in_X0 tyX0 tyX0_ok nmX0 35 (by decide) hlink hsame rfl (v := .int (zi (F 35 + 1))) rfl rfl (by show 35 < (List.map _ (List.range 49)).length; rw [List.length_map, List.length_range]; decide) hdg (fun H1 locs1 h1 h2 => kk H1 locs1 (by
    rw [x_ceu (by omega) (Int.le_refl 0)] at h1
    have h3 := x_join h1 (f := 54) (i := F 35) (by decide) h35.1 hj hT
    rw [xK_sp (a := a) h35.1 hg0] at h3
    refine ⟨h3, mb_up hX.2.1 (fun q hq => by cases hq; exact ⟨by show 0 ≤ F 35 + 1; omega, by show F 35 + 1 ≤ 192; omega⟩), fun f q hq x => ?_, fun f g0 hg x h0 hx => ?_⟩
    · by_cases e1 : f = 54
      · subst e1
        cases hq
        rw [spM_54]
        show 0 ≤ (if 6 * F 35 ≤ x ∧ x < 6 * F 35 + 6 then g (x - 6 * F 35) else M 54 x) ∧ (if 6 * F 35 ≤ x ∧ x < 6 * F 35 + 6 then g (x - 6 * F 35) else M 54 x) ≤ 5
        by_cases z : 6 * F 35 ≤ x ∧ x < 6 * F 35 + 6
        · rw [if_pos z]; exact hgb _ (by omega) (by omega)
        · rw [if_neg z]; exact hX.2.2.1 54 (0, 5) rfl x
      · by_cases e2 : f = 202
        · subst e2
          cases hq
          rw [spM_202]
          by_cases z : x = F 35
          · rw [z, fup_s]; exact hn
          · rw [fup_n _ _ z]; exact hX.2.2.1 202 (0, 6) rfl x
        · rw [spM_o e1 e2]; exact hX.2.2.1 f q hq x
    · by_cases e1 : f = 34
      · subst e1
        cases hg
        have hx2 : x < F 35 + 1 := hx
        show G 34 x = some (fup (B 54) (F 35) a x)
        by_cases z : x = F 35
        · rw [z, fup_s]; exact hG
        · rw [fup_n _ _ z]; exact hX.2.2.2 34 54 rfl x h0 (by show x < F 35; omega)
      · have en : xgn (va_up F 35 (F 35 + 1)) f = xgn F f := by
          unfold xgn
          split <;> first | rfl | exact absurd rfl e1
        have eg : ¬ g0 = 54 := fun z => by
          subst z
          unfold xgf at hg
          split at hg <;> first | (cases hg; done) | exact absurd rfl e1
        rw [show spB B (F 35) a g0 = B g0 from va_up_ne _ _ eg]
        exact hX.2.2.2 f g0 hg x h0 (by rw [← en]; exact hx)) h2)
  rw [x_adf (by omega) (Int.le_refl 0)] at key
  exact key
end ROWS8
