set_option maxRecDepth 100000
/-! ROWS: a field that says how many cells there are is made less -/
theorem xpr_dec {F F' : Nat → Int} {M : Nat → Int → Int} (h6 : F' 6 ≤ F 6) (h24 : F' 24 ≤ F 24) (h35 : F' 35 ≤ F 35) (f : Nat) (i : Int) : xpr F' M f i = none ∨ xpr F' M f i = xpr F M f i := by
  by_cases e54 : f = 54
  · subst e54
    by_cases q : 0 ≤ i ∧ i < F' 35
    · right
      show (if 0 ≤ i ∧ i < F' 35 then _ else none) = (if 0 ≤ i ∧ i < F 35 then _ else none)
      rw [if_pos q, if_pos (by omega)]
    · left; exact if_neg q
  · by_cases e56 : f = 56
    · subst e56
      by_cases q : 0 ≤ i ∧ i < F' 6
      · right
        show (if 0 ≤ i ∧ i < F' 6 then _ else none) = (if 0 ≤ i ∧ i < F 6 then _ else none)
        rw [if_pos q, if_pos (by omega)]
      · left; exact if_neg q
    · by_cases e58 : f = 58
      · subst e58
        by_cases q : 0 ≤ i ∧ i < F' 24
        · right
          show (if 0 ≤ i ∧ i < F' 24 then _ else none) = (if 0 ≤ i ∧ i < F 24 then _ else none)
          rw [if_pos q, if_pos (by omega)]
        · left; exact if_neg q
      · right
        unfold xpr
        rw [if_neg e54, if_neg e56, if_neg e58, if_neg e54, if_neg e56, if_neg e58]
theorem xob_dec {B : Nat → Int → Nat} {F F' : Nat → Int} {M : Nat → Int → Int} (h6 : F' 6 ≤ F 6) (h24 : F' 24 ≤ F 24) (h43 : F' 43 ≤ F 43) (f : Nat) (i : Int) (hf : ¬ f = 49) : xob B F' M f i = none ∨ xob B F' M f i = xob B F M f i := by
  by_cases e55 : f = 55
  · subst e55
    by_cases q : 0 ≤ i ∧ i < F' 6
    · right
      show (if 0 ≤ i ∧ i < F' 6 then _ else none) = (if 0 ≤ i ∧ i < F 6 then _ else none)
      rw [if_pos q, if_pos (by omega)]
    · left; exact if_neg q
  · by_cases e57 : f = 57
    · subst e57
      by_cases q : 0 ≤ i ∧ i < F' 24
      · right
        show (if 0 ≤ i ∧ i < F' 24 then _ else none) = (if 0 ≤ i ∧ i < F 24 then _ else none)
        rw [if_pos q, if_pos (by omega)]
      · left; exact if_neg q
    · by_cases e59 : f = 59
      · subst e59
        by_cases q : 0 ≤ i ∧ i < F' 43
        · right
          show (if 0 ≤ i ∧ i < F' 43 then _ else none) = (if 0 ≤ i ∧ i < F 43 then _ else none)
          rw [if_pos q, if_pos (by omega)]
        · left; exact if_neg q
      · right
        unfold xob
        rw [if_neg hf, if_neg e55, if_neg e57, if_neg e59, if_neg hf, if_neg e55, if_neg e57, if_neg e59]
theorem xK_dec {tc : Nat → ClassId} {B : Nat → Int → Nat} {F F' : Nat → Int} {M : Nat → Int → Int} {G : Nat → Int → Option Nat} (h6 : F' 6 ≤ F 6) (h24 : F' 24 ≤ F 24) (h35 : F' 35 ≤ F 35) (h43 : F' 43 ≤ F 43) (f : Nat) (i : Int) (hf : ¬ f = 49) : xK tc B F' M G f i = none ∨ xK tc B F' M G f i = xK tc B F M G f i := by
  unfold xK
  cases hs : xsp f with
  | some q => right; rfl
  | none =>
    cases hr : xrf f with
    | some q => right; rfl
    | none =>
      have hp := xpr_dec (M := M) h6 h24 h35 f i
      have ho := xob_dec (B := B) (M := M) h6 h24 h43 f i hf
      by_cases d : f = 54 ∨ f = 56 ∨ f = 58 ∨ f = 61
      · have no : ∀ F : Nat → Int, xob B F M f i = none := fun F => by rcases d with rfl | rfl | rfl | rfl <;> rfl
        rcases hp with p | p
        · left
          simp only [p, no]
          rfl
        · right
          simp only [p, no]
      · have no : ∀ F : Nat → Int, xpr F M f i = none := fun F => by
          unfold xpr
          rw [if_neg (fun e => d (Or.inl e)), if_neg (fun e => d (Or.inr (Or.inl e))), if_neg (fun e => d (Or.inr (Or.inr (Or.inl e)))), if_neg (fun e => d (Or.inr (Or.inr (Or.inr e))))]
        rcases ho with p | p
        · left
          simp only [no, p]
          rfl
        · right
          simp only [no, p]
theorem xgn_dec {F F' : Nat → Int} (h6 : F' 6 ≤ F 6) (h24 : F' 24 ≤ F 24) (h35 : F' 35 ≤ F 35) (h43 : F' 43 ≤ F 43) (f : Nat) : xgn F' f ≤ xgn F f := by
  unfold xgn
  split <;> first | assumption | exact Int.le_refl _
section ROWS6
variable {p : Program} {l : Launch} {e : Env} {R : Room} {s : State} {m : MethodId} {args : Array Value} {below : List Frame} {meth : Method} {c : Code} {H : Heap} {locs : List Loc} {cells slots : Nat} {Q : State → Prop}
variable {A : Nat → Prop} {own : String} {cc : ByteArray} {nL : Nat} {rt : Option FieldType} {E : us_E} {pc : Nat} {ls : Array Slot} {rest : List Value} {B : Nat → Int → Nat} {F : Nat → Int} {M : Nat → Int → Int} {G : Nat → Int → Option Nat} {T : x_T}
theorem x_pdec (C : Cx p s m args meth c A own cc nL rt E) (hX : XH E A B F M G T H) (hS : va_S A s.heap H locs) (k : Nat) (hk : k < 49) (hi : xin k = true) (hty : tyX0 k = .int) (hfin : (TX0 k).2.2.2 = false) {ref : String} {index : Nat} (hlink : Cond.fieldLink own index ref (TX0 k).2.1 (TX0 k).2.2.1 ∈ lw_all) (hsame : ∀ x, s.fieldFound? (TX0 k).1 (TX0 k).2.1 (TX0 k).2.2.1 = some x → s.fieldFound? ref (TX0 k).2.1 (TX0 k).2.2.1 = some x) {v : Int} {b : Int × Int} (hb : xfb k = some b) (hv : b.1 ≤ v ∧ v ≤ b.2) (hle : v ≤ F k) {F' : Nat → Int} (hF : va_up F k v = F') (hdg : decode cc pc = .ok (.putfield index, 3)) (kk : ∀ (H : Heap) (locs : List Loc), XH E A B F' M G T H → va_S A s.heap H locs → W p l e R s m args below meth c H locs cells slots Q (F0 m (pc + 3) ls rest)) : W p l e R s m args below meth c H locs cells slots Q (F0 m pc ls (.int (zi v) :: .ref (B 49 0) :: rest)) := by
  have key := g_put C hX.1 hS (x_r 49 0) (Cn := RX0) (T := TX0) (N := 49) (ci := 0) (fs := xF B F) (by rw [x_cef (by omega) (Int.le_refl 0)]; exact xK_49) rfl in_X0 tyX0 tyX0_ok nmX0 k hk hlink hsame hfin (v := .int (zi v)) (by rw [hty]; rfl) (by rw [hty]; rfl) (by show k < (List.map _ (List.range 49)).length; rw [List.length_map, List.length_range]; exact hk) hdg (fun H1 locs1 h1 h2 => kk H1 locs1 (by
    subst hF
    have le : ∀ j, va_up F k v j ≤ F j := fun j => by
      by_cases q : j = k
      · rw [q, va_up_self]; exact hle
      · rw [va_up_ne _ _ q]; exact Int.le_refl _
    rw [x_ceu (by omega) (Int.le_refl 0)] at h1
    refine ⟨rw_sub h1 (fun r => ?_), mb_up hX.2.1 (fun q hq => by rw [hb] at hq; cases hq; exact hv), hX.2.2.1, fun f g hg j h0 hj => hX.2.2.2 f g hg j h0 (by have := xgn_dec (le 6) (le 24) (le 35) (le 43) f; omega)⟩
    unfold x_ce
    by_cases q : r % 128 < 100
    · rw [if_pos q, if_pos q]
      by_cases e : r % 128 = 49
      · right
        rw [e, va_up_self]
        by_cases z : ((r / 128 : Nat) : Int) = 0
        · rw [z, fup_s, xK_49, xF_set hi]
        · rw [fup_n _ _ z]
          show Option.map _ (if ((r / 128 : Nat) : Int) = 0 then _ else none) = Option.map _ (if ((r / 128 : Nat) : Int) = 0 then _ else none)
          rw [if_neg z, if_neg z]
      · rw [va_up_ne _ _ e]
        exact xK_dec (le 6) (le 24) (le 35) (le 43) _ _ e
    · right; rw [if_neg q, if_neg q]) h2)
  rw [x_adf (by omega) (Int.le_refl 0)] at key
  exact key
end ROWS6
