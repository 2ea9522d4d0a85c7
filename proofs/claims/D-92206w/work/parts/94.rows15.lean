set_option maxRecDepth 100000
/-! ROWS: the whole is made, its arrays one by one -/
def ownX : Nat → Nat := fun f => if f = 50 then 4 else if f = 51 then 13 else if f = 52 then 14 else if f = 53 then 27 else if f = 60 then 48 else f
def xFp (j : Nat) (B : Nat → Int → Nat) (F : Nat → Int) : List Value := (List.range 49).map (fun k => if xin k = true then .int (zi (F k)) else if k < j then .ref (B k 0) else .null)
noncomputable def xP (j : Nat) (tc : Nat → ClassId) (B : Nat → Int → Nat) (F : Nat → Int) (M : Nat → Int → Int) (G : Nat → Int → Option Nat) : Nat → Int → Option va_E := fun f i => if f = 49 then (if i = 0 then some (.inr (0, xFp j B F)) else none) else if ownX f < j then xK tc B F M G f i else none
/-- nothing that is counted is there -/
def X0Z (F : Nat → Int) (M : Nat → Int → Int) : Prop := F 6 = 0 ∧ F 24 = 0 ∧ F 35 = 0 ∧ F 43 = 0 ∧ ∀ i, M 203 i = -4
theorem xFp_len {j : Nat} {B : Nat → Int → Nat} {F : Nat → Int} : (xFp j B F).length = 49 := by unfold xFp; rw [List.length_map, List.length_range]
theorem xFp_get {j i : Nat} {B : Nat → Int → Nat} {F : Nat → Int} (h : i < 49) : (xFp j B F)[i]? = some (if xin i = true then .int (zi (F i)) else if i < j then .ref (B i 0) else .null) := by
  unfold xFp
  rw [List.getElem?_map, List.getElem?_range h]
  rfl
theorem xFp_put {j k : Nat} {B : Nat → Int → Nat} {F : Nat → Int} {v : Int} (hk : xin k = true) : (xFp j B F).set k (.int (zi v)) = xFp j B (va_up F k v) := by
  apply List.ext_getElem?
  intro i
  rw [List.getElem?_set, xFp_len]
  by_cases h2 : i < 49
  · rw [xFp_get h2, xFp_get h2]
    by_cases h : k = i
    · subst h
      rw [if_pos rfl, if_pos h2, if_pos hk, va_up_self]
    · rw [if_neg h, va_up_ne F v (Ne.symm h)]
  · rw [List.getElem?_eq_none (by rw [xFp_len]; omega), List.getElem?_eq_none (by rw [xFp_len]; omega)]
    split
    · rw [if_neg (by omega)]
    · rfl
theorem xFp_arr {j k a : Nat} {B B' : Nat → Int → Nat} {F : Nat → Int} (hjk : j ≤ k) (hk : xin k = false) (hg : ∀ i, j ≤ i → i < k → xin i = true) (hB : ∀ i, ¬ i = k → i < 49 → B' i = B i) (ha : B' k 0 = a) : (xFp j B F).set k (.ref a) = xFp (k + 1) B' F := by
  apply List.ext_getElem?
  intro i
  rw [List.getElem?_set, xFp_len]
  by_cases h2 : i < 49
  · rw [xFp_get h2, xFp_get h2]
    by_cases h : k = i
    · subst h
      rw [if_pos rfl, if_pos h2, if_neg (by rw [hk]; decide), if_pos (by omega), ha]
    · rw [if_neg h, hB i (Ne.symm h) h2]
      by_cases q : xin i = true
      · rw [if_pos q, if_pos q]
      · rw [if_neg q, if_neg q]
        by_cases z : i < j
        · rw [if_pos z, if_pos (by omega)]
        · rw [if_neg z]
          by_cases y : i < k
          · exact absurd (hg i (by omega) y) q
          · rw [if_neg (by omega)]
  · rw [List.getElem?_eq_none (by rw [xFp_len]; omega), List.getElem?_eq_none (by rw [xFp_len]; omega)]
    split
    · rw [if_neg (by omega)]
    · rfl
theorem xK_int {tc : Nat → ClassId} {B : Nat → Int → Nat} {F : Nat → Int} {M : Nat → Int → Int} {G : Nat → Int → Option Nat} {f : Nat} {i : Int} (h : xin f = true) : xK tc B F M G f i = none := by
  unfold xin at h
  split at h <;> first | rfl | cases h
theorem ownX_in {f : Nat} (h : xin (ownX f) = true) : xin f = true := by
  unfold ownX at h
  split at h
  · cases h
  split at h
  · cases h
  split at h
  · cases h
  split at h
  · cases h
  split at h
  · cases h
  exact h
theorem xK_B {tc : Nat → ClassId} {B : Nat → Int → Nat} {F : Nat → Int} {M : Nat → Int → Int} {G : Nat → Int → Option Nat} {B' : Nat → Int → Nat} {f : Nat} {i : Int} (hz : X0Z F M) (hf : ¬ f = 49) : xK tc B F M G f i = xK tc B' F M G f i := by
  by_cases e54 : f = 54
  · subst e54; exact xKe_54.trans (xKe_54 (B := B')).symm
  by_cases e55 : f = 55
  · subst e55; rw [xKe_55, xKe_55, hz.1, if_neg (by omega), if_neg (by omega)]
  by_cases e56 : f = 56
  · subst e56; exact xKe_56.trans (xKe_56 (B := B')).symm
  by_cases e57 : f = 57
  · subst e57; rw [xKe_57, xKe_57, hz.2.1, if_neg (by omega), if_neg (by omega)]
  by_cases e58 : f = 58
  · subst e58; exact xKe_58.trans (xKe_58 (B := B')).symm
  by_cases e59 : f = 59
  · subst e59; exact xKe_59.trans (xKe_59 (B := B')).symm
  by_cases e60 : f = 60
  · subst e60; rw [xKe_60, xKe_60, hz.2.2.2.2 i, if_pos rfl, if_pos rfl]
  by_cases e61 : f = 61
  · subst e61; exact xKe_61.trans (xKe_61 (B := B')).symm
  exact xK_oth (by omega) (fun _ => rfl)
theorem xK_Gne {tc : Nat → ClassId} {B : Nat → Int → Nat} {F : Nat → Int} {M : Nat → Int → Int} {G : Nat → Int → Option Nat} {G' : Nat → Int → Option Nat} {f : Nat} {i : Int} (hf : G' f = G f) : xK tc B F M G' f i = xK tc B F M G f i := by
  unfold xK
  rw [hf]
theorem xP_49 {j : Nat} {tc : Nat → ClassId} {B : Nat → Int → Nat} {F : Nat → Int} {M : Nat → Int → Int} {G : Nat → Int → Option Nat} : xP j tc B F M G 49 0 = some (.inr (0, xFp j B F)) := rfl
theorem xP_put {j k : Nat} {tc : Nat → ClassId} {B : Nat → Int → Nat} {F : Nat → Int} {M : Nat → Int → Int} {G : Nat → Int → Option Nat} {v : Int} (hk : xin k = true) (hp : ¬ 6 = k ∧ ¬ 24 = k ∧ ¬ 35 = k ∧ ¬ 43 = k) : va_up (xP j tc B F M G) 49 (fup (xP j tc B F M G 49) 0 (some (.inr (0, (xFp j B F).set k (.int (zi v)))))) = xP j tc B (va_up F k v) M G := by
  funext f i
  by_cases e : f = 49
  · subst e
    rw [va_up_self]
    by_cases ei : i = 0
    · subst ei
      rw [fup_s, xFp_put hk]
      rfl
    · rw [fup_n _ _ ei]
      show (if i = 0 then _ else none) = (if i = 0 then _ else none)
      rw [if_neg ei, if_neg ei]
  · rw [va_up_ne _ _ e]
    unfold xP
    rw [if_neg e, if_neg e]
    have z := congrFun (congrFun (xK_put (tc := tc) (B := B) (F := F) (M := M) (G := G) (v := v) hk hp) f) i
    rw [va_up_ne _ _ e] at z
    rw [z]
theorem xP_arr {j k a : Nat} {tc : Nat → ClassId} {B : Nat → Int → Nat} {F : Nat → Int} {M : Nat → Int → Int} {G : Nat → Int → Option Nat} {B' : Nat → Int → Nat} {G' : Nat → Int → Option Nat} {K : Nat → Int → Option va_E} (hjk : j ≤ k) (hk49 : k < 49) (hk : xin k = false) (hg : ∀ i, j ≤ i → i < k → xin i = true) (hz : X0Z F M) (hB : ∀ i, ¬ i = k → i < 49 → B' i = B i) (ha : B' k 0 = a)
    (hnew : ∀ f, ownX f = k → K f = xK tc B' F M G' f) (hold : ∀ f, ¬ ownX f = k → K f = xP j tc B F M G f) (hG : ∀ f, ¬ f = k → G' f = G f) : va_up K 49 (fup (K 49) 0 (some (.inr (0, (xFp j B F).set k (.ref a))))) = xP (k + 1) tc B' F M G' := by
  have k49 : ¬ ownX 49 = k := by show ¬ 49 = k; omega
  funext f i
  by_cases e : f = 49
  · subst e
    rw [va_up_self, hold 49 k49]
    by_cases ei : i = 0
    · subst ei
      rw [fup_s, xFp_arr hjk hk hg hB ha]
      rfl
    · rw [fup_n _ _ ei]
      show (if i = 0 then _ else none) = (if i = 0 then _ else none)
      rw [if_neg ei, if_neg ei]
  · rw [va_up_ne _ _ e]
    by_cases eo : ownX f = k
    · rw [hnew f eo]
      unfold xP
      rw [if_neg e, if_pos (by omega)]
    · rw [hold f eo]
      unfold xP
      rw [if_neg e, if_neg e]
      have fk : ¬ f = k := fun q => by
        subst q
        unfold ownX at eo
        split at eo
        · omega
        split at eo
        · omega
        split at eo
        · omega
        split at eo
        · omega
        split at eo
        · omega
        exact eo rfl
      rw [xK_Gne (G' := G') (G := G) (hG f fk)]
      by_cases z : ownX f < j
      · rw [if_pos z, if_pos (by omega)]
        exact xK_B hz e
      · rw [if_neg z]
        by_cases y : ownX f < k + 1
        · rw [if_pos y, xK_int (ownX_in (hg _ (by omega) (by omega)))]
        · rw [if_neg y]
theorem ownX_le {f k : Nat} (h : ownX f = k) (h1 : ¬ k = 4) (h2 : ¬ k = 13) (h3 : ¬ k = 14) (h4 : ¬ k = 27) (h5 : ¬ k = 48) : f = k := by
  unfold ownX at h
  split at h
  · omega
  split at h
  · omega
  split at h
  · omega
  split at h
  · omega
  split at h
  · omega
  exact h
theorem xP_end {tc : Nat → ClassId} {B : Nat → Int → Nat} {F : Nat → Int} {M : Nat → Int → Int} {G : Nat → Int → Option Nat} (hf : ∀ f i, 49 ≤ ownX f → ¬ f = 49 → xK tc B F M G f i = none) : xP 49 tc B F M G = xK tc B F M G := by
  funext f i
  unfold xP
  by_cases e : f = 49
  · subst e
    rw [if_pos rfl, xKe_49]
    have e2 : xFp 49 B F = xF B F := by
      unfold xFp xF
      apply List.map_congr_left
      intro k hk
      have := List.mem_range.mp hk
      by_cases q : xin k = true
      · rw [if_pos q, if_pos q]
      · rw [if_neg q, if_neg q, if_pos this]
    rw [e2]
  · rw [if_neg e]
    by_cases z : ownX f < 49
    · rw [if_pos z]
    · rw [if_neg z, hf f i (by omega) e]
theorem xK_far {tc : Nat → ClassId} {B : Nat → Int → Nat} {F : Nat → Int} {M : Nat → Int → Int} {G : Nat → Int → Option Nat} {f : Nat} {i : Int} (hz : X0Z F M) (h : 49 ≤ ownX f) (hf : ¬ f = 49) : xK tc B F M G f i = none := by
  by_cases e54 : f = 54
  · subst e54; rw [xKe_54, hz.2.2.1, if_neg (by omega)]
  by_cases e55 : f = 55
  · subst e55; rw [xKe_55, hz.1, if_neg (by omega)]
  by_cases e56 : f = 56
  · subst e56; rw [xKe_56, hz.1, if_neg (by omega)]
  by_cases e57 : f = 57
  · subst e57; rw [xKe_57, hz.2.1, if_neg (by omega)]
  by_cases e58 : f = 58
  · subst e58; rw [xKe_58, hz.2.1, if_neg (by omega)]
  by_cases e59 : f = 59
  · subst e59; rw [xKe_59, hz.2.2.2.1, if_neg (by omega)]
  by_cases e61 : f = 61
  · subst e61; rw [xKe_61, if_neg (fun q => q.2 (hz.2.2.2.2 i))]
  have hne : ¬ f = 50 ∧ ¬ f = 51 ∧ ¬ f = 52 ∧ ¬ f = 53 ∧ ¬ f = 60 := by
    refine ⟨fun q => ?_, fun q => ?_, fun q => ?_, fun q => ?_, fun q => ?_⟩ <;> (subst q; revert h; decide)
  have h49 : 49 ≤ f := by
    unfold ownX at h
    rw [if_neg hne.1, if_neg hne.2.1, if_neg hne.2.2.1, if_neg hne.2.2.2.1, if_neg hne.2.2.2.2] at h
    exact h
  have hs : xsp f = none := by
    unfold xsp
    split <;> first | rfl | omega
  have hr : xrf f = none := by
    unfold xrf
    split <;> first | rfl | omega
  have hp : xpr F M f i = none := by
    unfold xpr
    rw [if_neg (by omega), if_neg (by omega), if_neg (by omega), if_neg (by omega)]
  have ho : xob B F M f i = none := by
    unfold xob
    rw [if_neg (by omega), if_neg (by omega), if_neg (by omega), if_neg (by omega), if_neg (by omega)]
  exact xK_n0 hs hr hp ho
theorem x_adu {B : Nat → Int → Nat} {T : x_T} {f : Nat} {i : Int} {a : Nat} (hf : f < 100) (hi : 0 ≤ i) : va_up (x_ad B T) (x_r f i) a = x_ad (va_up B f (fup (B f) i a)) T := by
  funext r
  by_cases h : r = x_r f i
  · subst h
    rw [va_up_self, x_adf hf hi, va_up_self, fup_s]
  · rw [va_up_ne _ _ h]
    unfold x_ad
    by_cases q : r % 128 < 100
    · rw [if_pos q, if_pos q]
      by_cases z : r % 128 = f
      · rw [z, va_up_self, fup_n _ _ (fun y => h (by unfold x_r; omega))]
      · rw [va_up_ne _ _ z]
    · rw [if_neg q, if_neg q]
abbrev XP (E : us_E) (A : Nat → Prop) (B : Nat → Int → Nat) (F : Nat → Int) (M : Nat → Int → Int) (G : Nat → Int → Option Nat) (T : x_T) (j : Nat) (H : Heap) : Prop := x_H E.1 A B (xP j E.2 B F M G) T H
section ROWS15
variable {p : Program} {l : Launch} {e : Env} {R : Room} {s : State} {m : MethodId} {args : Array Value} {below : List Frame} {meth : Method} {c : Code} {H : Heap} {locs : List Loc} {cells slots : Nat} {Q : State → Prop}
variable {A : Nat → Prop} {own : String} {cc : ByteArray} {nL : Nat} {rt : Option FieldType} {E : us_E} {pc : Nat} {ls : Array Slot} {rest : List Value} {B : Nat → Int → Nat} {F : Nat → Int} {M : Nat → Int → Int} {G : Nat → Int → Option Nat} {T : x_T}
theorem xi_put {j : Nat} (C : Cx p s m args meth c A RX0 cc nL rt E) (hX : XP E A B F M G T j H) (hS : va_S A s.heap H locs) {o : Nat} (ho : B 49 0 = o) (k : Nat) (hk : k < 49) (hi : xin k = true) (hp : ¬ 6 = k ∧ ¬ 24 = k ∧ ¬ 35 = k ∧ ¬ 43 = k) (hty : tyX0 k = .int) (hfin : (TX0 k).2.2.2 = false) {ref : String} {index : Nat} (hlink : Cond.fieldLink RX0 index ref (TX0 k).2.1 (TX0 k).2.2.1 ∈ lw_all) (hsame : ∀ x, s.fieldFound? (TX0 k).1 (TX0 k).2.1 (TX0 k).2.2.1 = some x → s.fieldFound? ref (TX0 k).2.1 (TX0 k).2.2.1 = some x) {v : Int} (hdg : decode cc pc = .ok (.putfield index, 3)) (kk : ∀ (H : Heap) (locs : List Loc), XP E A B (va_up F k v) M G T j H → va_S A s.heap H locs → W p l e R s m args below meth c H locs cells slots Q (F0 m (pc + 3) ls rest)) : W p l e R s m args below meth c H locs cells slots Q (F0 m pc ls (.int (zi v) :: .ref o :: rest)) := by
  have key : W p l e R s m args below meth c H locs cells slots Q (F0 m pc ls (.int (zi v) :: .ref (x_ad B T (x_r 49 0)) :: rest)) := g_put C hX hS (x_r 49 0) (Cn := RX0) (T := TX0) (N := 49) (ci := 0) (fs := xFp j B F) (by rw [x_cef (by omega) (Int.le_refl 0)]; exact xP_49) rfl in_X0 tyX0 tyX0_ok nmX0 k hk hlink hsame hfin (v := .int (zi v)) (by rw [hty]; rfl) (by rw [hty]; rfl) (by rw [xFp_len]; exact hk) hdg (fun H1 locs1 h1 h2 => kk H1 locs1 (by rw [x_ceu (by omega) (Int.le_refl 0), xP_put hi hp] at h1; exact h1) h2)
  rw [x_adf (by omega) (Int.le_refl 0), ho] at key
  exact key
/-- a field that gets its array, the cells being there -/
theorem xi_fld {j : Nat} (C : Cx p s m args meth c A RX0 cc nL rt E) {B' : Nat → Int → Nat} {G' : Nat → Int → Option Nat} {K : Nat → Int → Option va_E} (hX : x_H E.1 A B' K T H) (hS : va_S A s.heap H locs) {o a : Nat} (ho : B' 49 0 = o) (k : Nat) (hjk : j ≤ k) (hk49 : k < 49) (hk : xin k = false) (hg : ∀ i, j ≤ i → i < k → xin i = true) (hz : X0Z F M) (hB : ∀ i, ¬ i = k → i < 49 → B' i = B i) (ha : B' k 0 = a)
    (hnew : ∀ f, ownX f = k → K f = xK E.2 B' F M G' f) (hold : ∀ f, ¬ ownX f = k → K f = xP j E.2 B F M G f) (hG : ∀ f, ¬ f = k → G' f = G f) (hfin : (TX0 k).2.2.2 = true) (hnm : meth.name = "<init>") (hdecl : (TX0 k).1 = RX0) (hn1 : narrow (tyX0 k) (.ref a) = .ref a) (hn2 : fits (tyX0 k) (.ref a) = true) {ref : String} {index : Nat} (hlink : Cond.fieldLink RX0 index ref (TX0 k).2.1 (TX0 k).2.2.1 ∈ lw_all) (hsame : ∀ x, s.fieldFound? (TX0 k).1 (TX0 k).2.1 (TX0 k).2.2.1 = some x → s.fieldFound? ref (TX0 k).2.1 (TX0 k).2.2.1 = some x) (hdg : decode cc pc = .ok (.putfield index, 3)) (kk : ∀ (H : Heap) (locs : List Loc), XP E A B' F M G' T (k + 1) H → va_S A s.heap H locs → W p l e R s m args below meth c H locs cells slots Q (F0 m (pc + 3) ls rest)) : W p l e R s m args below meth c H locs cells slots Q (F0 m pc ls (.ref a :: .ref o :: rest)) := by
  have k49 : ¬ ownX 49 = k := by show ¬ 49 = k; omega
  have key : W p l e R s m args below meth c H locs cells slots Q (F0 m pc ls (.ref a :: .ref (x_ad B' T (x_r 49 0)) :: rest)) := g_putF C hX hS (x_r 49 0) (Cn := RX0) (T := TX0) (N := 49) (ci := 0) (fs := xFp j B F) (by rw [x_cef (by omega) (Int.le_refl 0), hold 49 k49]; exact xP_49) rfl in_X0 tyX0 tyX0_ok nmX0 k hk49 hlink hsame hfin hnm hdecl (v := .ref a) hn1 hn2 (by rw [xFp_len]; exact hk49) hdg (fun H1 locs1 h1 h2 => kk H1 locs1 (by rw [x_ceu (by omega) (Int.le_refl 0), xP_arr hjk hk49 hk hg hz hB ha hnew hold hG] at h1; exact h1) h2)
  rw [x_adf (by omega) (Int.le_refl 0), ho] at key
  exact key
theorem xi_i {j : Nat} (C : Cx p s m args meth c A RX0 cc nL rt E) (hX : XP E A B F M G T j H) (hS : va_S A s.heap H locs) {o : Nat} (ho : B 49 0 = o) (k : Nat) {n : Nat} (hjk : j ≤ k) (hk49 : k < 49) (hk : xin k = false) (hA : xsp k = some (0, n, 1)) (hM : ∀ i, M k i = 0) (hg : ∀ i, j ≤ i → i < k → xin i = true) (hz : X0Z F M) (hk5 : ¬ k = 4 ∧ ¬ k = 13 ∧ ¬ k = 14 ∧ ¬ k = 27 ∧ ¬ k = 48) (hn : n ≤ 30000) (hty : tyX0 k = .array .int) (hfin : (TX0 k).2.2.2 = true) (hnm : meth.name = "<init>") (hdecl : (TX0 k).1 = RX0) (harr : Cond.arrayClass FieldType.int ∈ lw_all) {cells' slots' : Nat} (hc' : cells + 1 = cells') (hs' : slots + n = slots') (hcells : cells' ≤ R.cells) (hslots : slots' ≤ R.slots) (d0 : decode cc pc = .ok (.newarray .int, 2)) {ref : String} {index : Nat} (hlink : Cond.fieldLink RX0 index ref (TX0 k).2.1 (TX0 k).2.2.1 ∈ lw_all) (hsame : ∀ x, s.fieldFound? (TX0 k).1 (TX0 k).2.1 (TX0 k).2.2.1 = some x → s.fieldFound? ref (TX0 k).2.1 (TX0 k).2.2.1 = some x) (hdg : decode cc (pc + 2) = .ok (.putfield index, 3)) (kk : ∀ (B' : Nat → Int → Nat) (H : Heap) (locs : List Loc), B' 49 0 = o → (∀ f, ¬ f = k → B' f = B f) → XP E A B' F M G T (k + 1) H → va_S A s.heap H locs → W p l e R s m args below meth c H locs cells' slots' Q (F0 m (pc + 5) ls rest)) : W p l e R s m args below meth c H locs cells slots Q (F0 m pc ls (.int (zi (n : Int)) :: .ref o :: rest)) := by
  subst hc'
  subst hs'
  have hneg : ¬ zi (n : Int) < 0 := fun q => by
    have := (zi_lt (a := (n : Int)) (b := 0) (by omega) (by omega)).1 q
    omega
  refine va_newaK C.x C.b (atype := .int) (C.t _ harr) rfl d0 rfl (n := zi (n : Int)) hneg ((zi_cl (by omega)).trans (Int.toNat_natCast n)) (by show n * 4 ≤ 536870912; omega) hcells hslots rfl fun H1 cA e1 z1 o1 hAr hNm => ?_
  have hcA : cA = E.2 0 := Option.some.inj (hNm.symm.trans (C.k.1.2 0 _ rfl).2)
  have he : va_at E.1 us_cl (H.size, .inl (E.2 0, n, .inl (fun _ => zi 0))) H1 := by
    show H1[H.size]? = some (vp_cell (E.2 0) (n, .inl (fun _ => zi 0)))
    rw [e1, hcA]
    rfl
  have h := rw_push (x_r k 0) hX (C.a _ hS.1) he o1
  rw [x_adu (by omega) (Int.le_refl 0), x_ceu (by omega) (Int.le_refl 0)] at h
  refine xi_fld C (j := j) (B := B) (F := F) (M := M) (G := G) (G' := G) h ⟨Nat.le_trans hS.1 (by omega), fun x h1 h2 => (o1 x (Nat.lt_of_lt_of_le h1 hS.1)).trans (hS.2.1 x h1 h2), hS.2.2⟩ (by rw [va_up_ne _ _ (by omega)]; exact ho) k hjk hk49 hk hg hz (fun i a b => va_up_ne _ _ a) (by rw [va_up_self, fup_s]) (fun f hf => ?_) (fun f hf => ?_) (fun f hf => rfl) hfin hnm hdecl (by rw [hty]; rfl) (by rw [hty]; rfl) hlink hsame hdg (fun H1 locs1 h1 h2 => kk _ H1 locs1 (by rw [va_up_ne _ _ (by omega)]; exact ho) (fun f hf => va_up_ne _ _ hf) h1 h2)
  · have fk := ownX_le hf hk5.1 hk5.2.1 hk5.2.2.1 hk5.2.2.2.1 hk5.2.2.2.2
    subst fk
    funext i
    rw [va_up_self]
    by_cases ei : i = 0
    · subst ei
      rw [fup_s, xK_i hA (by omega)]
      have ez : (fun x : Nat => zi (xrow n (M f) 0 x)) = (fun _ => zi 0) := funext fun x => by
        unfold xrow
        split
        · rw [hM]
        · rfl
      rw [ez]
    · rw [fup_n _ _ ei]
      unfold xP xK
      rw [if_neg (by omega), if_neg (by omega), hA]
      show _ = if 0 ≤ i ∧ i < ((1 : Nat) : Int) then _ else none
      rw [if_neg (by omega)]
  · rw [va_up_ne _ _ (fun q => hf (by subst q; unfold ownX; rw [if_neg (by omega), if_neg (by omega), if_neg (by omega), if_neg (by omega), if_neg (by omega)]))]
theorem xi_b {j : Nat} (C : Cx p s m args meth c A RX0 cc nL rt E) (hX : XP E A B F M G T j H) (hS : va_S A s.heap H locs) {o : Nat} (ho : B 49 0 = o) (k : Nat) {n : Nat} (hjk : j ≤ k) (hk49 : k < 49) (hk : xin k = false) (hA : xsp k = some (1, n, 1)) (hM : ∀ i, M k i = 0) (hg : ∀ i, j ≤ i → i < k → xin i = true) (hz : X0Z F M) (hk5 : ¬ k = 4 ∧ ¬ k = 13 ∧ ¬ k = 14 ∧ ¬ k = 27 ∧ ¬ k = 48) (hn : n ≤ 30000) (hty : tyX0 k = .array .byte) (hfin : (TX0 k).2.2.2 = true) (hnm : meth.name = "<init>") (hdecl : (TX0 k).1 = RX0) (harr : Cond.arrayClass FieldType.byte ∈ lw_all) {cells' slots' : Nat} (hc' : cells + 1 = cells') (hs' : slots + n = slots') (hcells : cells' ≤ R.cells) (hslots : slots' ≤ R.slots) (d0 : decode cc pc = .ok (.newarray .byte, 2)) {ref : String} {index : Nat} (hlink : Cond.fieldLink RX0 index ref (TX0 k).2.1 (TX0 k).2.2.1 ∈ lw_all) (hsame : ∀ x, s.fieldFound? (TX0 k).1 (TX0 k).2.1 (TX0 k).2.2.1 = some x → s.fieldFound? ref (TX0 k).2.1 (TX0 k).2.2.1 = some x) (hdg : decode cc (pc + 2) = .ok (.putfield index, 3)) (kk : ∀ (B' : Nat → Int → Nat) (H : Heap) (locs : List Loc), B' 49 0 = o → (∀ f, ¬ f = k → B' f = B f) → XP E A B' F M G T (k + 1) H → va_S A s.heap H locs → W p l e R s m args below meth c H locs cells' slots' Q (F0 m (pc + 5) ls rest)) : W p l e R s m args below meth c H locs cells slots Q (F0 m pc ls (.int (zi (n : Int)) :: .ref o :: rest)) := by
  subst hc'
  subst hs'
  have hneg : ¬ zi (n : Int) < 0 := fun q => by
    have := (zi_lt (a := (n : Int)) (b := 0) (by omega) (by omega)).1 q
    omega
  refine va_newaK C.x C.b (atype := .byte) (C.t _ harr) rfl d0 rfl (n := zi (n : Int)) hneg ((zi_cl (by omega)).trans (Int.toNat_natCast n)) (by show n * 1 ≤ 536870912; omega) hcells hslots rfl fun H1 cA e1 z1 o1 hAr hNm => ?_
  have hcA : cA = E.2 1 := Option.some.inj (hNm.symm.trans (C.k.1.2 1 _ rfl).2)
  have he : va_at E.1 us_cl (H.size, .inl (E.2 1, n, .inl (fun _ => zi 0))) H1 := by
    show H1[H.size]? = some (vp_cell (E.2 1) (n, .inl (fun _ => zi 0)))
    rw [e1, hcA]
    rfl
  have h := rw_push (x_r k 0) hX (C.a _ hS.1) he o1
  rw [x_adu (by omega) (Int.le_refl 0), x_ceu (by omega) (Int.le_refl 0)] at h
  refine xi_fld C (j := j) (B := B) (F := F) (M := M) (G := G) (G' := G) h ⟨Nat.le_trans hS.1 (by omega), fun x h1 h2 => (o1 x (Nat.lt_of_lt_of_le h1 hS.1)).trans (hS.2.1 x h1 h2), hS.2.2⟩ (by rw [va_up_ne _ _ (by omega)]; exact ho) k hjk hk49 hk hg hz (fun i a b => va_up_ne _ _ a) (by rw [va_up_self, fup_s]) (fun f hf => ?_) (fun f hf => ?_) (fun f hf => rfl) hfin hnm hdecl (by rw [hty]; rfl) (by rw [hty]; rfl) hlink hsame hdg (fun H1 locs1 h1 h2 => kk _ H1 locs1 (by rw [va_up_ne _ _ (by omega)]; exact ho) (fun f hf => va_up_ne _ _ hf) h1 h2)
  · have fk := ownX_le hf hk5.1 hk5.2.1 hk5.2.2.1 hk5.2.2.2.1 hk5.2.2.2.2
    subst fk
    funext i
    rw [va_up_self]
    by_cases ei : i = 0
    · subst ei
      rw [fup_s, xK_i hA (by omega)]
      have ez : (fun x : Nat => zi (xrow n (M f) 0 x)) = (fun _ => zi 0) := funext fun x => by
        unfold xrow
        split
        · rw [hM]
        · rfl
      rw [ez]
    · rw [fup_n _ _ ei]
      unfold xP xK
      rw [if_neg (by omega), if_neg (by omega), hA]
      show _ = if 0 ≤ i ∧ i < ((1 : Nat) : Int) then _ else none
      rw [if_neg (by omega)]
  · rw [va_up_ne _ _ (fun q => hf (by subst q; unfold ownX; rw [if_neg (by omega), if_neg (by omega), if_neg (by omega), if_neg (by omega), if_neg (by omega)]))]
end ROWS15
