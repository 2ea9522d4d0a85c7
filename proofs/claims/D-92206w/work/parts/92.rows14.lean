set_option maxRecDepth 100000
/-! ROWS: the model is made, its arrays one by one -/
def pF (j : Nat) (ad : Nat → Nat) (F : Nat → Int) : List Value := (List.range 63).map (fun k => if (mA k).isSome = true then (if k < j then .ref (ad k) else .null) else .int (zi (F k)))
def pC (j : Nat) (ad : Nat → Nat) (tc : Nat → ClassId) (F : Nat → Int) (M : Nat → Int → Int) : Nat → Option va_E := fun k => if k = 63 then some (.inr (7, pF j ad F)) else if k < j then (mA k).map (fun q => .inl (tc q.1, q.2, .inl (fun i : Nat => zi (M k i)))) else none
def MP (E : us_E) (A : Nat → Prop) (ad : Nat → Nat) (F : Nat → Int) (M : Nat → Int → Int) (j : Nat) (H : Heap) : Prop := rw_H E.1 A ad (pC j ad E.2 F M) H
theorem pF_len {j : Nat} {ad : Nat → Nat} {F : Nat → Int} : (pF j ad F).length = 63 := by unfold pF; rw [List.length_map, List.length_range]
theorem pF_get {j i : Nat} {ad : Nat → Nat} {F : Nat → Int} (h : i < 63) : (pF j ad F)[i]? = some (if (mA i).isSome = true then (if i < j then .ref (ad i) else .null) else .int (zi (F i))) := by
  unfold pF
  rw [List.getElem?_map, List.getElem?_range h]
  rfl
theorem pF_put {j k : Nat} {ad : Nat → Nat} {F : Nat → Int} {v : Int} (hk : (mA k).isSome = false) : (pF j ad F).set k (.int (zi v)) = pF j ad (va_up F k v) := by
  apply List.ext_getElem?
  intro i
  rw [List.getElem?_set, pF_len]
  by_cases h2 : i < 63
  · rw [pF_get h2, pF_get h2]
    by_cases h : k = i
    · subst h
      rw [if_pos rfl, if_pos h2, hk, va_up_self]
      rfl
    · rw [if_neg h, va_up_ne F v (Ne.symm h)]
  · rw [List.getElem?_eq_none (by rw [pF_len]; omega), List.getElem?_eq_none (by rw [pF_len]; omega)]
    split
    · rw [if_neg (by omega)]
    · rfl
theorem pF_arr {j k a : Nat} {ad : Nat → Nat} {F : Nat → Int} (hjk : j ≤ k) (hk : (mA k).isSome = true) (hg : ∀ i, j ≤ i → i < k → mA i = none) : (pF j ad F).set k (.ref a) = pF (k + 1) (va_up ad k a) F := by
  apply List.ext_getElem?
  intro i
  rw [List.getElem?_set, pF_len]
  by_cases h2 : i < 63
  · rw [pF_get h2, pF_get h2]
    by_cases h : k = i
    · subst h
      rw [if_pos rfl, if_pos h2, if_pos hk, if_pos (by omega), va_up_self]
    · rw [if_neg h, va_up_ne ad a (Ne.symm h)]
      by_cases q : (mA i).isSome = true
      · rw [if_pos q, if_pos q]
        by_cases z : i < j
        · rw [if_pos z, if_pos (by omega)]
        · rw [if_neg z]
          by_cases y : i < k
          · rw [hg i (by omega) y] at q; cases q
          · rw [if_neg (by omega)]
      · rw [if_neg q, if_neg q]
  · rw [List.getElem?_eq_none (by rw [pF_len]; omega), List.getElem?_eq_none (by rw [pF_len]; omega)]
    split
    · rw [if_neg (by omega)]
    · rfl
theorem pC_put {j k : Nat} {ad : Nat → Nat} {tc : Nat → ClassId} {F : Nat → Int} {M : Nat → Int → Int} {v : Int} (hk : (mA k).isSome = false) : va_up (pC j ad tc F M) 63 (some (.inr (7, (pF j ad F).set k (.int (zi v))))) = pC j ad tc (va_up F k v) M := by
  funext i
  by_cases h : i = 63
  · subst h
    rw [va_up_self, pF_put hk]
    rfl
  · rw [va_up_ne _ _ h]
    unfold pC
    rw [if_neg h, if_neg h]
theorem pC_arr {j k a t n : Nat} {ad : Nat → Nat} {tc : Nat → ClassId} {F : Nat → Int} {M : Nat → Int → Int} (hjk : j ≤ k) (hk63 : k < 63) (hk : mA k = some (t, n)) (hM : ∀ i, M k i = 0) (hg : ∀ i, j ≤ i → i < k → mA i = none) : va_up (va_up (pC j ad tc F M) k (some (.inl (tc t, n, .inl (fun _ => zi 0))))) 63 (some (.inr (7, (pF j ad F).set k (.ref a)))) = pC (k + 1) (va_up ad k a) tc F M := by
  funext i
  by_cases h : i = 63
  · subst h
    rw [va_up_self, pF_arr hjk (by rw [hk]; rfl) hg]
    rfl
  · rw [va_up_ne _ _ h]
    by_cases e : i = k
    · subst e
      rw [va_up_self]
      unfold pC
      rw [if_neg h, if_pos (by omega), hk]
      show _ = some (Sum.inl (tc t, n, Sum.inl (fun x : Nat => zi (M i x))))
      have ez : (fun x : Nat => zi (M i x)) = (fun _ => zi 0) := funext fun x => by rw [hM]
      rw [ez]
    · rw [va_up_ne _ _ e]
      unfold pC
      rw [if_neg h, if_neg h]
      by_cases z : i < j
      · rw [if_pos z, if_pos (by omega)]
      · rw [if_neg z]
        by_cases y : i < k + 1
        · rw [if_pos y, hg i (by omega) (by omega)]
          rfl
        · rw [if_neg y]
theorem pC_end {ad : Nat → Nat} {tc : Nat → ClassId} {F : Nat → Int} {M : Nat → Int → Int} : pC 63 ad tc F M = mC ad tc F M := by
  funext i
  unfold pC mC
  by_cases h : i = 63
  · rw [if_pos h, if_pos h]
    have e : pF 63 ad F = mF ad F := by
      unfold pF mF
      apply List.map_congr_left
      intro k hk
      have := List.mem_range.mp hk
      by_cases q : (mA k).isSome = true
      · rw [if_pos q, if_pos q, if_pos this]
      · rw [if_neg q, if_neg q]
    rw [e]
  · rw [if_neg h, if_neg h]
    by_cases z : i < 63
    · rw [if_pos z]
    · rw [if_neg z]
      have e : mA i = none := by
        unfold mA
        split <;> first | rfl | omega
      rw [e]
      rfl
section ROWS14
variable {p : Program} {l : Launch} {e : Env} {R : Room} {s : State} {m : MethodId} {args : Array Value} {below : List Frame} {meth : Method} {c : Code} {H : Heap} {locs : List Loc} {cells slots : Nat} {Q : State → Prop}
variable {A : Nat → Prop} {own : String} {cc : ByteArray} {nL : Nat} {rt : Option FieldType} {E : us_E} {pc : Nat} {ls : Array Slot} {rest : List Value} {ad : Nat → Nat} {F : Nat → Int} {M : Nat → Int → Int}
theorem mi_put {j : Nat} (C : Cx p s m args meth c A RX2 cc nL rt E) (hX : MP E A ad F M j H) (hS : va_S A s.heap H locs) {o : Nat} (ho : ad 63 = o) (k : Nat) (hk : k < 63) (hi : (mA k).isSome = false) (hty : tyX2 k = .int) (hfin : (TX2 k).2.2.2 = false) {ref : String} {index : Nat} (hlink : Cond.fieldLink RX2 index ref (TX2 k).2.1 (TX2 k).2.2.1 ∈ lw_all) (hsame : ∀ x, s.fieldFound? (TX2 k).1 (TX2 k).2.1 (TX2 k).2.2.1 = some x → s.fieldFound? ref (TX2 k).2.1 (TX2 k).2.2.1 = some x) {v : Int} (hdg : decode cc pc = .ok (.putfield index, 3)) (kk : ∀ (H : Heap) (locs : List Loc), MP E A ad (va_up F k v) M j H → va_S A s.heap H locs → W p l e R s m args below meth c H locs cells slots Q (F0 m (pc + 3) ls rest)) : W p l e R s m args below meth c H locs cells slots Q (F0 m pc ls (.int (zi v) :: .ref o :: rest)) := by
  subst ho
  exact g_put C hX hS 63 (Cn := RX2) (T := TX2) (N := 63) (ci := 7) (fs := pF j ad F) (if_pos rfl) rfl in_X2 tyX2 tyX2_ok nmX2 k hk hlink hsame hfin (v := .int (zi v)) (by rw [hty]; rfl) (by rw [hty]; rfl) (by rw [pF_len]; exact hk) hdg (fun H1 locs1 h1 h2 => kk H1 locs1 (by rw [pC_put hi] at h1; exact h1) h2)
theorem mi_i {j : Nat} (C : Cx p s m args meth c A RX2 cc nL rt E) (hX : MP E A ad F M j H) (hS : va_S A s.heap H locs) {o : Nat} (ho : ad 63 = o) (k : Nat) {n : Nat} (hjk : j ≤ k) (hk : k < 63) (hA : mA k = some (0, n)) (hM : ∀ i, M k i = 0) (hg : ∀ i, j ≤ i → i < k → mA i = none) (hn : n ≤ 30000) (hty : tyX2 k = .array .int) (hfin : (TX2 k).2.2.2 = true) (hnm : meth.name = "<init>") (hdecl : (TX2 k).1 = RX2) (harr : Cond.arrayClass FieldType.int ∈ lw_all) {cells' slots' : Nat} (hc' : cells + 1 = cells') (hs' : slots + n = slots') (hcells : cells' ≤ R.cells) (hslots : slots' ≤ R.slots) (d0 : decode cc pc = .ok (.newarray .int, 2)) {ref : String} {index : Nat} (hlink : Cond.fieldLink RX2 index ref (TX2 k).2.1 (TX2 k).2.2.1 ∈ lw_all) (hsame : ∀ x, s.fieldFound? (TX2 k).1 (TX2 k).2.1 (TX2 k).2.2.1 = some x → s.fieldFound? ref (TX2 k).2.1 (TX2 k).2.2.1 = some x) (hdg : decode cc (pc + 2) = .ok (.putfield index, 3)) (kk : ∀ (ad : Nat → Nat) (H : Heap) (locs : List Loc), ad 63 = o → MP E A ad F M (k + 1) H → va_S A s.heap H locs → W p l e R s m args below meth c H locs cells' slots' Q (F0 m (pc + 5) ls rest)) : W p l e R s m args below meth c H locs cells slots Q (F0 m pc ls (.int (zi (n : Int)) :: .ref o :: rest)) := by
  subst hc'
  subst hs'
  have hneg : ¬ zi (n : Int) < 0 := fun q => by
    have := (zi_lt (a := (n : Int)) (b := 0) (by omega) (by omega)).1 q
    omega
  refine va_newaK C.x C.b (atype := .int) (C.t _ harr) rfl d0 rfl (n := zi (n : Int)) hneg ((zi_cl (by omega)).trans (Int.toNat_natCast n)) (by show n * 4 ≤ 536870912; omega) hcells hslots rfl fun H1 cA e1 z1 o1 hAr hNm => ?_
  have hcA : cA = E.2 0 := Option.some.inj (hNm.symm.trans (C.k.1.2 0 _ rfl).2)
  have he : va_at E.1 us_cl (H.size, .inl (E.2 0, n, .inl (fun _ => zi 0))) H1 := by
    show H1[H.size]? = some (vp_cell (E.2 0) (n, .inl (fun _ => zi 0)))
    rw [e1, hcA]
    rfl
  have h := rw_push k hX (C.a _ hS.1) he o1
  have ho' : va_up ad k H.size 63 = o := (va_up_ne _ _ (by omega)).trans ho
  have key : W p l e R s m args below meth c H1 locs (cells + 1) (slots + n) Q (F0 m (pc + 2) ls (.ref H.size :: .ref (va_up ad k H.size 63) :: rest)) := g_putF C h ⟨Nat.le_trans hS.1 (by omega), fun x h1 h2 => (o1 x (Nat.lt_of_lt_of_le h1 hS.1)).trans (hS.2.1 x h1 h2), hS.2.2⟩ 63 (Cn := RX2) (T := TX2) (N := 63) (ci := 7) (fs := pF j ad F) ((va_up_ne _ _ (by omega)).trans (if_pos rfl)) rfl in_X2 tyX2 tyX2_ok nmX2 k hk hlink hsame hfin hnm hdecl (v := .ref H.size) (by rw [hty]; rfl) (by rw [hty]; rfl) (by rw [pF_len]; exact hk) hdg (fun H1 locs1 h1 h2 => kk _ H1 locs1 ho' (by rw [pC_arr hjk hk hA hM hg] at h1; exact h1) h2)
  rw [ho'] at key
  exact key
theorem mi_z {j : Nat} (C : Cx p s m args meth c A RX2 cc nL rt E) (hX : MP E A ad F M j H) (hS : va_S A s.heap H locs) {o : Nat} (ho : ad 63 = o) (k : Nat) {n : Nat} (hjk : j ≤ k) (hk : k < 63) (hA : mA k = some (3, n)) (hM : ∀ i, M k i = 0) (hg : ∀ i, j ≤ i → i < k → mA i = none) (hn : n ≤ 30000) (hty : tyX2 k = .array .boolean) (hfin : (TX2 k).2.2.2 = true) (hnm : meth.name = "<init>") (hdecl : (TX2 k).1 = RX2) (harr : Cond.arrayClass FieldType.boolean ∈ lw_all) {cells' slots' : Nat} (hc' : cells + 1 = cells') (hs' : slots + n = slots') (hcells : cells' ≤ R.cells) (hslots : slots' ≤ R.slots) (d0 : decode cc pc = .ok (.newarray .boolean, 2)) {ref : String} {index : Nat} (hlink : Cond.fieldLink RX2 index ref (TX2 k).2.1 (TX2 k).2.2.1 ∈ lw_all) (hsame : ∀ x, s.fieldFound? (TX2 k).1 (TX2 k).2.1 (TX2 k).2.2.1 = some x → s.fieldFound? ref (TX2 k).2.1 (TX2 k).2.2.1 = some x) (hdg : decode cc (pc + 2) = .ok (.putfield index, 3)) (kk : ∀ (ad : Nat → Nat) (H : Heap) (locs : List Loc), ad 63 = o → MP E A ad F M (k + 1) H → va_S A s.heap H locs → W p l e R s m args below meth c H locs cells' slots' Q (F0 m (pc + 5) ls rest)) : W p l e R s m args below meth c H locs cells slots Q (F0 m pc ls (.int (zi (n : Int)) :: .ref o :: rest)) := by
  subst hc'
  subst hs'
  have hneg : ¬ zi (n : Int) < 0 := fun q => by
    have := (zi_lt (a := (n : Int)) (b := 0) (by omega) (by omega)).1 q
    omega
  refine va_newaK C.x C.b (atype := .boolean) (C.t _ harr) rfl d0 rfl (n := zi (n : Int)) hneg ((zi_cl (by omega)).trans (Int.toNat_natCast n)) (by show n * 1 ≤ 536870912; omega) hcells hslots rfl fun H1 cA e1 z1 o1 hAr hNm => ?_
  have hcA : cA = E.2 3 := Option.some.inj (hNm.symm.trans (C.k.1.2 3 _ rfl).2)
  have he : va_at E.1 us_cl (H.size, .inl (E.2 3, n, .inl (fun _ => zi 0))) H1 := by
    show H1[H.size]? = some (vp_cell (E.2 3) (n, .inl (fun _ => zi 0)))
    rw [e1, hcA]
    rfl
  have h := rw_push k hX (C.a _ hS.1) he o1
  have ho' : va_up ad k H.size 63 = o := (va_up_ne _ _ (by omega)).trans ho
  have key : W p l e R s m args below meth c H1 locs (cells + 1) (slots + n) Q (F0 m (pc + 2) ls (.ref H.size :: .ref (va_up ad k H.size 63) :: rest)) := g_putF C h ⟨Nat.le_trans hS.1 (by omega), fun x h1 h2 => (o1 x (Nat.lt_of_lt_of_le h1 hS.1)).trans (hS.2.1 x h1 h2), hS.2.2⟩ 63 (Cn := RX2) (T := TX2) (N := 63) (ci := 7) (fs := pF j ad F) ((va_up_ne _ _ (by omega)).trans (if_pos rfl)) rfl in_X2 tyX2 tyX2_ok nmX2 k hk hlink hsame hfin hnm hdecl (v := .ref H.size) (by rw [hty]; rfl) (by rw [hty]; rfl) (by rw [pF_len]; exact hk) hdg (fun H1 locs1 h1 h2 => kk _ H1 locs1 ho' (by rw [pC_arr hjk hk hA hM hg] at h1; exact h1) h2)
  rw [ho'] at key
  exact key
end ROWS14
