set_option maxRecDepth 100000
/-! ROWS: a new array of ints, that lies in a cell of the moment; the cell joins a family -/
abbrev tA (E : us_E) (a n : Nat) (g : Int → Int) : Nat × va_E := (a, .inl (E.2 0, n, .inl (fun j : Nat => zi (g j))))
theorem rw_map {D : va_G} {A : Nat → Prop} {ad ad' : Nat → Nat} {ce ce' : Nat → Option va_E} {H : Heap} (h : rw_H D A ad ce H) (σ : Nat → Nat) (h1 : ∀ k, ce' k ≠ none → ce (σ k) = ce' k ∧ ad' k = ad (σ k)) (hinj : ∀ i j, ce' i ≠ none → ce' j ≠ none → σ i = σ j → i = j) : rw_H D A ad' ce' H := by
  refine ⟨fun k e hk => ?_, fun i j hi hj hij => ?_, fun k hk => ?_⟩
  · have z := h1 k (rw_some hk)
    rw [z.2]
    exact h.1 (σ k) e (z.1.trans hk)
  · have zi := h1 i hi
    have zj := h1 j hj
    exact hinj i j hi hj (h.2.1 _ _ (by rw [zi.1]; exact hi) (by rw [zj.1]; exact hj) (by rw [← zi.2, ← zj.2]; exact hij))
  · have z := h1 k hk
    rw [z.2]
    exact h.2.2 _ (by rw [z.1]; exact hk)
theorem x_cet' {K : Nat → Int → Option va_E} {T : x_T} {j : Nat} (hj : j < 28) : x_ce K T (100 + j) = (T j).map Prod.snd := by
  unfold x_ce
  rw [if_neg (by omega), if_pos (by omega), show (100 + j) % 128 - 100 = j by omega]
/-- a cell of the moment joins a family -/
theorem x_join {D : va_G} {A : Nat → Prop} {B : Nat → Int → Nat} {K : Nat → Int → Option va_E} {T : x_T} {H : Heap} (h : x_H D A B K T H) {f : Nat} {i : Int} (hf : f < 100) (hi : 0 ≤ i) {j a : Nat} {e : va_E} (hj : j < 28) (hT : T j = some (a, e)) : x_H D A (va_up B f (fup (B f) i a)) (va_up K f (fup (K f) i (some e))) (va_up T j none) H := by
  have hr : x_r f i % 128 = f := x_rm hf
  have key : ∀ r, ¬ r = x_r f i → ¬ r = 100 + j → x_ce (va_up K f (fup (K f) i (some e))) (va_up T j none) r = x_ce K T r ∧ x_ad (va_up B f (fup (B f) i a)) (va_up T j none) r = x_ad B T r := fun r h1 h2 => by
    unfold x_ce x_ad
    by_cases q : r % 128 < 100
    · rw [if_pos q, if_pos q, if_pos q, if_pos q]
      by_cases z : r % 128 = f
      · have y : ¬ ((r / 128 : Nat) : Int) = i := fun y => h1 (by unfold x_r; omega)
        rw [z, va_up_self, va_up_self, fup_n _ _ y, fup_n _ _ y]
        exact ⟨rfl, rfl⟩
      · rw [va_up_ne _ _ z, va_up_ne _ _ z]; exact ⟨rfl, rfl⟩
    · rw [if_neg q, if_neg q, if_neg q, if_neg q]
      by_cases y : r / 128 = 0
      · rw [if_pos y, if_pos y, if_pos y, if_pos y, va_up_ne T none (show r % 128 - 100 ≠ j by omega)]; exact ⟨rfl, rfl⟩
      · rw [if_neg y, if_neg y, if_neg y, if_neg y]; exact ⟨rfl, rfl⟩
  have hno : x_ce (va_up K f (fup (K f) i (some e))) (va_up T j none) (100 + j) = none := by
    rw [x_cet' hj, va_up_self]; rfl
  refine rw_map h (fun r => if r = x_r f i then 100 + j else r) (fun r hn => ?_) (fun r r' hn hn' hs => ?_)
  · by_cases q : r = x_r f i
    · rw [if_pos q, q, x_cef hf hi, x_adf hf hi, va_up_self, va_up_self, fup_s, fup_s, x_cet hj hT, x_adt hj hT]
      exact ⟨rfl, rfl⟩
    · rw [if_neg q]
      have h2 : ¬ r = 100 + j := fun z => hn (by rw [z]; exact hno)
      have z := key r q h2
      exact ⟨z.1.symm, z.2⟩
  · have h2 : ¬ r = 100 + j := fun z => hn (by rw [z]; exact hno)
    have h2' : ¬ r' = 100 + j := fun z => hn' (by rw [z]; exact hno)
    by_cases q : r = x_r f i
    · by_cases q' : r' = x_r f i
      · rw [q, q']
      · rw [if_pos q, if_neg q'] at hs; exact absurd hs.symm h2'
    · by_cases q' : r' = x_r f i
      · rw [if_neg q, if_pos q'] at hs; exact absurd hs h2
      · rw [if_neg q, if_neg q'] at hs; exact hs
section ROWS7
variable {p : Program} {l : Launch} {e : Env} {R : Room} {s : State} {m : MethodId} {args : Array Value} {below : List Frame} {meth : Method} {c : Code} {H : Heap} {locs : List Loc} {cells slots : Nat} {Q : State → Prop}
variable {A : Nat → Prop} {own : String} {cc : ByteArray} {nL : Nat} {rt : Option FieldType} {E : us_E} {pc : Nat} {ls : Array Slot} {rest : List Value} {B : Nat → Int → Nat} {F : Nat → Int} {M : Nat → Int → Int} {G : Nat → Int → Option Nat} {T : x_T}
theorem x_newi (C : Cx p s m args meth c A own cc nL rt E) (hX : XH E A B F M G T H) (hS : va_S A s.heap H locs) (j : Nat) (hj : j < 28) {v : Int} (hv : 0 ≤ v ∧ v ≤ 1000) (harr : Cond.arrayClass FieldType.int ∈ lw_all) (hcells : cells + 1 ≤ R.cells) (hslots : slots + v.toNat ≤ R.slots) (hdg : decode cc pc = .ok (.newarray .int, 2)) (kk : ∀ (a : Nat) (H : Heap), XH E A B F M G (va_up T j (some (tA E a v.toNat (fun _ => 0)))) H → va_S A s.heap H locs → W p l e R s m args below meth c H locs (cells + 1) (slots + v.toNat) Q (F0 m (pc + 2) ls (.ref a :: rest))) : W p l e R s m args below meth c H locs cells slots Q (F0 m pc ls (.int (zi v) :: rest)) := by
  have hneg : ¬ zi v < 0 := fun q => by
    have := (zi_lt (a := v) (b := 0) (by omega) (by omega)).1 q
    omega
  refine va_newaK C.x C.b (atype := .int) (C.t _ harr) rfl hdg rfl (n := zi v) hneg (zi_cl (by omega)) (by show v.toNat * 4 ≤ 536870912; omega) hcells hslots rfl fun H1 cA e1 z1 o1 hAr hNm => ?_
  have hcA : cA = E.2 0 := Option.some.inj (hNm.symm.trans (C.k.1.2 0 _ rfl).2)
  have he : va_at E.1 us_cl (H.size, .inl (E.2 0, v.toNat, .inl (fun _ => zi 0))) H1 := by
    show H1[H.size]? = some (vp_cell (E.2 0) (v.toNat, .inl (fun _ => zi 0)))
    rw [e1, hcA]
    rfl
  have h := rw_push (100 + j) hX.1 (C.a _ hS.1) he o1
  rw [show va_up (x_ad B T) (100 + j) H.size = _ from x_tad (q := tA E H.size v.toNat (fun _ => 0)) hj, show va_up (x_ce (xK E.2 B F M G) T) (100 + j) (some (.inl (E.2 0, v.toNat, .inl (fun _ => zi 0)))) = _ from x_tce (q := tA E H.size v.toNat (fun _ => 0)) hj] at h
  exact kk H.size H1 ⟨h, hX.2⟩ ⟨Nat.le_trans hS.1 (by omega), fun x h1 h2 => (o1 x (Nat.lt_of_lt_of_le h1 hS.1)).trans (hS.2.1 x h1 h2), hS.2.2⟩
theorem x_tsi (C : Cx p s m args meth c A own cc nL rt E) (hX : XH E A B F M G T H) (hS : va_S A s.heap H locs) (j : Nat) (hj : j < 28) {a n : Nat} {g : Int → Int} (hT : T j = some (tA E a n g)) {i v : Int} (hi : 0 ≤ i ∧ i < n) (hn : n < 2147483648) {T' : x_T} (hT' : va_up T j (some (tA E a n (fup g i v))) = T') (hdg : decode cc pc = .ok (.iastore, 1)) (kk : ∀ (H : Heap) (locs : List Loc), XH E A B F M G T' H → va_S A s.heap H locs → W p l e R s m args below meth c H locs cells slots Q (F0 m (pc + 1) ls rest)) : W p l e R s m args below meth c H locs cells slots Q (F0 m pc ls (.int (zi v) :: .int (zi i) :: .ref a :: rest)) := by
  have key := g_iast C hX.1 hS (100 + j) 0 (n := n) (g := g) (v := v) (rest := rest) (x_cet hj hT) rfl hi hn hdg (fun H1 locs1 h1 h2 => kk H1 locs1 (by
    subst hT'
    rw [show va_up (x_ce (xK E.2 B F M G) T) (100 + j) (some (.inl (E.2 0, n, .inl (fun x : Nat => zi (fup g i v x))))) = _ from x_tce (q := tA E a n (fup g i v)) hj, ← x_tau (e' := .inl (E.2 0, n, .inl (fun x : Nat => zi (fup g i v x)))) hj hT] at h1
    exact ⟨h1, hX.2⟩) h2)
  rw [x_adt hj hT] at key
  exact key
theorem x_tli (C : Cx p s m args meth c A own cc nL rt E) (hX : XH E A B F M G T H) (j : Nat) (hj : j < 28) {a n : Nat} {g : Int → Int} (hT : T j = some (tA E a n g)) {i : Int} (hi : 0 ≤ i ∧ i < n) (hn : n < 2147483648) {v : Int} (hv : g i = v) (hdg : decode cc pc = .ok (.iaload, 1)) (kk : W p l e R s m args below meth c H locs cells slots Q (F0 m (pc + 1) ls (.int (zi v) :: rest))) : W p l e R s m args below meth c H locs cells slots Q (F0 m pc ls (.int (zi i) :: .ref a :: rest)) := by
  have key := g_iald C hX.1 (100 + j) 0 (n := n) (g := g) (rest := rest) (x_cet hj hT) rfl hi hn hdg (by rw [hv]; exact kk)
  rw [x_adt hj hT] at key
  exact key
end ROWS7
