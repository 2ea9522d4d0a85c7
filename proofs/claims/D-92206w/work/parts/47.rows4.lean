set_option maxRecDepth 100000
/-! MORE ROWS: a field of another class is written; a claim's day of withdrawal -/
theorem xK_gone {tc : Nat → ClassId} {B : Nat → Int → Nat} {F : Nat → Int} {M : Nat → Int → Int} {G : Nat → Int → Option Nat} {i v : Int} (h : 0 ≤ i ∧ i < F 43) : va_up (xK tc B F M G) 59 (fup (xK tc B F M G 59) i (some (.inr (4, [.int (zi (M 205 i)), .int (zi (M 206 i)), .int (zi (M 207 i)), .int (zi (M 208 i)), .int (zi v)])))) = xK tc B F (va_up M 209 (fup (M 209) i v)) G := by
  funext f' i'
  by_cases e : f' = 59
  · subst e
    rw [va_up_self]
    by_cases e2 : i' = i
    · subst e2
      have z : va_up M 209 (fup (M 209) i' v) 209 i' = v := by rw [va_up_self, fup_s]
      rw [fup_s, xK_59 h, z]
      rfl
    · rw [fup_n _ _ e2]
      have z : va_up M 209 (fup (M 209) i v) 209 i' = M 209 i' := by rw [va_up_self, fup_n _ _ e2]
      by_cases q : 0 ≤ i' ∧ i' < F 43
      · rw [xK_59 q, xK_59 q, z]; rfl
      · show Option.map _ (if 0 ≤ i' ∧ i' < F 43 then _ else none) = Option.map _ (if 0 ≤ i' ∧ i' < F 43 then _ else none)
        rw [if_neg q, if_neg q]
  · rw [va_up_ne _ _ e]
    by_cases e9 : f' = 209
    · subst e9; rfl
    · have eo : xob B F (va_up M 209 (fup (M 209) i v)) f' i' = xob B F M f' i' := by
        unfold xob
        rw [if_neg e, if_neg e]
        rfl
      have ep : xpr F (va_up M 209 (fup (M 209) i v)) f' i' = xpr F M f' i' := rfl
      unfold xK
      rw [eo, ep, va_up_ne M _ e9]
theorem xK_60 {tc : Nat → ClassId} {B : Nat → Int → Nat} {F : Nat → Int} {M : Nat → Int → Int} {G : Nat → Int → Option Nat} {i : Int} (h : 0 ≤ i ∧ i < 4) : xK tc B F M G 60 i = some (.inr (5, [if M 203 i = -4 then .null else .ref (B 61 i), .int (zi (M 204 i))])) := xK_o rfl rfl rfl (if_pos h)
section ROWS4
variable {p : Program} {l : Launch} {e : Env} {R : Room} {s : State} {m : MethodId} {args : Array Value} {below : List Frame} {meth : Method} {c : Code} {H : Heap} {locs : List Loc} {cells slots : Nat} {Q : State → Prop}
variable {A : Nat → Prop} {own : String} {cc : ByteArray} {nL : Nat} {rt : Option FieldType} {E : us_E} {pc : Nat} {ls : Array Slot} {rest : List Value} {B : Nat → Int → Nat} {F : Nat → Int} {M : Nat → Int → Int} {G : Nat → Int → Option Nat} {T : x_T}
theorem g_putN (C : Cx p s m args meth c A own cc nL rt E) {ad : Nat → Nat} {ce : Nat → Option va_E} (hX : rw_H E.1 A ad ce H) (hS : va_S A s.heap H locs) (k : Nat) {ci : Nat} {fs : List Value} (hk : ce k = some (.inr (ci, fs))) {Cn : String} {T : u_T} {N : Nat} (hc : us_cl[ci]? = some (Cn, T, N)) (hin : ∀ w ∈ u_ws Cn T N, w ∈ lw_all) (ty0 : Nat → FieldType) (hty : ∀ k, k < N → parseFieldDescriptor (T k).2.2.1 = some (ty0 k)) (hnm : ∀ a, a < N → ∀ b, b < N → a ≠ b → (T a).2.1 ≠ (T b).2.1) (f : Nat) (hf : f < N) {ref host : String} {index : Nat} (hlink : Cond.fieldLinkNest own index ref (T f).2.1 (T f).2.2.1 host ∈ us_N) (hsame : ∀ x, s.fieldFound? (T f).1 (T f).2.1 (T f).2.2.1 = some x → s.fieldFound? ref (T f).2.1 (T f).2.2.1 = some x) (hfin : (T f).2.2.2 = false) {v : Value} (hn : narrow (ty0 f) v = v) (hfit : fits (ty0 f) v = true) (hl : f < fs.length) (hdg : decode cc pc = .ok (.putfield index, 3))
    (kk : ∀ (H1 : Heap) (locs1 : List Loc), rw_H E.1 A ad (va_up ce k (some (.inr (ci, fs.set f v)))) H1 → va_S A s.heap H1 locs1 → W p l e R s m args below meth c H1 locs1 cells slots Q (F0 m (pc + 3) ls rest)) : W p l e R s m args below meth c H locs cells slots Q (F0 m pc ls (v :: .ref (ad k) :: rest)) := by
  have hap := va_apart (own := own) C.t hin ty0 hty hnm C.k.1 hc
  obtain ⟨r, h1, cell, q1, q2, q3, q4⟩ := hX.1 k _ hk
  have hr : r = (Cn, T, N) := Option.some.inj (h1.symm.trans hc)
  subst hr
  obtain ⟨hS', hfc, kC, hkC, hkind⟩ := C.k.1.1 ci _ hc
  obtain ⟨cf, kf, fi, fd, hi, hsl⟩ := hS' f hf
  have hlay := C.t _ (hin _ (u_in_lay hf))
  unfold u_lay at hlay
  rw [if_neg (by rw [hfin]; decide)] at hlay
  have hst := (u_facts hfc hkC (u_lays C.t hin hf) hi).1
  have h6 := u_store hfc hkC hkind hlay hi (hty f hf) hn hfit
  refine va_WputK C.x C.b (f := fd) C.o (C.w hlink) (hsame _ hi) hst (by rw [q2]; exact h6) q1 q3 (by rw [hsl]; exact k2_hasslot (q4 f hf)) rfl rfl hdg fun H' e1 e2 e3 => ?_
  rw [hsl] at e1 ⊢
  exact kk H' _ (rw_set hX hk ⟨_, hc, t_OB.to (V := updV (vp_V fs) f v) ⟨_, e1, q2, q3, t_set q4 hap hf v⟩ (fun j _ => vp_updV_set hl v j)⟩ e3) (hS.put e2 e3 (hX.2.2 k (rw_some hk)))
theorem x_pgone (C : Cx p s m args meth c A own cc nL rt E) (hX : XH E A B F M G T H) (hS : va_S A s.heap H locs) {i : Int} (hi : 0 ≤ i ∧ i < F 43) {ref host : String} {index : Nat} (hlink : Cond.fieldLinkNest own index ref (TX9 4).2.1 (TX9 4).2.2.1 host ∈ us_N) (hsame : ∀ x, s.fieldFound? (TX9 4).1 (TX9 4).2.1 (TX9 4).2.2.1 = some x → s.fieldFound? ref (TX9 4).2.1 (TX9 4).2.2.1 = some x) {v : Int} (hv : -4 ≤ v ∧ v ≤ 99) {M' : Nat → Int → Int} (hM : va_up M 209 (fup (M 209) i v) = M') (hdg : decode cc pc = .ok (.putfield index, 3)) (kk : ∀ (H : Heap) (locs : List Loc), XH E A B F M' G T H → va_S A s.heap H locs → W p l e R s m args below meth c H locs cells slots Q (F0 m (pc + 3) ls rest)) : W p l e R s m args below meth c H locs cells slots Q (F0 m pc ls (.int (zi v) :: .ref (B 59 i) :: rest)) := by
  have key := g_putN C hX.1 hS (x_r 59 i) (Cn := RX9) (T := TX9) (N := 5) (ci := 4) (fs := [.int (zi (M 205 i)), .int (zi (M 206 i)), .int (zi (M 207 i)), .int (zi (M 208 i)), .int (zi (M 209 i))]) (rest := rest) (by rw [x_cef (by omega) hi.1]; exact xK_59 hi) rfl in_X9 tyX9 tyX9_ok nmX9 4 (by decide) hlink hsame rfl (v := .int (zi v)) rfl rfl (show 4 < 5 by decide) hdg (fun H1 locs1 h1 h2 => kk H1 locs1 (by
    subst hM
    rw [x_ceu (by omega) hi.1] at h1
    replace h1 := (xK_gone hi) ▸ h1
    exact ⟨h1, hX.2.1, mb_st hX.2.2.1 (fun q hq => by cases hq; exact hv), hX.2.2.2⟩) h2)
  rw [x_adf (by omega) hi.1] at key
  exact key
theorem r_ifnn_or (C : Cx p s m args meth c A own cc nL rt E) {P : Prop} [Decidable P] {x : Nat} {off : Int} {tgt : Nat} (hdg : decode cc pc = .ok (.ifnonnull off, 3)) (ht : (pc : Int) + off = (tgt : Int)) (k1 : ¬ P → W p l e R s m args below meth c H locs cells slots Q (F0 m tgt ls rest)) (k2 : P → W p l e R s m args below meth c H locs cells slots Q (F0 m (pc + 3) ls rest)) : W p l e R s m args below meth c H locs cells slots Q (F0 m pc ls ((if P then .null else .ref x) :: rest)) := by
  by_cases q : P
  · rw [if_pos q]; exact lv_ifnonnullN C.x C.b hdg (k2 q)
  · rw [if_neg q]; exact lv_ifnonnull C.x C.b hdg ht (k1 q)
theorem r_callUi {x y : MethodName} {owner : String} {bytes : ByteArray} {maxL idx n : Nat} {rm : Room} {As : List Value} {Pre : Heap → Prop} {Post : Int → Heap → Prop} {b : Nat} {Cn : String} {cells' slots' : Nat} {st : List Value} {rt' : FieldType} (C : Cx p s m args meth c A own cc nL rt E) (hM : cMet l y bytes maxL (some rt') rm A E (.ref b :: As) Pre (qi A Post)) (hg : GoodIn lw_all (va_wsU own idx Cn owner x y (ws_ y bytes maxL (some rt')))) (hyx : y = ⟨owner, x.name, x.desc⟩) (hd : owner ≠ "java/lang/invoke/MethodHandle" ∧ owner ≠ "java/lang/invoke/VarHandle" ∧ (parseMethodDescriptor x.desc).map (fun d => d.parameters.length) = some n) (hn : As.length = n) (hR : rm.frames + 1 ≤ R.frames ∧ 8 + (maxL + 11) + rm.locals ≤ R.locals) (hrecv : ∃ cell : Cell, H[b]? = some cell ∧ cell.vm.isStatics = false ∧ s.vm.findClass Cn = some cell.cls) (hpre : Pre H) (hS : va_S A s.heap H locs) (hz : ls.size = nL) (hst : st = As.reverse ++ .ref b :: rest) (hw8 : (rest.map fun v => v.category).sum ≤ 8) (hdg : decode cc pc = .ok (.invokevirtual idx, 3)) (hc : cells + rm.cells = cells') (hs : slots + rm.slots = slots') (hf : cells' ≤ R.cells ∧ slots' ≤ R.slots)
    (kk : ∀ (r : Int) (H1 : Heap) (locs1 : List Loc), Post r H1 → va_S A s.heap H1 locs1 → W p l e R s m args below meth c H1 locs1 cells' slots' Q (F0 m (pc + 3) ls (.int (zi r) :: rest))) : W p l e R s m args below meth c H locs cells slots Q (F0 m pc ls st) := by
  have hA2 : ∀ q : Nat, H.size ≤ q → A q := fun q h => C.a q (Nat.le_trans hS.1 h)
  have hbl : FrameBlind (va_Pc (.ref b :: As) (fun U => U.heap.size = H.size ∧ KN E A U ∧ Pre U.heap)) := fun a U g mk q => by
    obtain ⟨q0, q1, qK, qP⟩ := q
    exact ⟨q0, q1, qK.blind, qP⟩
  have hst0 : ∀ U : State, U.heap = H → s.WarmedH U.vm → va_Pc (.ref b :: As) (fun U => U.heap.size = H.size ∧ KN E A U ∧ Pre U.heap) (.ref b :: As).toArray U := fun U hU hW => ⟨rfl, by rw [hU], KN.warm hW hU hS C.k, by rw [hU]; exact hpre⟩
  refine va_calli (va_runU (As := As) (rest := rest) ⟨C.x, C.b, C.l, C.o, C.t⟩ (hM H.size hA2) (va_cwU n C.t hg rfl rfl rfl hyx hd hR) ⟨hbl, hrecv, hst0⟩ rfl hn hz hst (lv_room hw8) hdg ⟨by rw [hc]; exact hf.1, by rw [hs]; exact hf.2⟩) hS (fun q _ h => h) (fun q h => h) ?_
  exact fun r u t H1 locs1 ht hvm hw hB hz1 hk1 hS1 => by
    subst hw
    replace hB : Post u t.heap := hB; rw [ht] at hB
    exact W.cs hc hs (kk u H1 locs1 hB hS1)
theorem r_ishlc (C : Cx p s m args meth c A own cc nL rt E) {a k v q : Int} (hq : (2 : Int) ^ k.toNat = q) (hk : 0 ≤ k ∧ k < 32) (ha : 0 ≤ a ∧ a * q < 2147483648) (hv : a * q = v) (hdg : decode cc pc = .ok (.ishl, 1)) (kk : W p l e R s m args below meth c H locs cells slots Q (F0 m (pc + 1) ls (.int (zi v) :: rest))) : W p l e R s m args below meth c H locs cells slots Q (F0 m pc ls (.int (zi k) :: .int (zi a) :: rest)) :=
  r_ishl C hk ⟨ha.1, by rw [hq]; exact ha.2⟩ (by rw [hq]; exact hv) hdg kk
end ROWS4
theorem lw_U {own : String} {idx : Nat} {C owner : String} {x y : MethodName} {b : ByteArray} {L : Nat} {r : Option FieldType} (h1 : Cond.methodLink own idx x ∈ lw_all) (h2 : Cond.sameMethod x.cls owner x.name x.desc ∈ lw_all) (h3 : Cond.selects C x y ∈ lw_all) (h4 : Cond.instanceMethod y ∈ lw_all) (h5 : Cond.initialized y.cls ∈ lw_all) (h6 : Cond.code y b L r ∈ lw_all) : GoodIn lw_all (va_wsU own idx C owner x y (ws_ y b L r)) := by
  refine lw_app ?_ (lw_meth h6)
  intro w hw
  simp only [List.mem_cons, List.not_mem_nil, or_false] at hw
  rcases hw with e | e | e | e | e
  · rw [e]; exact h1
  · rw [e]; exact h2
  · rw [e]; exact h3
  · rw [e]; exact h4
  · rw [e]; exact h5
