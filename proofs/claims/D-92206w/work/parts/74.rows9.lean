set_option maxRecDepth 100000
/-! ROWS: new objects in cells of the moment -/
section ROWS9
variable {p : Program} {l : Launch} {e : Env} {R : Room} {s : State} {m : MethodId} {args : Array Value} {below : List Frame} {meth : Method} {c : Code} {H : Heap} {locs : List Loc} {cells slots : Nat} {Q : State → Prop}
variable {A : Nat → Prop} {own : String} {cc : ByteArray} {nL : Nat} {rt : Option FieldType} {E : us_E} {pc : Nat} {ls : Array Slot} {rest : List Value} {B : Nat → Int → Nat} {F : Nat → Int} {M : Nat → Int → Int} {G : Nat → Int → Option Nat} {T : x_T}
theorem r_obj (C : Cx p s m args meth c A own cc nL rt E) {idx a : Nat} (hz : ls.size = nL) (hlk : Cond.methodLink own idx Lib.objectInit ∈ lw_all) (hw8 : (rest.map fun v => v.category).sum ≤ 8) (hR : 1 ≤ R.frames ∧ 20 ≤ R.locals) (hdg : decode cc pc = .ok (.invokespecial idx, 3)) (kk : W p l e R s m args below meth c H locs cells slots Q (F0 m (pc + 3) ls rest)) : W p l e R s m args below meth c H locs cells slots Q (F0 m pc ls (.ref a :: rest)) :=
  W.objInit C.x C.b C.o (C.t _ hlk) (C.t _ q317) (C.t _ q318) rfl (hz.trans C.l.symm) rfl hdg hR.1 (by show 2 * 0 + (rest.map fun v => v.category).sum + 12 ≤ R.locals; omega) kk
theorem g_new (C : Cx p s m args meth c A own cc nL rt E) {ad : Nat → Nat} {ce : Nat → Option va_E} (hX : rw_H E.1 A ad ce H) (hS : va_S A s.heap H locs) (k : Nat) {ci : Nat} {Cn : String} {T1 : u_T} {N : Nat} (hc : us_cl[ci]? = some (Cn, T1, N)) (hin : ∀ w ∈ u_ws Cn T1 N, w ∈ lw_all) (ty : Nat → FieldType) (hty : ∀ k, k < N → parseFieldDescriptor (T1 k).2.2.1 = some (ty k)) {index : Nat} (hcl : Cond.classLink own index Cn ∈ lw_all) (hinst : Cond.instantiable Cn N ∈ lw_all) (hini : Cond.initialized Cn ∈ lw_all) {fs : List Value} (hfs : ∀ j, j < N → defaultValue (ty j) = vp_V fs j) (hcells : cells + 1 ≤ R.cells) (hslots : slots + N ≤ R.slots) (hdg : decode cc pc = .ok (.new index, 3))
    (kk : ∀ H1 : Heap, rw_H E.1 A (va_up ad k H.size) (va_up ce k (some (.inr (ci, fs)))) H1 → va_S A s.heap H1 locs → W p l e R s m args below meth c H1 locs (cells + 1) (slots + N) Q (F0 m (pc + 3) ls (.ref H.size :: rest))) : W p l e R s m args below meth c H locs cells slots Q (F0 m pc ls rest) := by
  have hKn := C.k.1.1 ci _ hc
  refine W.newcK C.x C.b C.o (C.t _ hcl) (C.t _ hinst) (C.t _ hini) rfl hdg hcells hslots hKn.2.1 rfl fun H1 kC hkC e1 z1 o1 => ?_
  exact kk H1 (rw_push k hX (C.a _ hS.1) ⟨_, hc, (u_born ty C.t hin hKn hkC e1 hty).to hfs⟩ o1) ⟨Nat.le_trans hS.1 (by omega), fun x h1 h2 => (o1 x (Nat.lt_of_lt_of_le h1 hS.1)).trans (hS.2.1 x h1 h2), hS.2.2⟩
theorem g_putF (C : Cx p s m args meth c A own cc nL rt E) {ad : Nat → Nat} {ce : Nat → Option va_E} (hX : rw_H E.1 A ad ce H) (hS : va_S A s.heap H locs) (k : Nat) {ci : Nat} {fs : List Value} (hk : ce k = some (.inr (ci, fs))) {Cn : String} {T : u_T} {N : Nat} (hc : us_cl[ci]? = some (Cn, T, N)) (hin : ∀ w ∈ u_ws Cn T N, w ∈ lw_all) (ty0 : Nat → FieldType) (hty : ∀ k, k < N → parseFieldDescriptor (T k).2.2.1 = some (ty0 k)) (hnm : ∀ a, a < N → ∀ b, b < N → a ≠ b → (T a).2.1 ≠ (T b).2.1) (f : Nat) (hf : f < N) {ref : String} {index : Nat} (hlink : Cond.fieldLink own index ref (T f).2.1 (T f).2.2.1 ∈ lw_all) (hsame : ∀ x, s.fieldFound? (T f).1 (T f).2.1 (T f).2.2.1 = some x → s.fieldFound? ref (T f).2.1 (T f).2.2.1 = some x) (hfin : (T f).2.2.2 = true) (hin2 : meth.name = "<init>") (hdecl : (T f).1 = own) {v : Value} (hn : narrow (ty0 f) v = v) (hfit : fits (ty0 f) v = true) (hl : f < fs.length) (hdg : decode cc pc = .ok (.putfield index, 3))
    (kk : ∀ (H1 : Heap) (locs1 : List Loc), rw_H E.1 A ad (va_up ce k (some (.inr (ci, fs.set f v)))) H1 → va_S A s.heap H1 locs1 → W p l e R s m args below meth c H1 locs1 cells slots Q (F0 m (pc + 3) ls rest)) : W p l e R s m args below meth c H locs cells slots Q (F0 m pc ls (v :: .ref (ad k) :: rest)) := by
  have hap := va_apart (own := own) C.t hin ty0 hty hnm C.k.1 hc
  obtain ⟨r, h1, cell, q1, q2, q3, q4⟩ := hX.1 k _ hk
  have hr : r = (Cn, T, N) := Option.some.inj (h1.symm.trans hc)
  subst hr
  obtain ⟨hS', hfc, kC, hkC, hkind⟩ := C.k.1.1 ci _ hc
  obtain ⟨cf, kf, fi, fd, hi, hsl⟩ := hS' f hf
  have hlay := C.t _ (hin _ (u_in_lay hf))
  unfold u_lay at hlay
  rw [if_pos hfin] at hlay
  have hst := (u_facts hfc hkC (u_lays C.t hin hf) hi).1
  have hcf : m.cls = cf := by
    obtain ⟨_, _, c', _, _, _, -, -, hf', -, -, -, hown2, -⟩ := Cond.laysFinal_spec hlay
    have e1 : c' = cf := by have := hi.symm.trans hf'; simp at this; exact this.1.symm
    rw [hdecl] at hown2
    rw [← e1]; exact Option.some.inj (C.o.symm.trans hown2)
  have h6 := u_fits hfc hkC hkind (Or.inr hlay) hi (hty f hf) hn hfit
  refine W.putFinK C.x C.b C.o (C.t _ hlink) (hsame _ hi) hst hcf hin2 (by rw [q2]; exact h6) q1 q3 (by rw [hsl]; exact k2_hasslot (q4 f hf)) rfl rfl hdg fun H' e1 e2 e3 => ?_
  rw [hsl] at e1 ⊢
  exact kk H' _ (rw_set hX hk ⟨_, hc, t_OB.to (V := updV (vp_V fs) f v) ⟨_, e1, q2, q3, t_set q4 hap hf v⟩ (fun j _ => vp_updV_set hl v j)⟩ e3) (hS.put e2 e3 (hX.2.2 k (rw_some hk)))
theorem x_newo (C : Cx p s m args meth c A own cc nL rt E) (hX : XH E A B F M G T H) (hS : va_S A s.heap H locs) (j : Nat) (hj : j < 28) {ci : Nat} {Cn : String} {T1 : u_T} {N : Nat} (hc : us_cl[ci]? = some (Cn, T1, N)) (hin : ∀ w ∈ u_ws Cn T1 N, w ∈ lw_all) (ty : Nat → FieldType) (hty : ∀ k, k < N → parseFieldDescriptor (T1 k).2.2.1 = some (ty k)) {index : Nat} (hcl : Cond.classLink own index Cn ∈ lw_all) (hinst : Cond.instantiable Cn N ∈ lw_all) (hini : Cond.initialized Cn ∈ lw_all) (fs : List Value) (hfs : ∀ j, j < N → defaultValue (ty j) = vp_V fs j) (hcells : cells + 1 ≤ R.cells) (hslots : slots + N ≤ R.slots) (hdg : decode cc pc = .ok (.new index, 3))
    (kk : ∀ (a : Nat) (H : Heap), XH E A B F M G (va_up T j (some (a, .inr (ci, fs)))) H → va_S A s.heap H locs → W p l e R s m args below meth c H locs (cells + 1) (slots + N) Q (F0 m (pc + 3) ls (.ref a :: rest))) : W p l e R s m args below meth c H locs cells slots Q (F0 m pc ls rest) := by
  refine g_new C hX.1 hS (100 + j) hc hin ty hty hcl hinst hini hfs hcells hslots hdg (fun H1 h1 h2 => ?_)
  rw [show va_up (x_ad B T) (100 + j) H.size = _ from x_tad (q := (H.size, .inr (ci, fs))) hj, show va_up (x_ce (xK E.2 B F M G) T) (100 + j) (some (.inr (ci, fs))) = _ from x_tce (q := (H.size, .inr (ci, fs))) hj] at h1
  exact kk H.size H1 ⟨h1, hX.2⟩ h2
theorem x_tset {j a : Nat} {e0 e1 : va_E} {H1 : Heap} {K : Nat → Int → Option va_E} (hj : j < 28) (hT : T j = some (a, e0)) (h1 : rw_H E.1 A (x_ad B T) (va_up (x_ce K T) (100 + j) (some e1)) H1) : rw_H E.1 A (x_ad B (va_up T j (some (a, e1)))) (x_ce K (va_up T j (some (a, e1)))) H1 := by
  rw [show va_up (x_ce K T) (100 + j) (some e1) = _ from x_tce (q := (a, e1)) hj, ← x_tau (e' := e1) hj hT] at h1
  exact h1
theorem x_top (C : Cx p s m args meth c A own cc nL rt E) (hX : XH E A B F M G T H) (hS : va_S A s.heap H locs) (j : Nat) (hj : j < 28) {a : Nat} {fs : List Value} {ci : Nat} {Cn : String} {T1 : u_T} {N : Nat} (hc : us_cl[ci]? = some (Cn, T1, N)) (hin : ∀ w ∈ u_ws Cn T1 N, w ∈ lw_all) (hT : T j = some (a, .inr (ci, fs))) (ty0 : Nat → FieldType) (hty : ∀ k, k < N → parseFieldDescriptor (T1 k).2.2.1 = some (ty0 k)) (hnm : ∀ a, a < N → ∀ b, b < N → a ≠ b → (T1 a).2.1 ≠ (T1 b).2.1) (f : Nat) (hf : f < N) {ref : String} {index : Nat} (hlink : Cond.fieldLink own index ref (T1 f).2.1 (T1 f).2.2.1 ∈ lw_all) (hsame : ∀ x, s.fieldFound? (T1 f).1 (T1 f).2.1 (T1 f).2.2.1 = some x → s.fieldFound? ref (T1 f).2.1 (T1 f).2.2.1 = some x) (hfin : (T1 f).2.2.2 = false) {v : Value} (hn : narrow (ty0 f) v = v) (hfit : fits (ty0 f) v = true) (hl : f < fs.length) {T' : x_T} (hT' : va_up T j (some (a, .inr (ci, fs.set f v))) = T') (hdg : decode cc pc = .ok (.putfield index, 3))
    (kk : ∀ (H : Heap) (locs : List Loc), XH E A B F M G T' H → va_S A s.heap H locs → W p l e R s m args below meth c H locs cells slots Q (F0 m (pc + 3) ls rest)) : W p l e R s m args below meth c H locs cells slots Q (F0 m pc ls (v :: .ref a :: rest)) := by
  have key := g_put C hX.1 hS (100 + j) (x_cet hj hT) hc hin ty0 hty hnm f hf hlink hsame hfin hn hfit hl (rest := rest) (cells := cells) (slots := slots) hdg (fun H1 locs1 h1 h2 => kk H1 locs1 (by
    subst hT'
    exact ⟨x_tset hj hT h1, hX.2⟩) h2)
  rw [x_adt hj hT] at key
  exact key
theorem x_topF (C : Cx p s m args meth c A own cc nL rt E) (hX : XH E A B F M G T H) (hS : va_S A s.heap H locs) (j : Nat) (hj : j < 28) {a : Nat} {fs : List Value} {ci : Nat} {Cn : String} {T1 : u_T} {N : Nat} (hc : us_cl[ci]? = some (Cn, T1, N)) (hin : ∀ w ∈ u_ws Cn T1 N, w ∈ lw_all) (hT : T j = some (a, .inr (ci, fs))) (ty0 : Nat → FieldType) (hty : ∀ k, k < N → parseFieldDescriptor (T1 k).2.2.1 = some (ty0 k)) (hnm : ∀ a, a < N → ∀ b, b < N → a ≠ b → (T1 a).2.1 ≠ (T1 b).2.1) (f : Nat) (hf : f < N) {ref : String} {index : Nat} (hlink : Cond.fieldLink own index ref (T1 f).2.1 (T1 f).2.2.1 ∈ lw_all) (hsame : ∀ x, s.fieldFound? (T1 f).1 (T1 f).2.1 (T1 f).2.2.1 = some x → s.fieldFound? ref (T1 f).2.1 (T1 f).2.2.1 = some x) (hfin : (T1 f).2.2.2 = true) (hin2 : meth.name = "<init>") (hdecl : (T1 f).1 = own) {v : Value} (hn : narrow (ty0 f) v = v) (hfit : fits (ty0 f) v = true) (hl : f < fs.length) {T' : x_T} (hT' : va_up T j (some (a, .inr (ci, fs.set f v))) = T') (hdg : decode cc pc = .ok (.putfield index, 3))
    (kk : ∀ (H : Heap) (locs : List Loc), XH E A B F M G T' H → va_S A s.heap H locs → W p l e R s m args below meth c H locs cells slots Q (F0 m (pc + 3) ls rest)) : W p l e R s m args below meth c H locs cells slots Q (F0 m pc ls (v :: .ref a :: rest)) := by
  have key := g_putF C hX.1 hS (100 + j) (x_cet hj hT) hc hin ty0 hty hnm f hf hlink hsame hfin hin2 hdecl hn hfit hl (rest := rest) (cells := cells) (slots := slots) hdg (fun H1 locs1 h1 h2 => kk H1 locs1 (by
    subst hT'
    exact ⟨x_tset hj hT h1, hX.2⟩) h2)
  rw [x_adt hj hT] at key
  exact key
theorem x_tog (C : Cx p s m args meth c A own cc nL rt E) (hX : XH E A B F M G T H) (j : Nat) (hj : j < 28) {a : Nat} {fs : List Value} {ci : Nat} {Cn : String} {T1 : u_T} {N : Nat} (hc : us_cl[ci]? = some (Cn, T1, N)) (hin : ∀ w ∈ u_ws Cn T1 N, w ∈ lw_all) (hT : T j = some (a, .inr (ci, fs))) (f : Nat) (hf : f < N) {ref : String} {index : Nat} (hlink : Cond.fieldLink own index ref (T1 f).2.1 (T1 f).2.2.1 ∈ lw_all) (hsame : ∀ x, s.fieldFound? (T1 f).1 (T1 f).2.1 (T1 f).2.2.1 = some x → s.fieldFound? ref (T1 f).2.1 (T1 f).2.2.1 = some x) {v : Value} (hv : fs[f]? = some v) (hdg : decode cc pc = .ok (.getfield index, 3))
    (kk : W p l e R s m args below meth c H locs cells slots Q (F0 m (pc + 3) ls (v :: rest))) : W p l e R s m args below meth c H locs cells slots Q (F0 m pc ls (.ref a :: rest)) := by
  have key := g_get C hX.1 (100 + j) (x_cet hj hT) hc hin f hf hlink hsame hv hdg kk
  rw [x_adt hj hT] at key
  exact key
theorem x_togN (C : Cx p s m args meth c A own cc nL rt E) (hX : XH E A B F M G T H) (j : Nat) (hj : j < 28) {a : Nat} {fs : List Value} {ci : Nat} {Cn : String} {T1 : u_T} {N : Nat} (hc : us_cl[ci]? = some (Cn, T1, N)) (hin : ∀ w ∈ u_ws Cn T1 N, w ∈ lw_all) (hT : T j = some (a, .inr (ci, fs))) (f : Nat) (hf : f < N) {ref : String} {index : Nat} {host : String} (hlink : Cond.fieldLinkNest own index ref (T1 f).2.1 (T1 f).2.2.1 host ∈ us_N) (hsame : ∀ x, s.fieldFound? (T1 f).1 (T1 f).2.1 (T1 f).2.2.1 = some x → s.fieldFound? ref (T1 f).2.1 (T1 f).2.2.1 = some x) {v : Value} (hv : fs[f]? = some v) (hdg : decode cc pc = .ok (.getfield index, 3))
    (kk : W p l e R s m args below meth c H locs cells slots Q (F0 m (pc + 3) ls (v :: rest))) : W p l e R s m args below meth c H locs cells slots Q (F0 m pc ls (.ref a :: rest)) := by
  have key := g_getN C hX.1 (100 + j) (x_cet hj hT) hc hin f hf hlink hsame hv hdg kk
  rw [x_adt hj hT] at key
  exact key
theorem x_trecv (C : Cx p s m args meth c A own cc nL rt E) (hX : XH E A B F M G T H) {j : Nat} (hj : j < 28) {a ci : Nat} {fs : List Value} (hT : T j = some (a, .inr (ci, fs))) {q : vw_C} (hc : us_cl[ci]? = some q) : ∃ cell : Cell, H[a]? = some cell ∧ cell.vm.isStatics = false ∧ s.vm.findClass q.1 = some cell.cls := by
  have key := g_recv C hX.1 (k := 100 + j) (x_cet hj hT) hc
  rw [x_adt hj hT] at key
  exact key
theorem x_tlen (C : Cx p s m args meth c A own cc nL rt E) (hX : XH E A B F M G T H) (j : Nat) (hj : j < 28) {a n t : Nat} {cA : ClassId} {g : Nat → Int32} (hT : T j = some (a, .inl (cA, n, .inl g))) {ty : FieldType} (ht : (us_T E.2)[t]? = some (cA, ty)) (v : Int) (hv : (n : Int) = v) (hdg : decode cc pc = .ok (.arraylength, 1)) (kk : W p l e R s m args below meth c H locs cells slots Q (F0 m (pc + 1) ls (.int (zi v) :: rest))) : W p l e R s m args below meth c H locs cells slots Q (F0 m pc ls (.ref a :: rest)) := by
  have key := g_alen C hX.1 (100 + j) t (x_cet hj hT) ht v hv hdg kk
  rw [x_adt hj hT] at key
  exact key
theorem x_lag (C : Cx p s m args meth c A own cc nL rt E) (hX : XH E A B F M G T H) (f : Nat) {t n : Nat} (h0 : xsp f = none) (h : xrf f = some (t, n)) (hf : f < 100) {ty : FieldType} (ht : (us_T E.2)[t]? = some (E.2 t, ty)) (hr : ty.isReference = true) {j : Int} (hj : 0 ≤ j ∧ j < n) (hn : n < 2147483648) {a : Nat} (hG : G f j = some a) (hdg : decode cc pc = .ok (.aaload, 1)) (kk : W p l e R s m args below meth c H locs cells slots Q (F0 m (pc + 1) ls (.ref a :: rest))) : W p l e R s m args below meth c H locs cells slots Q (F0 m pc ls (.int (zi j) :: .ref (B f 0) :: rest)) := by
  have key := g_aald C hX.1 (x_r f 0) t (n := n) (f := fun j : Nat => G f j) (rest := rest) (by rw [x_cef hf (Int.le_refl 0)]; exact xK_r h0 h) ht hr hj hn (v := some a) (by show G f ((j.toNat : Nat) : Int) = _; rw [Int.toNat_of_nonneg hj.1]; exact hG) hdg kk
  rw [x_adf hf (Int.le_refl 0)] at key
  exact key
theorem x_astT (C : Cx p s m args meth c A own cc nL rt E) (hX : XH E A B F M G T H) (hS : va_S A s.heap H locs) (j : Nat) (hj : j < 28) {a ci : Nat} {vs : List Value} (hT : T j = some (a, .inr (ci, vs))) {r : vw_C} (hc : us_cl[ci]? = some r) (f : Nat) {t n : Nat} (h0 : xsp f = none) (h : xrf f = some (t, n)) (hf : f < 100) (ht : (us_T E.2)[t]? = some (E.2 t, .object r.1)) {i : Int} (hi : 0 ≤ i ∧ i < n) (hn : n < 2147483648) (hfree : ∀ g, xgf f = some g → xgn F f ≤ i) (hdg : decode cc pc = .ok (.aastore, 1)) {G' : Nat → Int → Option Nat} (hG' : va_up G f (fup (G f) i (some a)) = G') (kk : ∀ (H : Heap) (locs : List Loc), XH E A B F M G' T H → va_S A s.heap H locs → W p l e R s m args below meth c H locs cells slots Q (F0 m (pc + 1) ls rest)) : W p l e R s m args below meth c H locs cells slots Q (F0 m pc ls (.ref a :: .int (zi i) :: .ref (B f 0) :: rest)) := by
  have hc0 : x_ce (xK E.2 B F M G) T (x_r f 0) = some (.inl (E.2 t, n, .inr (.inr (.inr (.inr (fun j : Nat => G f j)))))) := by rw [x_cef hf (Int.le_refl 0)]; exact xK_r h0 h
  have c0 : H[B f 0]? = some (vp_cell (E.2 t) (n, .inr (.inr (.inr (.inr (fun j : Nat => G f j)))))) := by
    have z := hX.1.1 _ _ hc0
    rw [x_adf hf (Int.le_refl 0)] at z
    exact z
  have hAa : A (B f 0) := by
    have z := hX.1.2.2 _ (rw_some hc0)
    rw [x_adf hf (Int.le_refl 0)] at z
    exact z
  obtain ⟨r', hr', cellV, g1, g2, g3, -⟩ := hX.1.1 _ _ (x_cet hj hT)
  rw [x_adt hj hT] at g1
  have hcls := (C.k.1.1 ci r hc).2
  obtain ⟨kA, comp, k1, k2, k3, -⟩ := (C.k.1.2 t _ ht).2
  have hcomp : comp = E.1.1 ci := Option.some.inj (k3.symm.trans hcls.1)
  subst hcomp
  obtain ⟨kC, hkC, -⟩ := hcls.2
  have hin : vp_in (zi i) n := zi_in hi hn
  have hneg : ¬ zi i < 0 := fun q => hin (Or.inl q)
  have hlt : (zi i).toNatClampNeg < n := Nat.not_le.mp fun q => hin (Or.inr q)
  have hcl : (zi i).toNatClampNeg = i.toNat := zi_cl (by omega)
  have hsz : (zi i).toNatClampNeg < (vp_cell (E.2 t) (n, .inr (.inr (.inr (.inr (fun j : Nat => G f j)))))).slots.size := by rw [vp_cell_q, arrV_size]; exact hlt
  refine W.aast C.x C.b (a := B f 0) (v := a) c0 (fun q h => by cases h) (fun h => by cases h) k1 k2 rfl hkC ⟨hneg, hsz⟩ g1 (fun q h => by rw [g3] at h; cases h) (by rw [g2]; exact hkC) (by rw [g2]; exact va_assign hcls) rfl rfl hdg fun H1 e z oq => ?_
  have he : va_at E.1 us_cl (B f 0, .inl (E.2 t, n, .inr (.inr (.inr (.inr (fun x : Nat => fup (G f) i (some a) x)))))) H1 := by
    show H1[B f 0]? = some (vp_cell (E.2 t) (n, .inr (.inr (.inr (.inr (fun x : Nat => fup (G f) i (some a) x))))))
    rw [e]
    rw [vp_cell_q, vp_cell_q, arrV_store]
    congr 2
    funext q
    rw [hcl]
    by_cases hq : q = i.toNat
    · subst hq
      have h5 : ((i.toNat : Nat) : Int) = i := Int.toNat_of_nonneg (by omega)
      simp [updV, h5, fup_s, va_rf]
    · have h5 : ¬ ((q : Nat) : Int) = i := by omega
      simp only [updV, if_neg hq, fup_n _ _ h5]
  have h1 := rw_set (k := x_r f 0) hX.1 hc0 (by rw [x_adf hf (Int.le_refl 0)]; exact he) (by rw [x_adf hf (Int.le_refl 0)]; exact oq)
  rw [x_ceu hf (Int.le_refl 0), xK_G (f := f) h0 h] at h1
  subst hG'
  refine kk H1 _ ⟨h1, hX.2.1, hX.2.2.1, fun f' g0 hg x hx0 hx => ?_⟩ (hS.put z oq hAa)
  by_cases e1 : f' = f
  · subst e1
    have hx2 := hfree g0 hg
    rw [va_up_self, fup_n _ _ (by omega)]
    exact hX.2.2.2 f' g0 hg x hx0 hx
  · rw [va_up_ne _ _ e1]; exact hX.2.2.2 f' g0 hg x hx0 hx
end ROWS9
theorem xK_n0 {tc : Nat → ClassId} {B : Nat → Int → Nat} {F : Nat → Int} {M : Nat → Int → Int} {G : Nat → Int → Option Nat} {f : Nat} {i : Int} (h0 : xsp f = none) (h1 : xrf f = none) (h2 : xpr F M f i = none) (h3 : xob B F M f i = none) : xK tc B F M G f i = none := by
  unfold xK
  rw [h0, h1, h2, h3]
  rfl
theorem xKe_54 {tc : Nat → ClassId} {B : Nat → Int → Nat} {F : Nat → Int} {M : Nat → Int → Int} {G : Nat → Int → Option Nat} {i : Int} : xK tc B F M G 54 i = if 0 ≤ i ∧ i < F 35 then some (.inl (tc 0, (M 202 i).toNat, .inl (fun j : Nat => zi (xrow 6 (M 54) i j)))) else none := by
  by_cases h : 0 ≤ i ∧ i < F 35
  · rw [if_pos h]; exact xK_d rfl rfl (if_pos h)
  · rw [if_neg h]; exact xK_n0 rfl rfl (if_neg h) rfl
theorem xKe_56 {tc : Nat → ClassId} {B : Nat → Int → Nat} {F : Nat → Int} {M : Nat → Int → Int} {G : Nat → Int → Option Nat} {i : Int} : xK tc B F M G 56 i = if 0 ≤ i ∧ i < F 6 then some (.inl (tc 0, (M 200 i).toNat, .inl (fun j : Nat => zi (xrow 24 (M 56) i j)))) else none := by
  by_cases h : 0 ≤ i ∧ i < F 6
  · rw [if_pos h]; exact xK_d rfl rfl (if_pos h)
  · rw [if_neg h]; exact xK_n0 rfl rfl (if_neg h) rfl
theorem xKe_58 {tc : Nat → ClassId} {B : Nat → Int → Nat} {F : Nat → Int} {M : Nat → Int → Int} {G : Nat → Int → Option Nat} {i : Int} : xK tc B F M G 58 i = if 0 ≤ i ∧ i < F 24 then some (.inl (tc 0, (M 201 i).toNat, .inl (fun j : Nat => zi (xrow 8 (M 58) i j)))) else none := by
  by_cases h : 0 ≤ i ∧ i < F 24
  · rw [if_pos h]; exact xK_d rfl rfl (if_pos h)
  · rw [if_neg h]; exact xK_n0 rfl rfl (if_neg h) rfl
theorem xKe_55 {tc : Nat → ClassId} {B : Nat → Int → Nat} {F : Nat → Int} {M : Nat → Int → Int} {G : Nat → Int → Option Nat} {i : Int} : xK tc B F M G 55 i = if 0 ≤ i ∧ i < F 6 then some (.inr (1, [.ref (B 56 i)])) else none := by
  by_cases h : 0 ≤ i ∧ i < F 6
  · rw [if_pos h]; exact xK_o rfl rfl rfl (if_pos h)
  · rw [if_neg h]; exact xK_n0 rfl rfl rfl (if_neg h)
theorem xKe_57 {tc : Nat → ClassId} {B : Nat → Int → Nat} {F : Nat → Int} {M : Nat → Int → Int} {G : Nat → Int → Option Nat} {i : Int} : xK tc B F M G 57 i = if 0 ≤ i ∧ i < F 24 then some (.inr (2, [.ref (B 58 i)])) else none := by
  by_cases h : 0 ≤ i ∧ i < F 24
  · rw [if_pos h]; exact xK_o rfl rfl rfl (if_pos h)
  · rw [if_neg h]; exact xK_n0 rfl rfl rfl (if_neg h)
theorem xKe_59 {tc : Nat → ClassId} {B : Nat → Int → Nat} {F : Nat → Int} {M : Nat → Int → Int} {G : Nat → Int → Option Nat} {i : Int} : xK tc B F M G 59 i = if 0 ≤ i ∧ i < F 43 then some (.inr (4, [.int (zi (M 205 i)), .int (zi (M 206 i)), .int (zi (M 207 i)), .int (zi (M 208 i)), .int (zi (M 209 i))])) else none := by
  by_cases h : 0 ≤ i ∧ i < F 43
  · rw [if_pos h]; exact xK_o rfl rfl rfl (if_pos h)
  · rw [if_neg h]; exact xK_n0 rfl rfl rfl (if_neg h)
theorem xKe_60 {tc : Nat → ClassId} {B : Nat → Int → Nat} {F : Nat → Int} {M : Nat → Int → Int} {G : Nat → Int → Option Nat} {i : Int} : xK tc B F M G 60 i = if 0 ≤ i ∧ i < 4 then some (.inr (5, [if M 203 i = -4 then .null else .ref (B 61 i), .int (zi (M 204 i))])) else none := by
  by_cases h : 0 ≤ i ∧ i < 4
  · rw [if_pos h]; exact xK_o rfl rfl rfl (if_pos h)
  · rw [if_neg h]; exact xK_n0 rfl rfl rfl (if_neg h)
theorem xKe_61 {tc : Nat → ClassId} {B : Nat → Int → Nat} {F : Nat → Int} {M : Nat → Int → Int} {G : Nat → Int → Option Nat} {i : Int} : xK tc B F M G 61 i = if (0 ≤ i ∧ i < 4) ∧ ¬ M 203 i = -4 then some (.inl (tc (if M 203 i = 0 then 1 else if M 203 i = 1 then 2 else 0), (M 204 i).toNat, .inl (fun j : Nat => zi (xrow 60 (M 61) i j)))) else none := by
  by_cases h : (0 ≤ i ∧ i < 4) ∧ ¬ M 203 i = -4
  · rw [if_pos h]; exact xK_d rfl rfl (if_pos h)
  · rw [if_neg h]; exact xK_n0 rfl rfl (if_neg h) rfl
theorem xKe_49 {tc : Nat → ClassId} {B : Nat → Int → Nat} {F : Nat → Int} {M : Nat → Int → Int} {G : Nat → Int → Option Nat} {i : Int} : xK tc B F M G 49 i = if i = 0 then some (.inr (0, xF B F)) else none := by
  by_cases h : i = 0
  · rw [if_pos h]; exact xK_o rfl rfl rfl (if_pos h)
  · rw [if_neg h]; exact xK_n0 rfl rfl rfl (if_neg h)
theorem xsp_100 {f : Nat} (h : 100 ≤ f) : xsp f = none := by
  unfold xsp
  split <;> first | rfl | omega
theorem xK_oth {tc : Nat → ClassId} {B B' : Nat → Int → Nat} {F F' : Nat → Int} {M M' : Nat → Int → Int} {G : Nat → Int → Option Nat} {f : Nat} {i : Int} (h : ¬ (f = 49 ∨ f = 54 ∨ f = 55 ∨ f = 56 ∨ f = 57 ∨ f = 58 ∨ f = 59 ∨ f = 60 ∨ f = 61)) (hM : f < 100 → M' f = M f) : xK tc B F M G f i = xK tc B' F' M' G f i := by
  have ep : ∀ F M, xpr F M f i = none := fun F M => by
    unfold xpr
    rw [if_neg (by omega), if_neg (by omega), if_neg (by omega), if_neg (by omega)]
  have eo : ∀ B F M, xob B F M f i = none := fun B F M => by
    unfold xob
    rw [if_neg (by omega), if_neg (by omega), if_neg (by omega), if_neg (by omega), if_neg (by omega)]
  unfold xK
  rw [ep, ep, eo, eo]
  rcases Nat.lt_or_ge f 100 with q | q
  · rw [hM q]
  · rw [xsp_100 q]
theorem xF_B {B B' : Nat → Int → Nat} {F : Nat → Int} (h : ∀ k, k < 49 → B' k = B k) : xF B F = xF B' F := by
  unfold xF
  apply List.map_congr_left
  intro k hk
  rw [h k (List.mem_range.mp hk)]
/-- a part of a map of rows replaced -/
def spw (st : Int) (m : Int → Int) (k : Int) (g : Int → Int) : Int → Int := fun x => if st * k ≤ x ∧ x < st * k + st then g (x - st * k) else m x
theorem xK_jname {tc : Nat → ClassId} {B : Nat → Int → Nat} {F : Nat → Int} {M : Nat → Int → Int} {G : Nat → Int → Option Nat} {a0 a1 : Nat} {n : Int} {g : Int → Int} (hk : 0 ≤ F 24) (hg : ∀ x : Int, 8 ≤ x → g x = 0) : va_up (va_up (va_up (xK tc B F M G) 49 (fup (xK tc B F M G 49) 0 (some (.inr (0, (xF B F).set 24 (.int (zi (F 24 + 1)))))))) 58 (fup ((va_up (xK tc B F M G) 49 (fup (xK tc B F M G 49) 0 (some (.inr (0, (xF B F).set 24 (.int (zi (F 24 + 1)))))))) 58) (F 24) (some (.inl (tc 0, n.toNat, .inl (fun j : Nat => zi (g j))))))) 57 (fup ((va_up (va_up (xK tc B F M G) 49 (fup (xK tc B F M G 49) 0 (some (.inr (0, (xF B F).set 24 (.int (zi (F 24 + 1)))))))) 58 (fup ((va_up (xK tc B F M G) 49 (fup (xK tc B F M G 49) 0 (some (.inr (0, (xF B F).set 24 (.int (zi (F 24 + 1)))))))) 58) (F 24) (some (.inl (tc 0, n.toNat, .inl (fun j : Nat => zi (g j))))))) 57) (F 24) (some (.inr (2, [.ref a0])))) = xK tc (va_up (va_up B 57 (fup (B 57) (F 24) a1)) 58 (fup (B 58) (F 24) a0)) (va_up F 24 (F 24 + 1)) (va_up (va_up M 58 (spw 8 (M 58) (F 24) g)) 201 (fup (M 201) (F 24) n)) G := by
  have fk : va_up F 24 (F 24 + 1) 24 = F 24 + 1 := va_up_self _ _ _
  funext f i
  by_cases eo : f = 57
  · subst eo
    rw [va_up_self, xKe_57, fk]
    by_cases ei : i = F 24
    · subst ei
      rw [fup_s, if_pos ⟨hk, by omega⟩, va_up_self, fup_s]
    · rw [fup_n _ _ ei, va_up_ne _ _ (by decide), va_up_ne _ _ (by decide), xKe_57]
      by_cases q : 0 ≤ i ∧ i < F 24
      · rw [if_pos q, if_pos ⟨q.1, by omega⟩, va_up_self, fup_n _ _ ei]
      · rw [if_neg q, if_neg (by omega)]
  rw [va_up_ne _ _ eo]
  by_cases ea : f = 58
  · subst ea
    rw [va_up_self, xKe_58, fk]
    by_cases ei : i = F 24
    · subst ei
      rw [fup_s, if_pos ⟨hk, by omega⟩, va_up_self, fup_s, va_up_ne _ _ (by decide), va_up_self]
      have ef : (fun j : Nat => zi (g j)) = (fun j : Nat => zi (xrow 8 (spw 8 (M 58) (F 24) g) (F 24) j)) := by
        funext j
        by_cases q : (j : Int) < 8
        · have c1 : 0 ≤ (j : Int) ∧ (j : Int) < (8 : Nat) := ⟨by omega, by omega⟩
          rw [xrow_in c1]
          show _ = zi (if 8 * F 24 ≤ ((8 : Nat) : Int) * F 24 + (j : Int) ∧ ((8 : Nat) : Int) * F 24 + (j : Int) < 8 * F 24 + 8 then g (((8 : Nat) : Int) * F 24 + (j : Int) - 8 * F 24) else _)
          rw [if_pos ⟨by omega, by omega⟩, show ((8 : Nat) : Int) * F 24 + (j : Int) - 8 * F 24 = (j : Int) by omega]
        · have c1 : ¬ (0 ≤ (j : Int) ∧ (j : Int) < ((8 : Nat) : Int)) := by omega
          rw [show xrow 8 (spw 8 (M 58) (F 24) g) (F 24) (j : Int) = 0 from if_neg c1, hg _ (by omega)]
      rw [ef]
    · rw [fup_n _ _ ei, va_up_ne _ _ (by decide), xKe_58]
      by_cases q : 0 ≤ i ∧ i < F 24
      · rw [if_pos q, if_pos ⟨q.1, by omega⟩, va_up_self, fup_n _ _ ei, va_up_ne _ _ (by decide), va_up_self]
        have er : xrow 8 (spw 8 (M 58) (F 24) g) i = xrow 8 (M 58) i := by
          funext x
          unfold xrow
          by_cases z : 0 ≤ x ∧ x < ((8 : Nat) : Int)
          · rw [if_pos z, if_pos z]
            exact if_neg (by omega)
          · rw [if_neg z, if_neg z]
        rw [er]
      · rw [if_neg q, if_neg (by omega)]
  rw [va_up_ne _ _ ea]
  by_cases e49 : f = 49
  · subst e49
    rw [va_up_self, xKe_49]
    by_cases ei : i = 0
    · subst ei
      rw [fup_s, if_pos rfl, xF_set rfl, xF_B (B' := (va_up (va_up B 57 (fup (B 57) (F 24) a1)) 58 (fup (B 58) (F 24) a0))) (fun k hk => by rw [va_up_ne _ _ (by omega), va_up_ne _ _ (by omega)])]
    · rw [fup_n _ _ ei, if_neg ei, xKe_49, if_neg ei]
  rw [va_up_ne _ _ e49]
  by_cases e54 : f = 54
  · subst e54
    skip
    exact xKe_54.trans (xKe_54 (B := (va_up (va_up B 57 (fup (B 57) (F 24) a1)) 58 (fup (B 58) (F 24) a0))) (F := (va_up F 24 (F 24 + 1))) (M := (va_up (va_up M 58 (spw 8 (M 58) (F 24) g)) 201 (fup (M 201) (F 24) n)))).symm
  by_cases e55 : f = 55
  · subst e55
    skip
    exact xKe_55.trans (xKe_55 (B := (va_up (va_up B 57 (fup (B 57) (F 24) a1)) 58 (fup (B 58) (F 24) a0))) (F := (va_up F 24 (F 24 + 1))) (M := (va_up (va_up M 58 (spw 8 (M 58) (F 24) g)) 201 (fup (M 201) (F 24) n)))).symm
  by_cases e56 : f = 56
  · subst e56
    skip
    exact xKe_56.trans (xKe_56 (B := (va_up (va_up B 57 (fup (B 57) (F 24) a1)) 58 (fup (B 58) (F 24) a0))) (F := (va_up F 24 (F 24 + 1))) (M := (va_up (va_up M 58 (spw 8 (M 58) (F 24) g)) 201 (fup (M 201) (F 24) n)))).symm
  by_cases e59 : f = 59
  · subst e59
    skip
    exact xKe_59.trans (xKe_59 (B := (va_up (va_up B 57 (fup (B 57) (F 24) a1)) 58 (fup (B 58) (F 24) a0))) (F := (va_up F 24 (F 24 + 1))) (M := (va_up (va_up M 58 (spw 8 (M 58) (F 24) g)) 201 (fup (M 201) (F 24) n)))).symm
  by_cases e60 : f = 60
  · subst e60
    skip
    exact xKe_60.trans (xKe_60 (B := (va_up (va_up B 57 (fup (B 57) (F 24) a1)) 58 (fup (B 58) (F 24) a0))) (F := (va_up F 24 (F 24 + 1))) (M := (va_up (va_up M 58 (spw 8 (M 58) (F 24) g)) 201 (fup (M 201) (F 24) n)))).symm
  by_cases e61 : f = 61
  · subst e61
    skip
    exact xKe_61.trans (xKe_61 (B := (va_up (va_up B 57 (fup (B 57) (F 24) a1)) 58 (fup (B 58) (F 24) a0))) (F := (va_up F 24 (F 24 + 1))) (M := (va_up (va_up M 58 (spw 8 (M 58) (F 24) g)) 201 (fup (M 201) (F 24) n)))).symm
  exact xK_oth (by omega) (fun q => by rw [va_up_ne _ _ (by omega), va_up_ne _ _ ea])
section Jname
variable {p : Program} {l : Launch} {e : Env} {R : Room} {s : State} {m : MethodId} {args : Array Value} {below : List Frame} {meth : Method} {c : Code} {H : Heap} {locs : List Loc} {cells slots : Nat} {Q : State → Prop}
variable {A : Nat → Prop} {own : String} {cc : ByteArray} {nL : Nat} {rt : Option FieldType} {E : us_E} {pc : Nat} {ls : Array Slot} {rest : List Value} {B : Nat → Int → Nat} {F : Nat → Int} {M : Nat → Int → Int} {G : Nat → Int → Option Nat} {T : x_T}
theorem x_pname (C : Cx p s m args meth c A own cc nL rt E) (hX : XH E A B F M G T H) (hS : va_S A s.heap H locs) {a0 a1 : Nat} {n : Int} {g : Int → Int} (hT0 : T 0 = some (tA E a0 n.toNat g)) (hT1 : T 1 = some (a1, .inr (2, [.ref a0]))) (hG : G 23 (F 24) = some a1) (hk : F 24 ≤ 3) (hn : 0 ≤ n ∧ n ≤ 8) (hg0 : ∀ x : Int, 8 ≤ x → g x = 0) (hgb : ∀ x : Int, 0 ≤ x → x < 8 → 0 ≤ g x ∧ g x ≤ 3) {ref : String} {index : Nat} (hlink : Cond.fieldLink own index ref (TX0 24).2.1 (TX0 24).2.2.1 ∈ lw_all) (hsame : ∀ x, s.fieldFound? (TX0 24).1 (TX0 24).2.1 (TX0 24).2.2.1 = some x → s.fieldFound? ref (TX0 24).2.1 (TX0 24).2.2.1 = some x) (hdg : decode cc pc = .ok (.putfield index, 3)) (kk : ∀ (H : Heap) (locs : List Loc), XH E A (va_up (va_up B 57 (fup (B 57) (F 24) a1)) 58 (fup (B 58) (F 24) a0)) (va_up F 24 (F 24 + 1)) (va_up (va_up M 58 (spw 8 (M 58) (F 24) g)) 201 (fup (M 201) (F 24) n)) G (va_up (va_up T 0 none) 1 none) H → va_S A s.heap H locs → W p l e R s m args below meth c H locs cells slots Q (F0 m (pc + 3) ls rest)) : W p l e R s m args below meth c H locs cells slots Q (F0 m pc ls (.int (zi (F 24 + 1)) :: .ref (B 49 0) :: rest)) := by
  have hkr : 0 ≤ F 24 ∧ F 24 ≤ 4 := hX.2.1 24 (0, 4) rfl
  have key := g_put C hX.1 hS (x_r 49 0) (Cn := RX0) (T := TX0) (N := 49) (ci := 0) (fs := xF B F) (by rw [x_cef (by omega) (Int.le_refl 0)]; exact xK_49) rfl in_X0 tyX0 tyX0_ok nmX0 24 (by decide) hlink hsame rfl (v := .int (zi (F 24 + 1))) rfl rfl (by show 24 < (List.map _ (List.range 49)).length; rw [List.length_map, List.length_range]; decide) hdg (fun H1 locs1 h1 h2 => kk H1 locs1 (by
    rw [x_ceu (by omega) (Int.le_refl 0)] at h1
    have h3 := x_join h1 (f := 58) (i := F 24) (by decide) hkr.1 (by decide) hT0
    have h4 := x_join h3 (f := 57) (i := F 24) (j := 1) (a := a1) (e := .inr (2, [.ref a0])) (by decide) hkr.1 (by decide) (by rw [va_up_ne _ _ (by decide)]; exact hT1)
    rw [xK_jname (a1 := a1) hkr.1 hg0] at h4
    have eB : va_up (va_up B 58 (fup (B 58) (F 24) a0)) 57 (fup (va_up B 58 (fup (B 58) (F 24) a0) 57) (F 24) a1) = (va_up (va_up B 57 (fup (B 57) (F 24) a1)) 58 (fup (B 58) (F 24) a0)) := up_in (by decide) rfl
    rw [eB] at h4
    refine ⟨h4, mb_up hX.2.1 (fun q hq => by cases hq; exact ⟨by show 0 ≤ F 24 + 1; omega, by show F 24 + 1 ≤ 4; omega⟩), fun f q hq x => ?_, fun f g0 hg x h0 hx => ?_⟩
    · by_cases e1 : f = 58
      · subst e1
        cases hq
        rw [va_up_ne _ _ (by decide), va_up_self]
        show 0 ≤ (if 8 * F 24 ≤ x ∧ x < 8 * F 24 + 8 then g (x - 8 * F 24) else M 58 x) ∧ (if 8 * F 24 ≤ x ∧ x < 8 * F 24 + 8 then g (x - 8 * F 24) else M 58 x) ≤ 3
        by_cases z : 8 * F 24 ≤ x ∧ x < 8 * F 24 + 8
        · rw [if_pos z]; exact hgb _ (by omega) (by omega)
        · rw [if_neg z]; exact hX.2.2.1 58 (0, 3) rfl x
      · by_cases e2 : f = 201
        · subst e2
          cases hq
          rw [va_up_self]
          by_cases z : x = F 24
          · rw [z, fup_s]; exact hn
          · rw [fup_n _ _ z]; exact hX.2.2.1 201 (0, 8) rfl x
        · rw [va_up_ne _ _ e2, va_up_ne _ _ e1]; exact hX.2.2.1 f q hq x
    · by_cases e1 : f = 23
      · subst e1
        cases hg
        have hx2 : x < F 24 + 1 := hx
        rw [va_up_ne _ _ (by decide), va_up_self]
        by_cases z : x = F 24
        · rw [z, fup_s]; exact hG
        · rw [fup_n _ _ z]; exact hX.2.2.2 23 57 rfl x h0 (by show x < F 24; omega)
      · have en : xgn (va_up F 24 (F 24 + 1)) f = xgn F f := by
          unfold xgn
          split <;> first | rfl | exact absurd rfl e1
        have eg : ¬ g0 = 57 ∧ ¬ g0 = 58 := ⟨fun z => by
          subst z
          unfold xgf at hg
          split at hg <;> first | (cases hg; done) | exact absurd rfl e1, fun z => by
          subst z
          unfold xgf at hg
          split at hg <;> first | (cases hg; done) | exact absurd rfl e1⟩
        rw [va_up_ne _ _ eg.2, va_up_ne _ _ eg.1]
        exact hX.2.2.2 f g0 hg x h0 (by rw [← en]; exact hx)) h2)
  rw [x_adf (by omega) (Int.le_refl 0)] at key
  exact key
end Jname
theorem xK_jtext {tc : Nat → ClassId} {B : Nat → Int → Nat} {F : Nat → Int} {M : Nat → Int → Int} {G : Nat → Int → Option Nat} {a0 a1 : Nat} {n : Int} {g : Int → Int} (hk : 0 ≤ F 6) (hg : ∀ x : Int, 24 ≤ x → g x = 0) : va_up (va_up (va_up (xK tc B F M G) 49 (fup (xK tc B F M G 49) 0 (some (.inr (0, (xF B F).set 6 (.int (zi (F 6 + 1)))))))) 56 (fup ((va_up (xK tc B F M G) 49 (fup (xK tc B F M G 49) 0 (some (.inr (0, (xF B F).set 6 (.int (zi (F 6 + 1)))))))) 56) (F 6) (some (.inl (tc 0, n.toNat, .inl (fun j : Nat => zi (g j))))))) 55 (fup ((va_up (va_up (xK tc B F M G) 49 (fup (xK tc B F M G 49) 0 (some (.inr (0, (xF B F).set 6 (.int (zi (F 6 + 1)))))))) 56 (fup ((va_up (xK tc B F M G) 49 (fup (xK tc B F M G 49) 0 (some (.inr (0, (xF B F).set 6 (.int (zi (F 6 + 1)))))))) 56) (F 6) (some (.inl (tc 0, n.toNat, .inl (fun j : Nat => zi (g j))))))) 55) (F 6) (some (.inr (1, [.ref a0])))) = xK tc (va_up (va_up B 55 (fup (B 55) (F 6) a1)) 56 (fup (B 56) (F 6) a0)) (va_up F 6 (F 6 + 1)) (va_up (va_up M 56 (spw 24 (M 56) (F 6) g)) 200 (fup (M 200) (F 6) n)) G := by
  have fk : va_up F 6 (F 6 + 1) 6 = F 6 + 1 := va_up_self _ _ _
  funext f i
  by_cases eo : f = 55
  · subst eo
    rw [va_up_self, xKe_55, fk]
    by_cases ei : i = F 6
    · subst ei
      rw [fup_s, if_pos ⟨hk, by omega⟩, va_up_self, fup_s]
    · rw [fup_n _ _ ei, va_up_ne _ _ (by decide), va_up_ne _ _ (by decide), xKe_55]
      by_cases q : 0 ≤ i ∧ i < F 6
      · rw [if_pos q, if_pos ⟨q.1, by omega⟩, va_up_self, fup_n _ _ ei]
      · rw [if_neg q, if_neg (by omega)]
  rw [va_up_ne _ _ eo]
  by_cases ea : f = 56
  · subst ea
    rw [va_up_self, xKe_56, fk]
    by_cases ei : i = F 6
    · subst ei
      rw [fup_s, if_pos ⟨hk, by omega⟩, va_up_self, fup_s, va_up_ne _ _ (by decide), va_up_self]
      have ef : (fun j : Nat => zi (g j)) = (fun j : Nat => zi (xrow 24 (spw 24 (M 56) (F 6) g) (F 6) j)) := by
        funext j
        by_cases q : (j : Int) < 24
        · have c1 : 0 ≤ (j : Int) ∧ (j : Int) < (24 : Nat) := ⟨by omega, by omega⟩
          rw [xrow_in c1]
          show _ = zi (if 24 * F 6 ≤ ((24 : Nat) : Int) * F 6 + (j : Int) ∧ ((24 : Nat) : Int) * F 6 + (j : Int) < 24 * F 6 + 24 then g (((24 : Nat) : Int) * F 6 + (j : Int) - 24 * F 6) else _)
          rw [if_pos ⟨by omega, by omega⟩, show ((24 : Nat) : Int) * F 6 + (j : Int) - 24 * F 6 = (j : Int) by omega]
        · have c1 : ¬ (0 ≤ (j : Int) ∧ (j : Int) < ((24 : Nat) : Int)) := by omega
          rw [show xrow 24 (spw 24 (M 56) (F 6) g) (F 6) (j : Int) = 0 from if_neg c1, hg _ (by omega)]
      rw [ef]
    · rw [fup_n _ _ ei, va_up_ne _ _ (by decide), xKe_56]
      by_cases q : 0 ≤ i ∧ i < F 6
      · rw [if_pos q, if_pos ⟨q.1, by omega⟩, va_up_self, fup_n _ _ ei, va_up_ne _ _ (by decide), va_up_self]
        have er : xrow 24 (spw 24 (M 56) (F 6) g) i = xrow 24 (M 56) i := by
          funext x
          unfold xrow
          by_cases z : 0 ≤ x ∧ x < ((24 : Nat) : Int)
          · rw [if_pos z, if_pos z]
            exact if_neg (by omega)
          · rw [if_neg z, if_neg z]
        rw [er]
      · rw [if_neg q, if_neg (by omega)]
  rw [va_up_ne _ _ ea]
  by_cases e49 : f = 49
  · subst e49
    rw [va_up_self, xKe_49]
    by_cases ei : i = 0
    · subst ei
      rw [fup_s, if_pos rfl, xF_set rfl, xF_B (B' := (va_up (va_up B 55 (fup (B 55) (F 6) a1)) 56 (fup (B 56) (F 6) a0))) (fun k hk => by rw [va_up_ne _ _ (by omega), va_up_ne _ _ (by omega)])]
    · rw [fup_n _ _ ei, if_neg ei, xKe_49, if_neg ei]
  rw [va_up_ne _ _ e49]
  by_cases e54 : f = 54
  · subst e54
    skip
    exact xKe_54.trans (xKe_54 (B := (va_up (va_up B 55 (fup (B 55) (F 6) a1)) 56 (fup (B 56) (F 6) a0))) (F := (va_up F 6 (F 6 + 1))) (M := (va_up (va_up M 56 (spw 24 (M 56) (F 6) g)) 200 (fup (M 200) (F 6) n)))).symm
  by_cases e57 : f = 57
  · subst e57
    skip
    exact xKe_57.trans (xKe_57 (B := (va_up (va_up B 55 (fup (B 55) (F 6) a1)) 56 (fup (B 56) (F 6) a0))) (F := (va_up F 6 (F 6 + 1))) (M := (va_up (va_up M 56 (spw 24 (M 56) (F 6) g)) 200 (fup (M 200) (F 6) n)))).symm
  by_cases e58 : f = 58
  · subst e58
    skip
    exact xKe_58.trans (xKe_58 (B := (va_up (va_up B 55 (fup (B 55) (F 6) a1)) 56 (fup (B 56) (F 6) a0))) (F := (va_up F 6 (F 6 + 1))) (M := (va_up (va_up M 56 (spw 24 (M 56) (F 6) g)) 200 (fup (M 200) (F 6) n)))).symm
  by_cases e59 : f = 59
  · subst e59
    skip
    exact xKe_59.trans (xKe_59 (B := (va_up (va_up B 55 (fup (B 55) (F 6) a1)) 56 (fup (B 56) (F 6) a0))) (F := (va_up F 6 (F 6 + 1))) (M := (va_up (va_up M 56 (spw 24 (M 56) (F 6) g)) 200 (fup (M 200) (F 6) n)))).symm
  by_cases e60 : f = 60
  · subst e60
    skip
    exact xKe_60.trans (xKe_60 (B := (va_up (va_up B 55 (fup (B 55) (F 6) a1)) 56 (fup (B 56) (F 6) a0))) (F := (va_up F 6 (F 6 + 1))) (M := (va_up (va_up M 56 (spw 24 (M 56) (F 6) g)) 200 (fup (M 200) (F 6) n)))).symm
  by_cases e61 : f = 61
  · subst e61
    skip
    exact xKe_61.trans (xKe_61 (B := (va_up (va_up B 55 (fup (B 55) (F 6) a1)) 56 (fup (B 56) (F 6) a0))) (F := (va_up F 6 (F 6 + 1))) (M := (va_up (va_up M 56 (spw 24 (M 56) (F 6) g)) 200 (fup (M 200) (F 6) n)))).symm
  exact xK_oth (by omega) (fun q => by rw [va_up_ne _ _ (by omega), va_up_ne _ _ ea])
section Jtext
variable {p : Program} {l : Launch} {e : Env} {R : Room} {s : State} {m : MethodId} {args : Array Value} {below : List Frame} {meth : Method} {c : Code} {H : Heap} {locs : List Loc} {cells slots : Nat} {Q : State → Prop}
variable {A : Nat → Prop} {own : String} {cc : ByteArray} {nL : Nat} {rt : Option FieldType} {E : us_E} {pc : Nat} {ls : Array Slot} {rest : List Value} {B : Nat → Int → Nat} {F : Nat → Int} {M : Nat → Int → Int} {G : Nat → Int → Option Nat} {T : x_T}
theorem x_ptext (C : Cx p s m args meth c A own cc nL rt E) (hX : XH E A B F M G T H) (hS : va_S A s.heap H locs) {a0 a1 : Nat} {n : Int} {g : Int → Int} (hT0 : T 0 = some (tA E a0 n.toNat g)) (hT1 : T 1 = some (a1, .inr (1, [.ref a0]))) (hG : G 5 (F 6) = some a1) (hk : F 6 ≤ 7) (hn : 0 ≤ n ∧ n ≤ 24) (hg0 : ∀ x : Int, 24 ≤ x → g x = 0) (hgb : ∀ x : Int, 0 ≤ x → x < 24 → -2 ≤ g x ∧ g x ≤ 23) {ref : String} {index : Nat} (hlink : Cond.fieldLink own index ref (TX0 6).2.1 (TX0 6).2.2.1 ∈ lw_all) (hsame : ∀ x, s.fieldFound? (TX0 6).1 (TX0 6).2.1 (TX0 6).2.2.1 = some x → s.fieldFound? ref (TX0 6).2.1 (TX0 6).2.2.1 = some x) (hdg : decode cc pc = .ok (.putfield index, 3)) (kk : ∀ (H : Heap) (locs : List Loc), XH E A (va_up (va_up B 55 (fup (B 55) (F 6) a1)) 56 (fup (B 56) (F 6) a0)) (va_up F 6 (F 6 + 1)) (va_up (va_up M 56 (spw 24 (M 56) (F 6) g)) 200 (fup (M 200) (F 6) n)) G (va_up (va_up T 0 none) 1 none) H → va_S A s.heap H locs → W p l e R s m args below meth c H locs cells slots Q (F0 m (pc + 3) ls rest)) : W p l e R s m args below meth c H locs cells slots Q (F0 m pc ls (.int (zi (F 6 + 1)) :: .ref (B 49 0) :: rest)) := by
  have hkr : 0 ≤ F 6 ∧ F 6 ≤ 8 := hX.2.1 6 (0, 8) rfl
  have key := g_put C hX.1 hS (x_r 49 0) (Cn := RX0) (T := TX0) (N := 49) (ci := 0) (fs := xF B F) (by rw [x_cef (by omega) (Int.le_refl 0)]; exact xK_49) rfl in_X0 tyX0 tyX0_ok nmX0 6 (by decide) hlink hsame rfl (v := .int (zi (F 6 + 1))) rfl rfl (by show 6 < (List.map _ (List.range 49)).length; rw [List.length_map, List.length_range]; decide) hdg (fun H1 locs1 h1 h2 => kk H1 locs1 (by
    rw [x_ceu (by omega) (Int.le_refl 0)] at h1
    have h3 := x_join h1 (f := 56) (i := F 6) (by decide) hkr.1 (by decide) hT0
    have h4 := x_join h3 (f := 55) (i := F 6) (j := 1) (a := a1) (e := .inr (1, [.ref a0])) (by decide) hkr.1 (by decide) (by rw [va_up_ne _ _ (by decide)]; exact hT1)
    rw [xK_jtext (a1 := a1) hkr.1 hg0] at h4
    have eB : va_up (va_up B 56 (fup (B 56) (F 6) a0)) 55 (fup (va_up B 56 (fup (B 56) (F 6) a0) 55) (F 6) a1) = (va_up (va_up B 55 (fup (B 55) (F 6) a1)) 56 (fup (B 56) (F 6) a0)) := up_in (by decide) rfl
    rw [eB] at h4
    refine ⟨h4, mb_up hX.2.1 (fun q hq => by cases hq; exact ⟨by show 0 ≤ F 6 + 1; omega, by show F 6 + 1 ≤ 8; omega⟩), fun f q hq x => ?_, fun f g0 hg x h0 hx => ?_⟩
    · by_cases e1 : f = 56
      · subst e1
        cases hq
        rw [va_up_ne _ _ (by decide), va_up_self]
        show -2 ≤ (if 24 * F 6 ≤ x ∧ x < 24 * F 6 + 24 then g (x - 24 * F 6) else M 56 x) ∧ (if 24 * F 6 ≤ x ∧ x < 24 * F 6 + 24 then g (x - 24 * F 6) else M 56 x) ≤ 23
        by_cases z : 24 * F 6 ≤ x ∧ x < 24 * F 6 + 24
        · rw [if_pos z]; exact hgb _ (by omega) (by omega)
        · rw [if_neg z]; exact hX.2.2.1 56 (-2, 23) rfl x
      · by_cases e2 : f = 200
        · subst e2
          cases hq
          rw [va_up_self]
          by_cases z : x = F 6
          · rw [z, fup_s]; exact hn
          · rw [fup_n _ _ z]; exact hX.2.2.1 200 (0, 24) rfl x
        · rw [va_up_ne _ _ e2, va_up_ne _ _ e1]; exact hX.2.2.1 f q hq x
    · by_cases e1 : f = 5
      · subst e1
        cases hg
        have hx2 : x < F 6 + 1 := hx
        rw [va_up_ne _ _ (by decide), va_up_self]
        by_cases z : x = F 6
        · rw [z, fup_s]; exact hG
        · rw [fup_n _ _ z]; exact hX.2.2.2 5 55 rfl x h0 (by show x < F 6; omega)
      · have en : xgn (va_up F 6 (F 6 + 1)) f = xgn F f := by
          unfold xgn
          split <;> first | rfl | exact absurd rfl e1
        have eg : ¬ g0 = 55 ∧ ¬ g0 = 56 := ⟨fun z => by
          subst z
          unfold xgf at hg
          split at hg <;> first | (cases hg; done) | exact absurd rfl e1, fun z => by
          subst z
          unfold xgf at hg
          split at hg <;> first | (cases hg; done) | exact absurd rfl e1⟩
        rw [va_up_ne _ _ eg.2, va_up_ne _ _ eg.1]
        exact hX.2.2.2 f g0 hg x h0 (by rw [← en]; exact hx)) h2)
  rw [x_adf (by omega) (Int.le_refl 0)] at key
  exact key
end Jtext
