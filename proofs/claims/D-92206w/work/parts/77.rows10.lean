set_option maxRecDepth 100000
/-! ROWS: texts that stay; bytes in a cell of the moment; faults -/
def lenZ (i : Nat) : Int := (([4, 5, 4, 4, 6, 2] : List Nat).getD i 0 : Nat)
def byZ (i : Nat) (j : Int) : Int := ((us_byt.getD i []).getD j.toNat 0).toInt
theorem byZ_r : ∀ i : Nat, i < 6 → ∀ j : Nat, j < ([4, 5, 4, 4, 6, 2] : List Nat).getD i 0 → 97 ≤ byZ i j ∧ byZ i j ≤ 122 := by decide +kernel
theorem lenZ_r : ∀ i : Nat, i < 6 → 2 ≤ lenZ i ∧ lenZ i ≤ 6 := by decide +kernel
theorem byZ_i {i : Nat} {j : Int} (hi : i < 6) (h : 0 ≤ j ∧ j < lenZ i) : 97 ≤ byZ i j ∧ byZ i j ≤ 122 := by
  have hl : lenZ i = ((([4, 5, 4, 4, 6, 2] : List Nat).getD i 0 : Nat) : Int) := rfl
  obtain ⟨k, rfl⟩ := Int.eq_ofNat_of_zero_le h.1
  exact byZ_r i hi k (by omega)
theorem nar_c {v : Int} (h : 0 ≤ v ∧ v ≤ 255) : narrow .char (.int (zi v)) = .int (zi v) := by
  have key : ∀ n : Fin 256, narrow .char (.int (zi (n.val : Int))) = .int (zi (n.val : Int)) := by decide +kernel
  have := key ⟨v.toNat, by omega⟩
  have e : ((v.toNat : Nat) : Int) = v := by omega
  rw [show ((⟨v.toNat, by omega⟩ : Fin 256).val : Int) = v from e] at this
  exact this
theorem i2c_e {v : Int} (h : 0 ≤ v ∧ v ≤ 255) : ((zi v).toUInt32 % 65536).toInt32 = zi v := by
  have key : ∀ n : Fin 256, ((zi (n.val : Int)).toUInt32 % 65536).toInt32 = zi (n.val : Int) := by decide +kernel
  have := key ⟨v.toNat, by omega⟩
  have e : ((v.toNat : Nat) : Int) = v := by omega
  rw [show ((⟨v.toNat, by omega⟩ : Fin 256).val : Int) = v from e] at this
  exact this
section ROWS10
variable {p : Program} {l : Launch} {e : Env} {R : Room} {s : State} {m : MethodId} {args : Array Value} {below : List Frame} {meth : Method} {c : Code} {H : Heap} {locs : List Loc} {cells slots : Nat} {Q : State → Prop}
variable {A : Nat → Prop} {own : String} {cc : ByteArray} {nL : Nat} {rt : Option FieldType} {E : us_E} {pc : Nat} {ls : Array Slot} {rest : List Value} {B : Nat → Int → Nat} {F : Nat → Int} {M : Nat → Int → Int} {G : Nat → Int → Option Nat} {T : x_T}
theorem r_nret {ty : FieldType} {rm : Room} {Post : Int → Heap → Prop} {v : Int} (C : Cx p s m args meth c A own cc nL (some ty) E) (hv : narrow ty (.int (zi v)) = .int (zi v)) (hS : va_S A s.heap H locs) (h1 : cells ≤ rm.cells) (h2 : slots ≤ rm.slots) (hdg : decode cc pc = .ok (.ireturn, 1)) (hq : Post v H) : W p l e R s m args below meth c H locs cells slots (MQ below (qi A Post) args s rm.cells rm.slots A) (F0 m pc ls [.int (zi v)]) :=
  W.widen h1 h2 (W.zret (v := zi v) C.x C.b C.r hv (fun t ht _ => ⟨⟨zi v, v, rfl, rfl, by show Post v t.heap; rw [ht]; exact hq⟩, hS.F ht⟩) hS.2.2 hdg C.n)
theorem r_i2c (C : Cx p s m args meth c A own cc nL rt E) {v : Int} (hv : 0 ≤ v ∧ v ≤ 255) (hdg : decode cc pc = .ok (.i2c, 1)) (kk : W p l e R s m args below meth c H locs cells slots Q (F0 m (pc + 1) ls (.int (zi v) :: rest))) : W p l e R s m args below meth c H locs cells slots Q (F0 m pc ls (.int (zi v) :: rest)) := lv_i2c C.x C.b hdg (i2c_e hv) kk
theorem xs_S (C : Cx p s m args meth c A own cc nL rt E) : vk_S 6 [4, 5, 4, 4, 6, 2] us_byt (fun i => E.2 (110 + i)) (fun i => E.2 (120 + i)) A s s.heap := C.k.2.2.2.2.2.2.1
theorem xs_recv (C : Cx p s m args meth c A own cc nL rt E) (hS : va_S A s.heap H locs) {i : Nat} (hi : i < 6) : ∃ cell : Cell, H[E.2 (110 + i)]? = some cell ∧ cell.vm.isStatics = false ∧ s.vm.findClass "java/lang/String" = some cell.cls := vk_recv (adK := fun i => E.2 (110 + i)) (i := i) (xs_S C) hi hS
theorem xs_comp (C : Cx p s m args meth c A own cc nL rt E) (hS : va_S A s.heap H locs) {index : Nat} (hlink : Cond.fieldLink own index "java/lang/String" "COMPACT_STRINGS" "Z" ∈ lw_all) (hdg : decode cc pc = .ok (.getstatic index, 3)) (kk : W p l e R s m args below meth c H locs cells slots Q (F0 m (pc + 3) ls (.int (zi 1) :: rest))) : W p l e R s m args below meth c H locs cells slots Q (F0 m pc ls (rest)) :=
  va_gets C.x C.b C.k.2.2.2.2.2.2.2.1 hS C.o (C.t _ hlink) (fun _ h => h) hdg kk
theorem xs_cod (C : Cx p s m args meth c A own cc nL rt E) (hS : va_S A s.heap H locs) {i index : Nat} (hi : i < 6) (hlink : Cond.fieldLink own index "java/lang/String" "coder" "B" ∈ lw_all) (hdg : decode cc pc = .ok (.getfield index, 3)) (kk : W p l e R s m args below meth c H locs cells slots Q (F0 m (pc + 3) ls (.int (zi 0) :: rest))) : W p l e R s m args below meth c H locs cells slots Q (F0 m pc ls (.ref (E.2 (110 + i)) :: rest)) :=
  vk_getf C.x C.b ((xs_S C).1 i hi).2.1 hS C.o (C.t _ hlink) (fun _ h => h) hdg kk
theorem xs_val (C : Cx p s m args meth c A own cc nL rt E) (hS : va_S A s.heap H locs) {i index : Nat} (hi : i < 6) (hlink : Cond.fieldLink own index "java/lang/String" "value" "[B" ∈ lw_all) (hdg : decode cc pc = .ok (.getfield index, 3)) (kk : W p l e R s m args below meth c H locs cells slots Q (F0 m (pc + 3) ls (.ref (E.2 (120 + i)) :: rest))) : W p l e R s m args below meth c H locs cells slots Q (F0 m pc ls (.ref (E.2 (110 + i)) :: rest)) :=
  vk_getf C.x C.b ((xs_S C).1 i hi).2.2.1 hS C.o (C.t _ hlink) (fun _ h => h) hdg kk
theorem xs_len (C : Cx p s m args meth c A own cc nL rt E) (hS : va_S A s.heap H locs) {i : Nat} (hi : i < 6) (hdg : decode cc pc = .ok (.arraylength, 1)) (kk : W p l e R s m args below meth c H locs cells slots Q (F0 m (pc + 1) ls (.int (zi (lenZ i)) :: rest))) : W p l e R s m args below meth c H locs cells slots Q (F0 m pc ls (.ref (E.2 (120 + i)) :: rest)) :=
  va_tlen C.x C.b ((xs_S C).1 i hi).2.2.2 hS (by unfold lenZ; rw [zi_n]; rfl) hdg kk
theorem xs_byt (C : Cx p s m args meth c A own cc nL rt E) (hS : va_S A s.heap H locs) {i : Nat} (hi : i < 6) {j : Int} (hj : 0 ≤ j ∧ j < lenZ i) (hdg : decode cc pc = .ok (.baload, 1)) (kk : W p l e R s m args below meth c H locs cells slots Q (F0 m (pc + 1) ls (.int (zi (byZ i j)) :: rest))) : W p l e R s m args below meth c H locs cells slots Q (F0 m pc ls (.int (zi j) :: .ref (E.2 (120 + i)) :: rest)) := by
  have hl : lenZ i = ((([4, 5, 4, 4, 6, 2] : List Nat).getD i 0 : Nat) : Int) := rfl
  have hl6 := lenZ_r i hi
  refine va_tb C.x C.b ((xs_S C).1 i hi).2.2.2 hS (zi_in (n := ([4, 5, 4, 4, 6, 2] : List Nat).getD i 0) ⟨hj.1, by omega⟩ (by omega)) (v := .int (zi (byZ i j))) ?_ hdg kk
  rw [zi_cl (by omega)]
  unfold byZ
  rw [zi_of]
theorem xs_siob (C : Cx p s m args meth c A own cc nL rt E) (hS : va_S A s.heap H locs) {index : Nat} (hlink : Cond.fieldLink own index "jdk/internal/util/Preconditions" "SIOOBE_FORMATTER" "Ljava/util/function/BiFunction;" ∈ lw_all) (hdg : decode cc pc = .ok (.getstatic index, 3)) (k0 : W p l e R s m args below meth c H locs cells slots Q (F0 m (pc + 3) ls (.null :: rest))) (k1 : ∀ t : Nat, W p l e R s m args below meth c H locs cells slots Q (F0 m (pc + 3) ls (.ref t :: rest))) : W p l e R s m args below meth c H locs cells slots Q (F0 m pc ls rest) := by
  rcases C.k.2.2.2.2.2.2.2.2.1 with h | ⟨t, h⟩
  · exact va_gets C.x C.b h hS C.o (C.t _ hlink) (fun _ h => h) hdg k0
  · exact va_gets C.x C.b h hS C.o (C.t _ hlink) (fun _ h => h) hdg (k1 t)
theorem x_unas (C : Cx p s m args meth c A own cc nL rt E) (hS : va_S A s.heap H locs) {index : Nat} (hlink : Cond.fieldLink own index Bundle.tN "UNASSIGNED_STACK" Bundle.steD ∈ lw_all) (hdg : decode cc pc = .ok (.getstatic index, 3)) (kk : ∀ v : Value, (v = .null ∨ ∃ t : Nat, v = .ref t) → W p l e R s m args below meth c H locs cells slots Q (F0 m (pc + 3) ls (v :: rest))) : W p l e R s m args below meth c H locs cells slots Q (F0 m pc ls rest) := by
  rcases C.k.2.2.2.2.2.2.2.2.2.1.1 with h | ⟨t, h⟩
  · exact va_gets C.x C.b h hS C.o (C.t _ hlink) (fun _ h => h) hdg (kk _ (Or.inl rfl))
  · exact va_gets C.x C.b h hS C.o (C.t _ hlink) (fun _ h => h) hdg (kk _ (Or.inr ⟨t, rfl⟩))
theorem x_supp (C : Cx p s m args meth c A own cc nL rt E) (hS : va_S A s.heap H locs) {index : Nat} (hlink : Cond.fieldLink own index Bundle.tN "SUPPRESSED_SENTINEL" Bundle.listD ∈ lw_all) (hdg : decode cc pc = .ok (.getstatic index, 3)) (kk : ∀ v : Value, (v = .null ∨ ∃ t : Nat, v = .ref t) → W p l e R s m args below meth c H locs cells slots Q (F0 m (pc + 3) ls (v :: rest))) : W p l e R s m args below meth c H locs cells slots Q (F0 m pc ls rest) := by
  rcases C.k.2.2.2.2.2.2.2.2.2.2.1.1 with h | ⟨t, h⟩
  · exact va_gets C.x C.b h hS C.o (C.t _ hlink) (fun _ h => h) hdg (kk _ (Or.inl rfl))
  · exact va_gets C.x C.b h hS C.o (C.t _ hlink) (fun _ h => h) hdg (kk _ (Or.inr ⟨t, rfl⟩))
theorem x_KINDS (C : Cx p s m args meth c A own cc nL rt E) (hS : va_S A s.heap H locs) {index : Nat} (hlink : Cond.fieldLinkNest own index "UnreadScript" "KINDS" "[Ljava/lang/String;" "UnreadScript" ∈ us_N) (hdg : decode cc pc = .ok (.getstatic index, 3)) (kk : W p l e R s m args below meth c H locs cells slots Q (F0 m (pc + 3) ls (.ref (E.2 101) :: rest))) : W p l e R s m args below meth c H locs cells slots Q (F0 m pc ls rest) :=
  va_getsN C.x C.b C.k.2.2.2.2.1 hS C.o (C.w hlink) (fun _ h => h) hdg kk
theorem x_klen (C : Cx p s m args meth c A own cc nL rt E) (hS : va_S A s.heap H locs) (hdg : decode cc pc = .ok (.arraylength, 1)) (kk : W p l e R s m args below meth c H locs cells slots Q (F0 m (pc + 1) ls (.int (zi 6) :: rest))) : W p l e R s m args below meth c H locs cells slots Q (F0 m pc ls (.ref (E.2 101) :: rest)) :=
  va_tlen C.x C.b C.k.2.2.2.2.2.1 hS rfl hdg kk
theorem x_kat (C : Cx p s m args meth c A own cc nL rt E) (hS : va_S A s.heap H locs) {j : Int} (hj : 0 ≤ j ∧ j < 6) (hdg : decode cc pc = .ok (.aaload, 1)) (kk : W p l e R s m args below meth c H locs cells slots Q (F0 m (pc + 1) ls (.ref (E.2 (110 + j.toNat)) :: rest))) : W p l e R s m args below meth c H locs cells slots Q (F0 m pc ls (.int (zi j) :: .ref (E.2 101) :: rest)) := by
  obtain ⟨cell, h1, h2, h3, h4, h5, h6, h7⟩ := C.k.2.2.2.2.2.1
  have hcl : (zi j).toNatClampNeg = j.toNat := zi_cl (by omega)
  have hin : vp_in (zi j) 6 := zi_in hj (by decide)
  refine W.aald (v := .ref (E.2 (110 + j.toNat))) (ty := .object "java/lang/String") C.x C.b (by rw [hS.2.1 _ (Array.getElem?_eq_some_iff.mp h1).1 h7]; exact h1) h2 rfl h3 (fun q => hin (q.imp id (fun z => Nat.le_trans h4 z))) ?_ rfl rfl hdg kk
  rw [hcl]
  exact h6 _ (by omega)
theorem x_tlb (C : Cx p s m args meth c A own cc nL rt E) (hX : XH E A B F M G T H) (j : Nat) (hj : j < 28) {a n : Nat} {g : Int → Int} (hT : T j = some (a, .inl (E.2 1, n, .inl (fun j : Nat => zi (g j))))) {i : Int} (hi : 0 ≤ i ∧ i < n) (hn : n < 2147483648) {v : Int} (hv : g i = v) (hdg : decode cc pc = .ok (.baload, 1)) (kk : W p l e R s m args below meth c H locs cells slots Q (F0 m (pc + 1) ls (.int (zi v) :: rest))) : W p l e R s m args below meth c H locs cells slots Q (F0 m pc ls (.int (zi i) :: .ref a :: rest)) := by
  have key := g_bald C hX.1 (100 + j) 1 (n := n) (g := g) (rest := rest) (x_cet hj hT) rfl hi hn hdg (by rw [hv]; exact kk)
  rw [x_adt hj hT] at key
  exact key
theorem x_tcell (C : Cx p s m args meth c A own cc nL rt E) (hX : XH E A B F M G T H) {j q ci : Nat} {fs : List Value} (hj : j < 28) (hT : T j = some (q, .inr (ci, fs))) {r : vw_C} (hc : us_cl[ci]? = some r) : ∃ ce : Cell, H[q]? = some ce ∧ ce.vm = .none ∧ s.vm.findClass r.1 = some ce.cls := by
  obtain ⟨r', hr', cell, g1, g2, g3, -⟩ := hX.1.1 _ _ (x_cet hj hT)
  rw [x_adt hj hT] at g1
  exact ⟨cell, g1, g3, by rw [g2]; exact (C.k.1.1 ci r hc).2.1⟩
theorem r_xthrow {rm : Room} {Qc : Array Value → State → Outcome → State → Prop} {PX : Nat → String → Heap → Prop} (C : Cx p s m args meth c A own cc nL rt E) (hnt : ∀ x ∈ c.exceptionTable.toList, False) (hX : XH E A B F M G T H) (hS : va_S A s.heap H locs) (h1 : cells ≤ rm.cells) (h2 : slots ≤ rm.slots) {j q ci : Nat} {fs : List Value} (hj : j < 28) (hT : T j = some (q, .inr (ci, fs))) {r : vw_C} (hc : us_cl[ci]? = some r) (hx : PX q r.1 H) : vx_W p l e R s m args below meth c H locs cells slots (vq_MQ below Qc (qx A PX) args s rm.cells rm.slots A) (F0 m pc ls rest) q := by
  obtain ⟨ce, e1, e2, e3⟩ := x_tcell C hX hj hT hc
  exact r_xout C hnt hS h1 h2 e1 e2 e3 hx
theorem r_callNSi {y : MethodName} {bytes : ByteArray} {maxL idx n : Nat} {rm : Room} {As : List Value} {Pre : Heap → Prop} {Post : Int → Heap → Prop} {host : String} {cells' slots' : Nat} {st : List Value} {rt' : FieldType} (C : Cx p s m args meth c A own cc nL rt E) (hM : cMet l y bytes maxL (some rt') rm A E As Pre (qi A Post)) (hg : Cond.code y bytes maxL (some rt') ∈ lw_all) (hini : Cond.initialized y.cls ∈ lw_all) (hlk : Cond.methodLinkNest own idx y host ∈ us_N) (hst9 : Cond.static y ∈ lw_all) (hd : y.cls ≠ "java/lang/invoke/MethodHandle" ∧ y.cls ≠ "java/lang/invoke/VarHandle" ∧ (parseMethodDescriptor y.desc).map (fun d => d.parameters.length) = some n) (hn : As.length = n) (hR : rm.frames + 1 ≤ R.frames ∧ 8 + (maxL + 11) + rm.locals ≤ R.locals) (hpre : Pre H) (hS : va_S A s.heap H locs) (hz : ls.size = nL) (hst : st = As.reverse ++ rest) (hw8 : (rest.map fun v => v.category).sum ≤ 8) (hdg : decode cc pc = .ok (.invokestatic idx, 3)) (hc : cells + rm.cells = cells') (hs : slots + rm.slots = slots') (hf : cells' ≤ R.cells ∧ slots' ≤ R.slots)
    (kk : ∀ (r : Int) (H1 : Heap) (locs1 : List Loc), Post r H1 → va_S A s.heap H1 locs1 → W p l e R s m args below meth c H1 locs1 cells' slots' Q (F0 m (pc + 3) ls (.int (zi r) :: rest))) : W p l e R s m args below meth c H locs cells slots Q (F0 m pc ls st) := by
  have hA2 : ∀ q : Nat, H.size ≤ q → A q := fun q h => C.a q (Nat.le_trans hS.1 h)
  have hbl : FrameBlind (va_Pc As (fun U => U.heap.size = H.size ∧ KN E A U ∧ Pre U.heap)) := fun a U g mk q => by
    obtain ⟨q0, q1, qK, qP⟩ := q
    exact ⟨q0, q1, qK.blind, qP⟩
  have hst0 : ∀ U : State, U.heap = H → s.WarmedH U.vm → va_Pc As (fun U => U.heap.size = H.size ∧ KN E A U ∧ Pre U.heap) As.toArray U := fun U hU hW => ⟨rfl, by rw [hU], KN.warm hW hU hS C.k, by rw [hU]; exact hpre⟩
  refine va_calli (va_runSN (As := As) (rest := rest) ⟨C.x, C.b, C.l, C.o, C.t⟩ (hM H.size hA2) ⟨va_cnB n C.t (lw_meth hg) rfl rfl rfl (C.k.2.1 _ hlk) (C.t _ hini) hd hR, C.t _ hst9, trivial⟩ ⟨hbl, hst0⟩ rfl hn hz hst (lv_room hw8) hdg ⟨by rw [hc]; exact hf.1, by rw [hs]; exact hf.2⟩) hS (fun q _ h => h) (fun q h => h) ?_
  exact fun r u t H1 locs1 ht hvm hw hB hz1 hk1 hS1 => by
    subst hw
    replace hB : Post u t.heap := hB; rw [ht] at hB
    exact W.cs hc hs (kk u H1 locs1 hB hS1)
theorem r_callNIv {y : MethodName} {bytes : ByteArray} {maxL idx n : Nat} {rm : Room} {As : List Value} {Pre : Heap → Prop} {Post : Heap → Prop} {host : String} {b : Nat} {cells' slots' : Nat} {st : List Value} (C : Cx p s m args meth c A own cc nL rt E) (hM : cMet l y bytes maxL none rm A E (.ref b :: As) Pre (qv A Post)) (hg : Cond.code y bytes maxL none ∈ lw_all) (hini : Cond.initialized y.cls ∈ lw_all) (hlk : Cond.methodLinkNest own idx y host ∈ us_N) (hins : Cond.instanceMethod y ∈ lw_all) (hy1 : y.name = "<init>") (hd : y.cls ≠ "java/lang/invoke/MethodHandle" ∧ y.cls ≠ "java/lang/invoke/VarHandle" ∧ (parseMethodDescriptor y.desc).map (fun d => d.parameters.length) = some n) (hn : As.length = n) (hR : rm.frames + 1 ≤ R.frames ∧ 8 + (maxL + 11) + rm.locals ≤ R.locals) (hpre : Pre H) (hS : va_S A s.heap H locs) (hz : ls.size = nL) (hst : st = As.reverse ++ .ref b :: rest) (hw8 : (rest.map fun v => v.category).sum ≤ 8) (hdg : decode cc pc = .ok (.invokespecial idx, 3)) (hc : cells + rm.cells = cells') (hs : slots + rm.slots = slots') (hf : cells' ≤ R.cells ∧ slots' ≤ R.slots)
    (kk : ∀ (H1 : Heap) (locs1 : List Loc), Post H1 → va_S A s.heap H1 locs1 → W p l e R s m args below meth c H1 locs1 cells' slots' Q (F0 m (pc + 3) ls rest)) : W p l e R s m args below meth c H locs cells slots Q (F0 m pc ls st) := by
  have hA2 : ∀ q : Nat, H.size ≤ q → A q := fun q h => C.a q (Nat.le_trans hS.1 h)
  have hbl : FrameBlind (va_Pc (.ref b :: As) (fun U => U.heap.size = H.size ∧ KN E A U ∧ Pre U.heap)) := fun a U g mk q => by
    obtain ⟨q0, q1, qK, qP⟩ := q
    exact ⟨q0, q1, qK.blind, qP⟩
  have hst0 : ∀ U : State, U.heap = H → s.WarmedH U.vm → va_Pc (.ref b :: As) (fun U => U.heap.size = H.size ∧ KN E A U ∧ Pre U.heap) (.ref b :: As).toArray U := fun U hU hW => ⟨rfl, by rw [hU], KN.warm hW hU hS C.k, by rw [hU]; exact hpre⟩
  refine va_callv (va_runIN (As := As) (rest := rest) ⟨C.x, C.b, C.l, C.o, C.t⟩ (hM H.size hA2) ⟨va_cnB n C.t (lw_meth hg) rfl rfl rfl (C.k.2.1 _ hlk) (C.t _ hini) hd hR, hy1, C.t _ hins⟩ ⟨hbl, hst0⟩ rfl hn hz hst (lv_room hw8) hdg ⟨by rw [hc]; exact hf.1, by rw [hs]; exact hf.2⟩) hS (fun q _ h => h) (fun q h => h) ?_
  exact fun u t H1 locs1 ht hvm hw hB hz1 hk1 hS1 => by
    replace hB : Post t.heap := hB; rw [ht] at hB
    exact W.cs hc hs (kk H1 locs1 hB hS1)
end ROWS10
