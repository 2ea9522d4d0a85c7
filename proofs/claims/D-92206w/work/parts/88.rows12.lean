set_option maxRecDepth 100000
theorem rw_grow {D : va_G} {A : Nat → Prop} {ad : Nat → Nat} {ce : Nat → Option va_E} {H H1 : Heap} (h : rw_H D A ad ce H) (oq : ∀ q : Nat, q < H.size → H1[q]? = H[q]?) : rw_H D A ad ce H1 :=
  ⟨fun k e hk => (h.1 k e hk).kept (oq _ (h.1 k e hk).lt), h.2.1, h.2.2⟩
theorem XH.grow {E : us_E} {A : Nat → Prop} {B : Nat → Int → Nat} {F : Nat → Int} {M : Nat → Int → Int} {G : Nat → Int → Option Nat} {T : x_T} {H H1 : Heap} (h : XH E A B F M G T H) (oq : ∀ q : Nat, q < H.size → H1[q]? = H[q]?) : XH E A B F M G T H1 := ⟨rw_grow h.1 oq, h.2⟩
/-- a text that can be made -/
def TxG (tx : String) : Prop := (tx == notModelled) = false ∧ (stringBytes (stringToUtf16 tx)).size ≤ 600
theorem tdl : ∀ (k n : Nat), n < 10 ^ (k + 1) → (Nat.toDigits 10 n).length ≤ k + 1
  | 0, n, h => by
    rw [Nat.toDigits_of_lt_base (by simpa using h)]
    simp
  | k + 1, n, h => by
    by_cases q : n < 10
    · rw [Nat.toDigits_of_lt_base q]
      simp
    · rw [Nat.toDigits_of_base_le (by decide) (by omega), List.length_append]
      have := tdl k (n / 10) (by rw [Nat.pow_succ] at h; omega)
      simp
      omega
theorem repr_l {n k : Nat} (h : n < 10 ^ (k + 1)) : n.repr.toList.length ≤ k + 1 ∧ 0 < n.repr.toList.length := by
  have e : n.repr.toList = Nat.toDigits 10 n := by unfold Nat.repr; rw [String.toList_ofList]
  rw [e]
  exact ⟨tdl k n h, Nat.length_toDigits_pos⟩
theorem istr_l (i : Int32) : (toString i).toList.length ≤ 11 ∧ 0 < (toString i).toList.length := by
  have h1 : -2147483648 ≤ i.toInt := Int32.le_toInt i
  have h2 : i.toInt < 2147483648 := Int32.toInt_lt i
  show (toString i.toInt).toList.length ≤ 11 ∧ 0 < (toString i.toInt).toList.length
  cases hi : i.toInt with
  | ofNat m =>
    have := repr_l (n := m) (k := 9) (by rw [hi] at h2; have : (m : Int) < 2147483648 := h2; omega)
    show m.repr.toList.length ≤ 11 ∧ 0 < m.repr.toList.length
    omega
  | negSucc m =>
    have := repr_l (n := m.succ) (k := 9) (by rw [hi] at h1; omega)
    show ("-" ++ m.succ.repr).toList.length ≤ 11 ∧ 0 < ("-" ++ m.succ.repr).toList.length
    rw [String.toList_append, List.length_append]
    have e : "-".toList.length = 1 := by decide +kernel
    omega
theorem txg_of {tx : String} (h1 : tx.toList.length ≤ 150) (h2 : ¬ tx.toList.length = notModelled.toList.length) : TxG tx := by
  refine ⟨beq_eq_false_iff_ne.mpr (fun h => h2 (by rw [h])), ?_⟩
  have a := stringBytes_size_le (stringToUtf16 tx)
  have b := utf16_size_le tx
  omega
theorem nmo_l : notModelled.toList.length = 32 := by decide +kernel
theorem tx_na (i : Int32) : TxG (toString i) := by
  have := istr_l i
  exact txg_of (by omega) (by rw [nmo_l]; omega)
theorem tx_ix (i : Int32) {n : Nat} (hn : n ≤ 60) : TxG (toString "Index " ++ toString i ++ toString " out of bounds for length " ++ toString n : String) := by
  have a := istr_l i
  have b := repr_l (n := n) (k := 1) (by omega)
  have c1 : (toString "Index " : String).toList.length = 6 := by decide +kernel
  have c2 : (toString " out of bounds for length " : String).toList.length = 26 := by decide +kernel
  have e : (toString "Index " ++ toString i ++ toString " out of bounds for length " ++ toString n : String).toList.length = 6 + (toString i).toList.length + 26 + n.repr.toList.length := by
    rw [String.toList_append, String.toList_append, String.toList_append, List.length_append, List.length_append, List.length_append, c1, c2]
    rfl
  exact txg_of (by rw [e]; omega) (by rw [e, nmo_l]; omega)
theorem zi_out {z : Int} {n : Nat} (hr : -2147483648 ≤ z ∧ z < 2147483648) (h : ¬ (0 ≤ z ∧ z < n)) : ¬ vp_in (zi z) n := fun q => h (by have w := vp_in_iff.mp q; rw [zi_t hr] at w; exact w)
theorem nar_s {v : Int} (h : -32768 ≤ v ∧ v ≤ 32767) : narrow .short (.int (zi v)) = .int (zi v) := by
  have e : ss v = v := by unfold ss; omega
  have z := zi_s v
  rw [e] at z
  exact congrArg Value.int z
/-! texts of casts that fail -/
theorem fc_spec {vm : Vm} {nm : String} {c : ClassId} (h : vm.findClass nm = some c) : ∃ k, vm.classes[c]? = some k ∧ k.name = nm ∧ k.hidden = none ∧ k.loader = none := by
  unfold Vm.findClass at h
  obtain ⟨hlt, hp, _⟩ := Array.findIdx?_eq_some_iff_getElem.mp h
  refine ⟨vm.classes[c], Array.getElem?_eq_getElem hlt, ?_⟩
  simp only [Bool.and_eq_true, beq_iff_eq, Option.isNone_iff_eq_none] at hp
  exact ⟨hp.1.1.1, hp.1.1.2, hp.2⟩
def msgS (na nb : String) (m : String) : String := toString "class " ++ toString (dotted na) ++ toString " cannot be cast to class " ++ toString (dotted nb) ++ toString " (" ++ toString (toString (dotted na) ++ toString " and " ++ toString (dotted nb) ++ toString " are in " ++ toString (m ++ " of loader " ++ "'bootstrap'")) ++ toString ")"
theorem msg_e (v : Vm) (a b : Class) {na nb : String} (ha : a.name = na ∧ a.hidden = none ∧ a.loader = none ∧ a.ofPrimitives = true) (hb : b.name = nb ∧ b.hidden = none ∧ b.loader = none ∧ b.ofPrimitives = true) : Op.checkcast.message v a b = msgS na nb "module java.base" ∨ Op.checkcast.message v a b = msgS na nb "unnamed module" := by
  have hsa : a.shown = dotted na := by unfold Class.shown; rw [ha.2.1, ha.1]
  have hsb : b.shown = dotted nb := by unfold Class.shown; rw [hb.2.1, hb.1]
  have hma : v.moduleOf a = List.find? (fun x => x.name == "java.base") v.modules := by unfold Vm.moduleOf; rw [if_pos ha.2.2.2]
  have hmb : v.moduleOf b = List.find? (fun x => x.name == "java.base") v.modules := by unfold Vm.moduleOf; rw [if_pos hb.2.2.2]
  unfold Op.checkcast.message Vm.homes Vm.home Vm.sameModule
  rw [hsa, hsb, hma, hmb, ha.2.2.1, hb.2.2.1]
  cases hf : List.find? (fun x => x.name == "java.base") v.modules with
  | none =>
    right
    rw [if_pos (by simp)]
    rfl
  | some x =>
    left
    have hn : x.name = "java.base" := by simpa using List.find?_some hf
    rw [if_pos (by simp)]
    simp only [hn]
    rfl
theorem msg_g : ∀ p ∈ ([("[I", "[B"), ("[S", "[B"), ("[I", "[S"), ("[B", "[S"), ("[B", "[I"), ("[S", "[I")] : List (String × String)), ∀ m ∈ (["module java.base", "unnamed module"] : List String), (msgS p.1 p.2 m == notModelled) = false ∧ (stringBytes (stringToUtf16 (msgS p.1 p.2 m))).size ≤ 600 := by decide +kernel
theorem msg_ok {v : Vm} {a b : Class} {na nb : String} (hp : (na, nb) ∈ ([("[I", "[B"), ("[S", "[B"), ("[I", "[S"), ("[B", "[S"), ("[B", "[I"), ("[S", "[I")] : List (String × String))) (ha : a.name = na ∧ a.hidden = none ∧ a.loader = none ∧ a.ofPrimitives = true) (hb : b.name = nb ∧ b.hidden = none ∧ b.loader = none ∧ b.ofPrimitives = true) : TxG (Op.checkcast.message v a b) := by
  rcases msg_e v a b ha hb with h | h <;> rw [h]
  · exact msg_g _ hp _ List.mem_cons_self
  · exact msg_g _ hp _ (List.mem_cons_of_mem _ List.mem_cons_self)
theorem ofp {k : Class} {comp : ClassId} {ty : FieldType} {nm : String} (hk : k.kind = .array comp ty) (hn : k.name = nm) (hw : ((withoutBrackets nm).length == 1) = true) : k.ofPrimitives = true := by
  unfold Class.ofPrimitives
  rw [hk, hn]
  exact hw
section ROWS12
variable {p : Program} {l : Launch} {e : Env} {R : Room} {s : State} {m : MethodId} {args : Array Value} {below : List Frame} {meth : Method} {c : Code} {H : Heap} {locs : List Loc} {cells slots : Nat} {Q : State → Prop}
variable {A : Nat → Prop} {own : String} {cc : ByteArray} {nL : Nat} {rt : Option FieldType} {E : us_E} {pc : Nat} {ls : Array Slot} {rest : List Value} {B : Nat → Int → Nat} {F : Nat → Int} {M : Nat → Int → Int} {G : Nat → Int → Option Nat} {T : x_T}
theorem Cx.nc (C : Cx p s m args meth c A own cc nL rt E) {a b : String} (h : (a, b) ∈ us_NC) : va_Nc a b s := C.k.2.2.2.2.2.2.2.2.2.2.2.2.2.1 _ h
theorem Cx.ao (C : Cx p s m args meth c A own cc nL rt E) {t : FieldType} (h : t ∈ us_AO) : (Cond.arrayOver t).before args s = true := C.k.2.2.2.2.2.2.2.2.2.2.2.2.2.2 t h
theorem vw_h (C : Cx p s m args meth c A own cc nL rt E) {ws : List Cond} (h : ws.all (fun w => decide (w ∈ lw_all) || decide (w ∈ us_N)) = true) : ∀ w ∈ ws, w.before args s = true := fun w hw => by
  have z := List.all_eq_true.mp h w hw
  rcases Bool.or_eq_true _ _ |>.mp z with q | q
  · exact C.t w (of_decide_eq_true q)
  · exact C.w (of_decide_eq_true q)
theorem r_vmAI (C : Cx p s m args meth c A own cc nL rt E) (hX : XH E A B F M G T H) (hS : va_S A s.heap H locs) (hl0 : l.stackTraces = false) (hz : ls.size = nL) {tx : String} (htx : TxG tx) (hfr : 8 ≤ R.frames) (hlo : (rest.map fun v => v.category).sum + 10240 ≤ R.locals) (hc : cells + 3 ≤ R.cells) (hs : slots + 610 ≤ R.slots) (kk : ∀ (q9 : Nat) (ce : Cell) (H : Heap), XH E A B F M G T H → va_S A s.heap H locs → H[q9]? = some ce → ce.vm = .none → s.vm.findClass "java/lang/ArrayIndexOutOfBoundsException" = some ce.cls → vx_W p l e R s m args below meth c H locs (cells + 3) (slots + 610) Q (F0 m pc ls rest) q9) : vx_Note p l e R s m args below meth c H locs cells slots Q (F0 m pc ls rest) "java/lang/ArrayIndexOutOfBoundsException" tx :=
  vx_vm (names := ["java/lang/IndexOutOfBoundsException", "java/lang/RuntimeException", "java/lang/Exception"]) (nb := 600) C.x hl0 (by decide +kernel) (by decide +kernel) (by decide +kernel) (by decide +kernel) (vw_h C vw_AI) (fun w hw => List.all_eq_true.mp vo_AI w hw) C.k.2.2.2.2.2.2.2.2.2.1 C.k.2.2.2.2.2.2.2.2.2.2.1 hS (hz.trans C.l.symm) htx.1 htx.2 (by decide) (by show 3 + 4 < R.frames; omega) hlo (by decide) hc hs C.n
    (fun H1 q9 ce h1 h2 h3 h4 h5 h6 => kk q9 ce H1 (hX.grow h2) h3 h4 h5 h6)
theorem r_vmNA (C : Cx p s m args meth c A own cc nL rt E) (hX : XH E A B F M G T H) (hS : va_S A s.heap H locs) (hl0 : l.stackTraces = false) (hz : ls.size = nL) {tx : String} (htx : TxG tx) (hfr : 8 ≤ R.frames) (hlo : (rest.map fun v => v.category).sum + 10240 ≤ R.locals) (hc : cells + 3 ≤ R.cells) (hs : slots + 610 ≤ R.slots) (kk : ∀ (q9 : Nat) (ce : Cell) (H : Heap), XH E A B F M G T H → va_S A s.heap H locs → H[q9]? = some ce → ce.vm = .none → s.vm.findClass "java/lang/NegativeArraySizeException" = some ce.cls → vx_W p l e R s m args below meth c H locs (cells + 3) (slots + 610) Q (F0 m pc ls rest) q9) : vx_Note p l e R s m args below meth c H locs cells slots Q (F0 m pc ls rest) "java/lang/NegativeArraySizeException" tx :=
  vx_vm (names := ["java/lang/RuntimeException", "java/lang/Exception"]) (nb := 600) C.x hl0 (by decide +kernel) (by decide +kernel) (by decide +kernel) (by decide +kernel) (vw_h C vw_NA) (fun w hw => List.all_eq_true.mp vo_NA w hw) C.k.2.2.2.2.2.2.2.2.2.1 C.k.2.2.2.2.2.2.2.2.2.2.1 hS (hz.trans C.l.symm) htx.1 htx.2 (by decide) (by show 2 + 4 < R.frames; omega) hlo (by decide) hc hs C.n
    (fun H1 q9 ce h1 h2 h3 h4 h5 h6 => kk q9 ce H1 (hX.grow h2) h3 h4 h5 h6)
theorem r_vmCC (C : Cx p s m args meth c A own cc nL rt E) (hX : XH E A B F M G T H) (hS : va_S A s.heap H locs) (hl0 : l.stackTraces = false) (hz : ls.size = nL) {tx : String} (htx : TxG tx) (hfr : 8 ≤ R.frames) (hlo : (rest.map fun v => v.category).sum + 10240 ≤ R.locals) (hc : cells + 3 ≤ R.cells) (hs : slots + 610 ≤ R.slots) (kk : ∀ (q9 : Nat) (ce : Cell) (H : Heap), XH E A B F M G T H → va_S A s.heap H locs → H[q9]? = some ce → ce.vm = .none → s.vm.findClass "java/lang/ClassCastException" = some ce.cls → vx_W p l e R s m args below meth c H locs (cells + 3) (slots + 610) Q (F0 m pc ls rest) q9) : vx_Note p l e R s m args below meth c H locs cells slots Q (F0 m pc ls rest) "java/lang/ClassCastException" tx :=
  vx_vm (names := ["java/lang/RuntimeException", "java/lang/Exception"]) (nb := 600) C.x hl0 (by decide +kernel) (by decide +kernel) (by decide +kernel) (by decide +kernel) (vw_h C vw_CC) (fun w hw => List.all_eq_true.mp vo_CC w hw) C.k.2.2.2.2.2.2.2.2.2.1 C.k.2.2.2.2.2.2.2.2.2.2.1 hS (hz.trans C.l.symm) htx.1 htx.2 (by decide) (by show 2 + 4 < R.frames; omega) hlo (by decide) hc hs C.n
    (fun H1 q9 ce h1 h2 h3 h4 h5 h6 => kk q9 ce H1 (hX.grow h2) h3 h4 h5 h6)
theorem r_npe (C : Cx p s m args meth c A own cc nL rt E) (hX : XH E A B F M G T H) (hS : va_S A s.heap H locs) (hl0 : l.stackTraces = false) (hz : ls.size = nL) (hfr : 8 ≤ R.frames) (hlo : (rest.map fun v => v.category).sum + 10240 ≤ R.locals) (hc : cells + 3 ≤ R.cells) (hs : slots + 610 ≤ R.slots) (kk : ∀ (q9 : Nat) (ce : Cell) (H : Heap), XH E A B F M G T H → va_S A s.heap H locs → H[q9]? = some ce → ce.vm = .none → s.vm.findClass "java/lang/NullPointerException" = some ce.cls → vx_W p l e R s m args below meth c H locs (cells + 3) (slots + 610) Q (F0 m pc ls rest) q9) : vx_NoteN p l e R s m args below meth c H locs cells slots Q (F0 m pc ls rest) :=
  vx_npe (nb := 8) C.x hl0 (vw_h C vw_NP) (fun w hw => List.all_eq_true.mp vo_NP w hw) C.k.2.2.2.2.2.2.2.2.2.1 C.k.2.2.2.2.2.2.2.2.2.2.1 hS (hz.trans C.l.symm) (by omega) hlo (by omega) (by omega) C.n
    (fun H1 q9 ce h1 h2 h3 h4 h5 h6 => vx_widen (by omega) (by omega) (kk q9 ce H1 (hX.grow h2) h3 h4 h5 h6))
theorem an_I (C : Cx p s m args meth c A own cc nL rt E) : s.vm.findClass "[I" = some (E.2 0) := (C.k.1.2 0 _ rfl).2
theorem an_B (C : Cx p s m args meth c A own cc nL rt E) : s.vm.findClass "[B" = some (E.2 1) := (C.k.1.2 1 _ rfl).2
theorem an_S (C : Cx p s m args meth c A own cc nL rt E) : s.vm.findClass "[S" = some (E.2 2) := (C.k.1.2 2 _ rfl).2
def rty (a : Int) : Nat := if a = 0 then 1 else if a = 1 then 2 else 0
theorem xpr_61 {k : Int} (hk : 0 ≤ k ∧ k < 4) (hn : ¬ M 203 k = -4) : xpr F M 61 k = some (rty (M 203 k), (M 204 k).toNat, 60) := by
  show (if (0 ≤ k ∧ k < 4) ∧ ¬ M 203 k = -4 then some (rty (M 203 k), (M 204 k).toNat, 60) else none) = _
  exact if_pos ⟨hk, hn⟩
theorem xK_61 {k : Int} (hk : 0 ≤ k ∧ k < 4) (hn : ¬ M 203 k = -4) : xK E.2 B F M G 61 k = some (.inl (E.2 (rty (M 203 k)), (M 204 k).toNat, .inl (fun j : Nat => zi (xrow 60 (M 61) k j)))) := xK_d rfl rfl (xpr_61 hk hn)
theorem x_c61 (hX : XH E A B F M G T H) {k : Int} (hk : 0 ≤ k ∧ k < 4) (hn : ¬ M 203 k = -4) : H[B 61 k]? = some (vp_cell (E.2 (rty (M 203 k))) ((M 204 k).toNat, .inl (fun j : Nat => zi (xrow 60 (M 61) k j)))) := by
  have z := hX.1.1 (x_r 61 k) _ (by rw [x_cef (by omega) hk.1]; exact xK_61 hk hn)
  rw [x_adf (by omega) hk.1] at z
  exact z
theorem x_cast (C : Cx p s m args meth c A own cc nL rt E) (hX : XH E A B F M G T H) {k : Int} (hk : 0 ≤ k ∧ k < 4) (hn : ¬ M 203 k = -4) {nm : String} (hnm : s.vm.findClass nm = some (E.2 (rty (M 203 k)))) {index : Nat} (hlink : Cond.classLink own index nm ∈ lw_all) (hdg : decode cc pc = .ok (.checkcast index, 3)) (kk : W p l e R s m args below meth c H locs cells slots Q (F0 m (pc + 3) ls (.ref (B 61 k) :: rest))) : W p l e R s m args below meth c H locs cells slots Q (F0 m pc ls (.ref (B 61 k) :: rest)) := by
  intro T1 hT X
  obtain ⟨vm', X', st⟩ := X.checkcastYes C.x C.o (C.t _ hlink) (by rw [hT]; exact x_c61 hX hk hn) rfl hnm (va_asg _ _) (g := F0 m pc ls (.ref (B 61 k) :: rest)) rfl rfl (by rw [C.b]; exact hdg)
  obtain ⟨t, a1, b1⟩ := kk (T1.setVm vm') hT X'
  exact ⟨t, st t a1, b1⟩
theorem x_inst (C : Cx p s m args meth c A own cc nL rt E) (hX : XH E A B F M G T H) {k : Int} (hk : 0 ≤ k ∧ k < 4) (hn : ¬ M 203 k = -4) {nm : String} (hnm : s.vm.findClass nm = some (E.2 (rty (M 203 k)))) {index : Nat} (hlink : Cond.classLink own index nm ∈ lw_all) (hdg : decode cc pc = .ok (.instanceof index, 3)) (kk : W p l e R s m args below meth c H locs cells slots Q (F0 m (pc + 3) ls (.int (zi 1) :: rest))) : W p l e R s m args below meth c H locs cells slots Q (F0 m pc ls (.ref (B 61 k) :: rest)) := by
  intro T1 hT X
  obtain ⟨vm', X', st⟩ := X.instanceofYes C.x C.o (C.t _ hlink) (by rw [hT]; exact x_c61 hX hk hn) rfl hnm (va_asg _ _) (g := F0 m pc ls (.ref (B 61 k) :: rest)) rfl rfl (by rw [C.b]; exact hdg)
  obtain ⟨t, a1, b1⟩ := kk (T1.setVm vm') hT X'
  exact ⟨t, st t a1, b1⟩
theorem x_instNo (C : Cx p s m args meth c A own cc nL rt E) (hX : XH E A B F M G T H) {k : Int} (hk : 0 ≤ k ∧ k < 4) (hn : ¬ M 203 k = -4) {nm n2 : String} (hnm : s.vm.findClass nm = some (E.2 (rty (M 203 k)))) (hnc : (nm, n2) ∈ us_NC) {index : Nat} (hlink : Cond.classLink own index n2 ∈ lw_all) (hdg : decode cc pc = .ok (.instanceof index, 3)) (kk : W p l e R s m args below meth c H locs cells slots Q (F0 m (pc + 3) ls (.int (zi 0) :: rest))) : W p l e R s m args below meth c H locs cells slots Q (F0 m pc ls (.ref (B 61 k) :: rest)) :=
  va_instNo C.x C.b C.o (C.t _ hlink) (C.nc hnc) ⟨_, x_c61 hX hk hn, rfl, hnm⟩ hdg kk
theorem va_castNo {T1 : State} (X : Stand p l e R s m args below meth c T1 locs cells slots) (hexec : p.tables.exec = Jvm.exec)
    {own name : String} {index : Nat} (hown : s.vm.findClass own = some m.cls) (hlink : (Cond.classLink own index name).before args s = true)
    {a : Addr} {cell : Cell} {cT : ClassId} {ks kt : Class} (hcell : T1.heap[a]? = some cell) (hobj : cell.vm.isStatics = false) (hks : s.vm.classes[cell.cls]? = some ks) (hkt : s.vm.classes[cT]? = some kt) (hcT : s.vm.findClass name = some cT) (hasg : s.vm.assignable cell.cls cT = false)
    {g : JFrame} (hg : g.method = m) {rest : List Value} (hstack : g.stack = .ref a :: rest) (hdg : decode c.code g.pc = .ok (.checkcast index, 3)) :
    ∃ (vm' : Vm) (ks' kt' : Class), Stand p l e R s m args below meth c (T1.setVm vm') locs cells slots ∧ (ks'.name = ks.name ∧ ks'.hidden = ks.hidden ∧ ks'.loader = ks.loader ∧ ks'.kind = ks.kind) ∧ (kt'.name = kt.name ∧ kt'.hidden = kt.hidden ∧ kt'.loader = kt.loader ∧ kt'.kind = kt.kind) ∧
      ∀ target, Steps p.tables e below (((T1.setVm vm').setTop g).pushFrame (.throwNew "java/lang/ClassCastException" (some (Op.checkcast.message vm' ks' kt')) none)) target → Steps p.tables e below (T1.setTop g) target := by
  have hpl : e.platform.magicAccessors = ({} : Platform).magicAccessors := by rw [X.admits.platform]
  obtain ⟨c', hc', hcl⟩ := Cond.classLink_spec hown hlink e.platform hpl
  cases hcT.symm.trans hc'
  obtain ⟨dk, _, _, kt0, hd, _, _, _, _, hkt0, _, hopen⟩ := hcl.here
  have hcl₀ := X.warmed.classLinks hcl
  have hW' : s.WarmedH (T1.vm.noted m.cls index (.cls cT)) := X.warmed.noted hd hopen (State.rightAt_cls hcl)
  obtain ⟨ks', hks', es⟩ := hW'.alike.2.2 _ _ hks
  obtain ⟨kt', hkt', et⟩ := hW'.alike.2.2 _ _ hkt
  refine ⟨_, ks', kt', X.noted hW', by rw [es]; exact ⟨rfl, rfl, rfl, rfl⟩, by rw [et]; exact ⟨rfl, rfl, rfl, rfl⟩, fun target hrest => ?_⟩
  subst hg
  jvm_step X.here [hexec, hdg, Op.checkcast.wp_cold (e := e) (s := T1) (f := g) X.here.top hstack (resolveClass_links e.toSetting hcl₀) hcl₀.ready,
    Op.checkcast.wp_ready (e := e) (s := T1.setVm (T1.vm.noted g.method.cls index (.cls cT))) (f := g) X.here.top hcl₀.ready hstack]
  refine ⟨cell, hcell, VmData.noStatics_of hobj, ks', hks', kt', hkt', ?_⟩
  have h1 : (T1.vm.noted g.method.cls index (Resolved.cls cT)).assignable cell.cls cT = false := by rw [hW'.alike.assignable]; exact hasg
  simp only [State.vm_setVm, h1]
  exact hrest
theorem x_castNo (C : Cx p s m args meth c A own cc nL rt E) (hX : XH E A B F M G T H) {k : Int} (hk : 0 ≤ k ∧ k < 4) (hn : ¬ M 203 k = -4) {nm n2 : String} (hnm : s.vm.findClass nm = some (E.2 (rty (M 203 k)))) {t2 : Nat} {ty : FieldType} (ht2 : (us_T E.2)[t2]? = some (E.2 t2, ty)) (hn2 : s.vm.findClass n2 = some (E.2 t2)) (hw1 : ((withoutBrackets nm).length == 1) = true) (hw2 : ((withoutBrackets n2).length == 1) = true) (hnc : (nm, n2) ∈ us_NC) (hpr : (nm, n2) ∈ ([("[I", "[B"), ("[S", "[B"), ("[I", "[S"), ("[B", "[S"), ("[B", "[I"), ("[S", "[I")] : List (String × String))) {index : Nat} (hlink : Cond.classLink own index n2 ∈ lw_all) (hdg : decode cc pc = .ok (.checkcast index, 3))
    (kk : ∀ tx : String, TxG tx → vx_Note p l e R s m args below meth c H locs cells slots Q (F0 m pc ls (.ref (B 61 k) :: rest)) "java/lang/ClassCastException" tx) : W p l e R s m args below meth c H locs cells slots Q (F0 m pc ls (.ref (B 61 k) :: rest)) := by
  intro T1 hT X
  obtain ⟨c1, c2, f1, f2, f3⟩ := C.nc hnc
  cases hnm.symm.trans f1
  cases hn2.symm.trans f2
  obtain ⟨ks, k1, k2, k3, k4⟩ := fc_spec hnm
  obtain ⟨kt, j1, j2, j3, j4⟩ := fc_spec hn2
  have htt : ∃ ty1, (us_T E.2)[rty (M 203 k)]? = some (E.2 (rty (M 203 k)), ty1) := by
    unfold rty
    split
    · exact ⟨_, rfl⟩
    · split
      · exact ⟨_, rfl⟩
      · exact ⟨_, rfl⟩
  obtain ⟨ty1, htt⟩ := htt
  obtain ⟨-, ka, g1, ca, g2⟩ := (C.k.1.2 _ _ htt).1 0 (fun _ => .null)
  obtain ⟨-, kb, g3, cb, g4⟩ := (C.k.1.2 _ _ ht2).1 0 (fun _ => .null)
  cases Option.some.inj (k1.symm.trans g1)
  cases Option.some.inj (j1.symm.trans g3)
  obtain ⟨vm', ks', kt', X', ⟨a1, a2, a3, a4⟩, ⟨b1, b2, b3, b4⟩, st⟩ := va_castNo X C.x C.o (C.t _ hlink) (by rw [hT]; exact x_c61 hX hk hn) rfl k1 j1 hn2 f3 (g := F0 m pc ls (.ref (B 61 k) :: rest)) rfl rfl (by rw [C.b]; exact hdg)
  obtain ⟨t, q1, q2⟩ := kk _ (msg_ok (v := vm') (a := ks') (b := kt') hpr ⟨a1.trans k2, a2.trans k3, a3.trans k4, ofp (a4.trans g2) (a1.trans k2) hw1⟩ ⟨b1.trans j2, b2.trans j3, b3.trans j4, ofp (b4.trans g4) (b1.trans j2) hw2⟩) (T1.setVm vm') hT X'
  exact ⟨t, st t q1, q2⟩
theorem x_lb61 (C : Cx p s m args meth c A own cc nL rt E) (hX : XH E A B F M G T H) {k : Int} (hk : 0 ≤ k ∧ k < 4) (hn : ¬ M 203 k = -4) (hty : M 203 k = 0) {i : Int} (hi : 0 ≤ i ∧ i < M 204 k) (hdg : decode cc pc = .ok (.baload, 1)) (kk : W p l e R s m args below meth c H locs cells slots Q (F0 m (pc + 1) ls (.int (zi (M 61 (60 * k + i))) :: rest))) : W p l e R s m args below meth c H locs cells slots Q (F0 m pc ls (.int (zi i) :: .ref (B 61 k) :: rest)) := by
  have r4 : 0 ≤ M 204 k ∧ M 204 k ≤ 60 := hX.2.2.1 204 (0, 60) rfl k
  have et : rty (M 203 k) = 1 := if_pos hty
  have key := g_bald C hX.1 (x_r 61 k) 1 (n := (M 204 k).toNat) (g := fun j => xrow 60 (M 61) k j) (rest := rest) (by rw [x_cef (by omega) hk.1, xK_61 hk hn, et]) rfl (i := i) (by omega) (by omega) hdg (by
    show W p l e R s m args below meth c H locs cells slots Q (F0 m (pc + 1) ls (.int (zi (xrow 60 (M 61) k i)) :: rest))
    rw [xrow_in (by omega)]
    exact kk)
  rw [x_adf (by omega) hk.1] at key
  exact key
theorem x_lb61Z (C : Cx p s m args meth c A own cc nL rt E) (hX : XH E A B F M G T H) {k : Int} (hk : 0 ≤ k ∧ k < 4) (hn : ¬ M 203 k = -4) (hty : M 203 k = 0) {i : Int} (hir : -2147483648 ≤ i ∧ i < 2147483648) (hi : ¬ (0 ≤ i ∧ i < M 204 k)) (hdg : decode cc pc = .ok (.baload, 1)) (kk : ∀ tx : String, TxG tx → vx_Note p l e R s m args below meth c H locs cells slots Q (F0 m pc ls rest) "java/lang/ArrayIndexOutOfBoundsException" tx) : W p l e R s m args below meth c H locs cells slots Q (F0 m pc ls (.int (zi i) :: .ref (B 61 k) :: rest)) := by
  have r4 : 0 ≤ M 204 k ∧ M 204 k ≤ 60 := hX.2.2.1 204 (0, 60) rfl k
  have et : rty (M 203 k) = 1 := if_pos hty
  have hc := x_c61 hX hk hn
  rw [et] at hc
  exact vx_baldZ (D := E.1) (cl := us_cl) (ws := [(B 61 k, .inl (E.2 1, (M 204 k).toNat, .inl (fun j : Nat => zi (xrow 60 (M 61) k j))))]) C.x C.b C.k.1 (fun q x hq => by
    cases q with
    | zero => cases hq; exact hc
    | succ q => cases hq) 0 1 rfl rfl (zi_out hir (by omega)) hdg (fun tx htx => kk tx (htx ▸ tx_ix _ (by omega)))
theorem x_sb61Z (C : Cx p s m args meth c A own cc nL rt E) (hX : XH E A B F M G T H) {k : Int} (hk : 0 ≤ k ∧ k < 4) (hn : ¬ M 203 k = -4) (hty : M 203 k = 0) {i v : Int} (hir : -2147483648 ≤ i ∧ i < 2147483648) (hi : ¬ (0 ≤ i ∧ i < M 204 k)) (hdg : decode cc pc = .ok (.bastore, 1)) (kk : ∀ tx : String, TxG tx → vx_Note p l e R s m args below meth c H locs cells slots Q (F0 m pc ls rest) "java/lang/ArrayIndexOutOfBoundsException" tx) : W p l e R s m args below meth c H locs cells slots Q (F0 m pc ls (.int (zi v) :: .int (zi i) :: .ref (B 61 k) :: rest)) := by
  have r4 : 0 ≤ M 204 k ∧ M 204 k ≤ 60 := hX.2.2.1 204 (0, 60) rfl k
  have et : rty (M 203 k) = 1 := if_pos hty
  have hc := x_c61 hX hk hn
  rw [et] at hc
  exact vx_bastZ (D := E.1) (cl := us_cl) (ws := [(B 61 k, .inl (E.2 1, (M 204 k).toNat, .inl (fun j : Nat => zi (xrow 60 (M 61) k j))))]) C.x C.b C.k.1 (fun q x hq => by
    cases q with
    | zero => cases hq; exact hc
    | succ q => cases hq) 0 1 rfl rfl (zi_out hir (by omega)) hdg (fun tx htx => kk tx (htx ▸ tx_ix _ (by omega)))
theorem x_sb61 (C : Cx p s m args meth c A own cc nL rt E) (hX : XH E A B F M G T H) (hS : va_S A s.heap H locs) {k : Int} (hk : 0 ≤ k ∧ k < 4) (hn : ¬ M 203 k = -4) (hty : M 203 k = 0) {i v : Int} (hi : 0 ≤ i ∧ i < M 204 k) (hv : narrow .byte (.int (zi v)) = .int (zi v)) (hvr : -2147483648 ≤ v ∧ v ≤ 2147483647) {M' : Nat → Int → Int} (hM : va_up M 61 (fup (M 61) (60 * k + i) v) = M') (hdg : decode cc pc = .ok (.bastore, 1)) (kk : ∀ (H : Heap) (locs : List Loc), XH E A B F M' G T H → va_S A s.heap H locs → W p l e R s m args below meth c H locs cells slots Q (F0 m (pc + 1) ls rest)) : W p l e R s m args below meth c H locs cells slots Q (F0 m pc ls (.int (zi v) :: .int (zi i) :: .ref (B 61 k) :: rest)) := by
  have r4 : 0 ≤ M 204 k ∧ M 204 k ≤ 60 := hX.2.2.1 204 (0, 60) rfl k
  have et : rty (M 203 k) = 1 := if_pos hty
  have hp : xpr F M 61 k = some (1, (M 204 k).toNat, 60) := (xpr_61 hk hn).trans (by rw [et])
  have key := g_bast C hX.1 hS (x_r 61 k) 1 (n := (M 204 k).toNat) (g := fun j => xrow 60 (M 61) k j) (v := v) (rest := rest) (by rw [x_cef (by omega) hk.1, xK_61 hk hn, et]) rfl (i := i) (by omega) (by omega) hv hdg (fun H1 locs1 h1 h2 => kk H1 locs1 (by
    subst hM
    rw [x_ceu (by omega) hk.1] at h1
    have e := xK_dst (tc := E.2) (B := B) (G := G) (v := v) (f := 61) rfl rfl hp (fun j q hq => by
      have hq : (if (0 ≤ j ∧ j < 4) ∧ ¬ M 203 j = -4 then some (if M 203 j = 0 then 1 else if M 203 j = 1 then 2 else 0, (M 204 j).toNat, 60) else none) = some q := hq
      split at hq
      · cases hq; rfl
      · cases hq) (by omega) (j := i) (show 0 ≤ i ∧ i < (60 : Nat) by omega)
    have h1 := e ▸ h1
    exact ⟨h1, hX.2.1, mb_st hX.2.2.1 (fun q hq => by cases hq; exact hvr), hX.2.2.2⟩) h2)
  rw [x_adf (by omega) hk.1] at key
  exact key
theorem x_ls61 (C : Cx p s m args meth c A own cc nL rt E) (hX : XH E A B F M G T H) {k : Int} (hk : 0 ≤ k ∧ k < 4) (hn : ¬ M 203 k = -4) (hty : M 203 k = 1) {i : Int} (hi : 0 ≤ i ∧ i < M 204 k) (hdg : decode cc pc = .ok (.saload, 1)) (kk : W p l e R s m args below meth c H locs cells slots Q (F0 m (pc + 1) ls (.int (zi (M 61 (60 * k + i))) :: rest))) : W p l e R s m args below meth c H locs cells slots Q (F0 m pc ls (.int (zi i) :: .ref (B 61 k) :: rest)) := by
  have r4 : 0 ≤ M 204 k ∧ M 204 k ≤ 60 := hX.2.2.1 204 (0, 60) rfl k
  have et : rty (M 203 k) = 2 := (if_neg (by omega)).trans (if_pos hty)
  have key := g_sald C hX.1 (x_r 61 k) 2 (n := (M 204 k).toNat) (g := fun j => xrow 60 (M 61) k j) (rest := rest) (by rw [x_cef (by omega) hk.1, xK_61 hk hn, et]) rfl (i := i) (by omega) (by omega) hdg (by
    show W p l e R s m args below meth c H locs cells slots Q (F0 m (pc + 1) ls (.int (zi (xrow 60 (M 61) k i)) :: rest))
    rw [xrow_in (by omega)]
    exact kk)
  rw [x_adf (by omega) hk.1] at key
  exact key
theorem x_ls61Z (C : Cx p s m args meth c A own cc nL rt E) (hX : XH E A B F M G T H) {k : Int} (hk : 0 ≤ k ∧ k < 4) (hn : ¬ M 203 k = -4) (hty : M 203 k = 1) {i : Int} (hir : -2147483648 ≤ i ∧ i < 2147483648) (hi : ¬ (0 ≤ i ∧ i < M 204 k)) (hdg : decode cc pc = .ok (.saload, 1)) (kk : ∀ tx : String, TxG tx → vx_Note p l e R s m args below meth c H locs cells slots Q (F0 m pc ls rest) "java/lang/ArrayIndexOutOfBoundsException" tx) : W p l e R s m args below meth c H locs cells slots Q (F0 m pc ls (.int (zi i) :: .ref (B 61 k) :: rest)) := by
  have r4 : 0 ≤ M 204 k ∧ M 204 k ≤ 60 := hX.2.2.1 204 (0, 60) rfl k
  have et : rty (M 203 k) = 2 := (if_neg (by omega)).trans (if_pos hty)
  have hc := x_c61 hX hk hn
  rw [et] at hc
  exact vx_saldZ (D := E.1) (cl := us_cl) (ws := [(B 61 k, .inl (E.2 2, (M 204 k).toNat, .inl (fun j : Nat => zi (xrow 60 (M 61) k j))))]) C.x C.b C.k.1 (fun q x hq => by
    cases q with
    | zero => cases hq; exact hc
    | succ q => cases hq) 0 2 rfl rfl (zi_out hir (by omega)) hdg (fun tx htx => kk tx (htx ▸ tx_ix _ (by omega)))
theorem x_ss61Z (C : Cx p s m args meth c A own cc nL rt E) (hX : XH E A B F M G T H) {k : Int} (hk : 0 ≤ k ∧ k < 4) (hn : ¬ M 203 k = -4) (hty : M 203 k = 1) {i v : Int} (hir : -2147483648 ≤ i ∧ i < 2147483648) (hi : ¬ (0 ≤ i ∧ i < M 204 k)) (hdg : decode cc pc = .ok (.sastore, 1)) (kk : ∀ tx : String, TxG tx → vx_Note p l e R s m args below meth c H locs cells slots Q (F0 m pc ls rest) "java/lang/ArrayIndexOutOfBoundsException" tx) : W p l e R s m args below meth c H locs cells slots Q (F0 m pc ls (.int (zi v) :: .int (zi i) :: .ref (B 61 k) :: rest)) := by
  have r4 : 0 ≤ M 204 k ∧ M 204 k ≤ 60 := hX.2.2.1 204 (0, 60) rfl k
  have et : rty (M 203 k) = 2 := (if_neg (by omega)).trans (if_pos hty)
  have hc := x_c61 hX hk hn
  rw [et] at hc
  exact vx_sastZ (D := E.1) (cl := us_cl) (ws := [(B 61 k, .inl (E.2 2, (M 204 k).toNat, .inl (fun j : Nat => zi (xrow 60 (M 61) k j))))]) C.x C.b C.k.1 (fun q x hq => by
    cases q with
    | zero => cases hq; exact hc
    | succ q => cases hq) 0 2 rfl rfl (zi_out hir (by omega)) hdg (fun tx htx => kk tx (htx ▸ tx_ix _ (by omega)))
theorem x_ss61 (C : Cx p s m args meth c A own cc nL rt E) (hX : XH E A B F M G T H) (hS : va_S A s.heap H locs) {k : Int} (hk : 0 ≤ k ∧ k < 4) (hn : ¬ M 203 k = -4) (hty : M 203 k = 1) {i v : Int} (hi : 0 ≤ i ∧ i < M 204 k) (hv : narrow .short (.int (zi v)) = .int (zi v)) (hvr : -2147483648 ≤ v ∧ v ≤ 2147483647) {M' : Nat → Int → Int} (hM : va_up M 61 (fup (M 61) (60 * k + i) v) = M') (hdg : decode cc pc = .ok (.sastore, 1)) (kk : ∀ (H : Heap) (locs : List Loc), XH E A B F M' G T H → va_S A s.heap H locs → W p l e R s m args below meth c H locs cells slots Q (F0 m (pc + 1) ls rest)) : W p l e R s m args below meth c H locs cells slots Q (F0 m pc ls (.int (zi v) :: .int (zi i) :: .ref (B 61 k) :: rest)) := by
  have r4 : 0 ≤ M 204 k ∧ M 204 k ≤ 60 := hX.2.2.1 204 (0, 60) rfl k
  have et : rty (M 203 k) = 2 := (if_neg (by omega)).trans (if_pos hty)
  have hp : xpr F M 61 k = some (2, (M 204 k).toNat, 60) := (xpr_61 hk hn).trans (by rw [et])
  have key := g_sast C hX.1 hS (x_r 61 k) 2 (n := (M 204 k).toNat) (g := fun j => xrow 60 (M 61) k j) (v := v) (rest := rest) (by rw [x_cef (by omega) hk.1, xK_61 hk hn, et]) rfl (i := i) (by omega) (by omega) hv hdg (fun H1 locs1 h1 h2 => kk H1 locs1 (by
    subst hM
    rw [x_ceu (by omega) hk.1] at h1
    have e := xK_dst (tc := E.2) (B := B) (G := G) (v := v) (f := 61) rfl rfl hp (fun j q hq => by
      have hq : (if (0 ≤ j ∧ j < 4) ∧ ¬ M 203 j = -4 then some (if M 203 j = 0 then 1 else if M 203 j = 1 then 2 else 0, (M 204 j).toNat, 60) else none) = some q := hq
      split at hq
      · cases hq; rfl
      · cases hq) (by omega) (j := i) (show 0 ≤ i ∧ i < (60 : Nat) by omega)
    have h1 := e ▸ h1
    exact ⟨h1, hX.2.1, mb_st hX.2.2.1 (fun q hq => by cases hq; exact hvr), hX.2.2.2⟩) h2)
  rw [x_adf (by omega) hk.1] at key
  exact key
theorem x_li61 (C : Cx p s m args meth c A own cc nL rt E) (hX : XH E A B F M G T H) {k : Int} (hk : 0 ≤ k ∧ k < 4) (hn : ¬ M 203 k = -4) (hty : ¬ M 203 k = 0 ∧ ¬ M 203 k = 1) {i : Int} (hi : 0 ≤ i ∧ i < M 204 k) (hdg : decode cc pc = .ok (.iaload, 1)) (kk : W p l e R s m args below meth c H locs cells slots Q (F0 m (pc + 1) ls (.int (zi (M 61 (60 * k + i))) :: rest))) : W p l e R s m args below meth c H locs cells slots Q (F0 m pc ls (.int (zi i) :: .ref (B 61 k) :: rest)) := by
  have r4 : 0 ≤ M 204 k ∧ M 204 k ≤ 60 := hX.2.2.1 204 (0, 60) rfl k
  have et : rty (M 203 k) = 0 := (if_neg hty.1).trans (if_neg hty.2)
  have key := g_iald C hX.1 (x_r 61 k) 0 (n := (M 204 k).toNat) (g := fun j => xrow 60 (M 61) k j) (rest := rest) (by rw [x_cef (by omega) hk.1, xK_61 hk hn, et]) rfl (i := i) (by omega) (by omega) hdg (by
    show W p l e R s m args below meth c H locs cells slots Q (F0 m (pc + 1) ls (.int (zi (xrow 60 (M 61) k i)) :: rest))
    rw [xrow_in (by omega)]
    exact kk)
  rw [x_adf (by omega) hk.1] at key
  exact key
theorem x_li61Z (C : Cx p s m args meth c A own cc nL rt E) (hX : XH E A B F M G T H) {k : Int} (hk : 0 ≤ k ∧ k < 4) (hn : ¬ M 203 k = -4) (hty : ¬ M 203 k = 0 ∧ ¬ M 203 k = 1) {i : Int} (hir : -2147483648 ≤ i ∧ i < 2147483648) (hi : ¬ (0 ≤ i ∧ i < M 204 k)) (hdg : decode cc pc = .ok (.iaload, 1)) (kk : ∀ tx : String, TxG tx → vx_Note p l e R s m args below meth c H locs cells slots Q (F0 m pc ls rest) "java/lang/ArrayIndexOutOfBoundsException" tx) : W p l e R s m args below meth c H locs cells slots Q (F0 m pc ls (.int (zi i) :: .ref (B 61 k) :: rest)) := by
  have r4 : 0 ≤ M 204 k ∧ M 204 k ≤ 60 := hX.2.2.1 204 (0, 60) rfl k
  have et : rty (M 203 k) = 0 := (if_neg hty.1).trans (if_neg hty.2)
  have hc := x_c61 hX hk hn
  rw [et] at hc
  exact vx_ialdZ (D := E.1) (cl := us_cl) (ws := [(B 61 k, .inl (E.2 0, (M 204 k).toNat, .inl (fun j : Nat => zi (xrow 60 (M 61) k j))))]) C.x C.b C.k.1 (fun q x hq => by
    cases q with
    | zero => cases hq; exact hc
    | succ q => cases hq) 0 0 rfl rfl (zi_out hir (by omega)) hdg (fun tx htx => kk tx (htx ▸ tx_ix _ (by omega)))
theorem x_si61Z (C : Cx p s m args meth c A own cc nL rt E) (hX : XH E A B F M G T H) {k : Int} (hk : 0 ≤ k ∧ k < 4) (hn : ¬ M 203 k = -4) (hty : ¬ M 203 k = 0 ∧ ¬ M 203 k = 1) {i v : Int} (hir : -2147483648 ≤ i ∧ i < 2147483648) (hi : ¬ (0 ≤ i ∧ i < M 204 k)) (hdg : decode cc pc = .ok (.iastore, 1)) (kk : ∀ tx : String, TxG tx → vx_Note p l e R s m args below meth c H locs cells slots Q (F0 m pc ls rest) "java/lang/ArrayIndexOutOfBoundsException" tx) : W p l e R s m args below meth c H locs cells slots Q (F0 m pc ls (.int (zi v) :: .int (zi i) :: .ref (B 61 k) :: rest)) := by
  have r4 : 0 ≤ M 204 k ∧ M 204 k ≤ 60 := hX.2.2.1 204 (0, 60) rfl k
  have et : rty (M 203 k) = 0 := (if_neg hty.1).trans (if_neg hty.2)
  have hc := x_c61 hX hk hn
  rw [et] at hc
  exact vx_iastZ (D := E.1) (cl := us_cl) (ws := [(B 61 k, .inl (E.2 0, (M 204 k).toNat, .inl (fun j : Nat => zi (xrow 60 (M 61) k j))))]) C.x C.b C.k.1 (fun q x hq => by
    cases q with
    | zero => cases hq; exact hc
    | succ q => cases hq) 0 0 rfl rfl (zi_out hir (by omega)) hdg (fun tx htx => kk tx (htx ▸ tx_ix _ (by omega)))
theorem x_si61 (C : Cx p s m args meth c A own cc nL rt E) (hX : XH E A B F M G T H) (hS : va_S A s.heap H locs) {k : Int} (hk : 0 ≤ k ∧ k < 4) (hn : ¬ M 203 k = -4) (hty : ¬ M 203 k = 0 ∧ ¬ M 203 k = 1) {i v : Int} (hi : 0 ≤ i ∧ i < M 204 k) (hvr : -2147483648 ≤ v ∧ v ≤ 2147483647) {M' : Nat → Int → Int} (hM : va_up M 61 (fup (M 61) (60 * k + i) v) = M') (hdg : decode cc pc = .ok (.iastore, 1)) (kk : ∀ (H : Heap) (locs : List Loc), XH E A B F M' G T H → va_S A s.heap H locs → W p l e R s m args below meth c H locs cells slots Q (F0 m (pc + 1) ls rest)) : W p l e R s m args below meth c H locs cells slots Q (F0 m pc ls (.int (zi v) :: .int (zi i) :: .ref (B 61 k) :: rest)) := by
  have r4 : 0 ≤ M 204 k ∧ M 204 k ≤ 60 := hX.2.2.1 204 (0, 60) rfl k
  have et : rty (M 203 k) = 0 := (if_neg hty.1).trans (if_neg hty.2)
  have hp : xpr F M 61 k = some (0, (M 204 k).toNat, 60) := (xpr_61 hk hn).trans (by rw [et])
  have key := g_iast C hX.1 hS (x_r 61 k) 0 (n := (M 204 k).toNat) (g := fun j => xrow 60 (M 61) k j) (v := v) (rest := rest) (by rw [x_cef (by omega) hk.1, xK_61 hk hn, et]) rfl (i := i) (by omega) (by omega) hdg (fun H1 locs1 h1 h2 => kk H1 locs1 (by
    subst hM
    rw [x_ceu (by omega) hk.1] at h1
    have e := xK_dst (tc := E.2) (B := B) (G := G) (v := v) (f := 61) rfl rfl hp (fun j q hq => by
      have hq : (if (0 ≤ j ∧ j < 4) ∧ ¬ M 203 j = -4 then some (if M 203 j = 0 then 1 else if M 203 j = 1 then 2 else 0, (M 204 j).toNat, 60) else none) = some q := hq
      split at hq
      · cases hq; rfl
      · cases hq) (by omega) (j := i) (show 0 ≤ i ∧ i < (60 : Nat) by omega)
    have h1 := e ▸ h1
    exact ⟨h1, hX.2.1, mb_st hX.2.2.1 (fun q hq => by cases hq; exact hvr), hX.2.2.2⟩) h2)
  rw [x_adf (by omega) hk.1] at key
  exact key
end ROWS12
