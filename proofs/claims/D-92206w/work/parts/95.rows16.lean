set_option maxRecDepth 100000
/-! ROWS: arrays of references, arrays of arrays, the four sheets -/
theorem rw_more {D : va_G} {A : Nat → Prop} {ad ad' : Nat → Nat} {ce ce' : Nat → Option va_E} {H H1 : Heap} (h : rw_H D A ad ce H) (oq : ∀ q : Nat, q < H.size → H1[q]? = H[q]?) (hold : ∀ k, ce k ≠ none → ce' k = ce k ∧ ad' k = ad k) (hnew : ∀ k e, ce k = none → ce' k = some e → va_at D us_cl (ad' k, e) H1 ∧ H.size ≤ ad' k ∧ A (ad' k)) (hinj : ∀ i j, ce i = none → ce j = none → ce' i ≠ none → ce' j ≠ none → ad' i = ad' j → i = j) : rw_H D A ad' ce' H1 := by
  have hlt : ∀ k, ce k ≠ none → ad k < H.size := by
    intro k hk
    cases hc : ce k with
    | none => exact absurd hc hk
    | some x => exact (h.1 k x hc).lt
  have hge : ∀ k, ce k = none → ce' k ≠ none → H.size ≤ ad' k := by
    intro k hk hk'
    cases hc : ce' k with
    | none => exact absurd hc hk'
    | some x => exact (hnew k x hk hc).2.1
  refine ⟨fun k e hk => ?_, fun i j hi hj hij => ?_, fun k hk => ?_⟩
  · by_cases q : ce k = none
    · exact (hnew k e q hk).1
    · obtain ⟨e1, e2⟩ := hold k q
      rw [e1] at hk
      rw [e2]
      exact (h.1 k e hk).kept (oq _ (hlt k q))
  · by_cases qi : ce i = none
    · by_cases qj : ce j = none
      · exact hinj i j qi qj hi hj hij
      · have a := hge i qi hi
        have b := hlt j qj
        rw [hij, (hold j qj).2] at a
        omega
    · by_cases qj : ce j = none
      · have a := hge j qj hj
        have b := hlt i qi
        rw [← hij, (hold i qi).2] at a
        omega
      · rw [(hold i qi).2, (hold j qj).2] at hij
        exact h.2.1 i j qi qj hij
  · by_cases q : ce k = none
    · cases hc : ce' k with
      | none => exact absurd hc hk
      | some x => exact (hnew k x q hc).2.2
    · rw [(hold k q).2]
      exact h.2.2 k q
theorem outer_e (a : ClassId) (n h : Nat) : ∀ i : Nat, Multi.outerC a n h i = arrV a n (fun j => va_rf (if j < i then some (h + 1 + j) else none))
  | 0 => by
    show ({ cls := a, slots := Array.replicate n .null, vm := .none } : Cell) = _
    rw [arrV_new]
    congr 1
  | i + 1 => by
    show (Multi.outerC a n h i).setSlot i (.ref (h + 1 + i)) = _
    rw [outer_e a n h i, arrV_store]
    congr 1
    funext j
    unfold updV
    by_cases q : j = i
    · subst q
      rw [if_pos rfl, if_pos (by omega)]
      rfl
    · rw [if_neg q]
      show va_rf (if j < i then some (h + 1 + j) else none) = va_rf (if j < i + 1 then some (h + 1 + j) else none)
      by_cases z : j < i
      · rw [if_pos z, if_pos (by omega)]
      · rw [if_neg z, if_neg (by omega)]
theorem inner_e (b : ClassId) (k : Nat) (v : Value) : Multi.innerC b k v = arrV b k (fun _ => v) := arrV_new b k v
theorem fill_h (t : State) (a b : ClassId) (n k : Nat) (v : Value) : ∀ i : Nat, (Multi.fill t a b n k v i).heap.size = t.heap.size + 1 + i ∧ (∀ q : Nat, q < t.heap.size → (Multi.fill t a b n k v i).heap[q]? = t.heap[q]?) ∧ (Multi.fill t a b n k v i).heap[t.heap.size]? = some (Multi.outerC a n t.heap.size i) ∧ ∀ j : Nat, j < i → (Multi.fill t a b n k v i).heap[t.heap.size + 1 + j]? = some (Multi.innerC b k v)
  | 0 => by
    have e : (Multi.fill t a b n k v 0).heap = t.heap.push (Multi.outerC a n t.heap.size 0) := rfl
    rw [e]
    refine ⟨by rw [Array.size_push], fun q hq => ?_, ?_, fun j hj => absurd hj (by omega)⟩
    · rw [Array.getElem?_push, if_neg (Nat.ne_of_lt hq)]
    · rw [Array.getElem?_push_size]
  | i + 1 => by
    obtain ⟨h1, h2, h3, h4⟩ := fill_h t a b n k v i
    have e : (Multi.fill t a b n k v (i + 1)).heap = ((Multi.fill t a b n k v i).heap.push (Multi.innerC b k v)).setIfInBounds t.heap.size (Multi.outerC a n t.heap.size (i + 1)) := rfl
    rw [e]
    refine ⟨?_, fun q hq => ?_, ?_, fun j hj => ?_⟩
    · rw [Array.size_setIfInBounds, Array.size_push, h1]
      omega
    · rw [Array.getElem?_setIfInBounds, if_neg (by omega), Array.getElem?_push, if_neg (by omega)]
      exact h2 q hq
    · rw [Array.getElem?_setIfInBounds, if_pos rfl, if_pos (by rw [Array.size_push, h1]; omega)]
    · rw [Array.getElem?_setIfInBounds, if_neg (by omega), Array.getElem?_push]
      by_cases q : j = i
      · subst q
        rw [if_pos (by rw [h1])]
      · rw [if_neg (by rw [h1]; omega)]
        exact h4 j (by omega)
theorem ao_spec {t : FieldType} {args : Array Value} {s : State} (h : (Cond.arrayOver (.array t)).before args s = true) : ∃ (comp c : ClassId) (k : Class), s.vm.findClass (FieldType.array t).toString = some comp ∧ Array.findIdx? (fun x : Class => match x.kind with | Kind.array component type => component == comp | x => false) s.vm.classes = some c ∧ s.vm.classes[c]? = some k ∧ k.kind = Kind.array comp (.array t) ∧ s.vm.findClass ("[" ++ (FieldType.array t).toString) = some c := by
  simp only [Cond.before, Cond.holds] at h
  unfold Cond.value at h
  cases h1 : s.vm.findClass (FieldType.array t).toString with
  | none => simp [h1] at h
  | some comp =>
    simp only [h1, Option.bind_some] at h
    generalize h2 : Array.findIdx? _ s.vm.classes = fo at h
    cases fo with
    | none => simp at h
    | some c =>
      simp only [Option.bind_some] at h
      cases h3 : s.vm.classes[c]? with
      | none => simp [h3] at h
      | some k =>
        rw [h3] at h
        simp only [Option.map_some] at h
        have hm : (match k.kind with | Kind.array component ty => component == comp | _ => false) = true := by
          obtain ⟨hlt, hp, _⟩ := Array.findIdx?_eq_some_iff_getElem.mp h2
          have e : s.vm.classes[c]? = some s.vm.classes[c] := Array.getElem?_eq_getElem hlt
          rw [h3] at e
          cases e
          exact hp
        cases hk : k.kind with
        | array cc ty =>
          rw [hk] at h hm
          simp at h hm
          exact ⟨comp, c, k, rfl, h2, h3, by rw [hk, h.1, hm], h.2⟩
        | ordinary => rw [hk] at hm; simp at hm
        | primitive z => rw [hk] at hm; simp at hm
section ROWS16
variable {p : Program} {l : Launch} {e : Env} {R : Room} {s : State} {m : MethodId} {args : Array Value} {below : List Frame} {meth : Method} {c : Code} {H : Heap} {locs : List Loc} {cells slots : Nat} {Q : State → Prop}
variable {A : Nat → Prop} {own : String} {cc : ByteArray} {nL : Nat} {rt : Option FieldType} {E : us_E} {pc : Nat} {ls : Array Slot} {rest : List Value} {B : Nat → Int → Nat} {F : Nat → Int} {M : Nat → Int → Int} {G : Nat → Int → Option Nat} {T : x_T}
theorem va_anewA {T1 : State} (X : Stand p l e R s m args below meth c T1 locs cells slots) (hexec : p.tables.exec = Jvm.exec)
    {own : String} {index : Nat} {t : FieldType} (hown : s.vm.findClass own = some m.cls) (hlink : (Cond.classLink own index (FieldType.array t).toString).before args s = true) (hover : (Cond.arrayOver (.array t)).before args s = true)
    {g : JFrame} (hg : g.method = m) (hdg : decode c.code g.pc = .ok (.anewarray index, 3)) {n : Int32} {rest : List Value} (hstack : g.stack = .int n :: rest) (hn : ¬ n < 0) (hbytes : n.toNatClampNeg * 4 ≤ 536870912) (hcells : cells + 1 ≤ R.cells) (hslots : slots + n.toNatClampNeg ≤ R.slots) :
    ∃ (vm' : Vm) (cA : ClassId), s.WarmedH vm' ∧ s.vm.findClass ("[" ++ (FieldType.array t).toString) = some cA ∧ Stand p l e R s m args below meth c ((T1.setVm vm').pushCell { cls := cA, slots := Array.replicate n.toNatClampNeg .null }) locs (cells + 1) (slots + n.toNatClampNeg) ∧
      ∀ target, Steps p.tables e below (((T1.setVm vm').pushCell { cls := cA, slots := Array.replicate n.toNatClampNeg .null }).setTop { g with pc := g.pc + 3, stack := .ref T1.heap.size :: rest }) target → Steps p.tables e below (T1.setTop g) target := by
  have hpl : e.platform.magicAccessors = ({} : Platform).magicAccessors := by rw [X.admits.platform]
  obtain ⟨comp, cA, k, a1, a2, a3, a4, a5⟩ := ao_spec hover
  obtain ⟨c', hc', hcl⟩ := Cond.classLink_spec hown hlink e.platform hpl
  cases a1.symm.trans hc'
  obtain ⟨dk, _, _, kt0, hd, _, _, _, _, hkt0, _, hopen⟩ := hcl.here
  have hcl₀ := X.warmed.classLinks hcl
  have hW' : s.WarmedH (T1.vm.noted m.cls index (.cls comp)) := X.warmed.noted hd hopen (State.rightAt_cls hcl)
  obtain ⟨kt', hkt', et⟩ := hW'.alike.2.2 _ _ hkt0
  obtain ⟨k', hk', ek⟩ := hW'.alike.2.2 _ _ a3
  have hfi : Array.findIdx? (fun x : Class => match x.kind with | Kind.array component type => component == comp | x => false) (T1.vm.noted m.cls index (.cls comp)).classes = some cA := by
    rw [hW'.alike.findIdx?_eqK _ (fun _ => rfl)]
    exact a2
  refine ⟨_, cA, hW', a5, ?_, fun target hrest => ?_⟩
  · have z := (X.noted hW').pushed ({ cls := cA, slots := Array.replicate n.toNatClampNeg .null } : Cell)
    simp only [Array.size_replicate] at z
    exact z
  · subst hg
    jvm_step X.here [hexec, hdg, Op.anewarray.wp_cold (e := e) (s := T1) (f := g) X.here.top (resolveClass_links e.toSetting hcl₀) hcl₀.ready,
      Op.anewarray.wp_ready (e := e) (s := T1.setVm (T1.vm.noted g.method.cls index (.cls comp))) (f := g) X.here.top hcl₀.ready hkt' hfi hk' (by rw [ek]; exact a4) rfl hstack hn (by rw [Launch.admits_arrayLengthLimit X.admits]; omega) (by rw [Launch.admits_maxHeapBytes X.admits]; simp only [componentBytes]; omega)]
    exact ⟨by have := X.cellsAbove hcells; exact this, X.slotsAbove hslots, hrest⟩
end ROWS16
