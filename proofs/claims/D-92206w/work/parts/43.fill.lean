set_option maxRecDepth 100000
/-! java.util.Arrays.fill over a row of the component -/
theorem hd_J10_fill : yJ10_fill.cls ≠ "java/lang/invoke/MethodHandle" ∧ yJ10_fill.cls ≠ "java/lang/invoke/VarHandle" ∧ (parseMethodDescriptor yJ10_fill.desc).map (fun d => d.parameters.length) = some 2 := by decide +kernel
abbrev rm_J10_fill : Room := { frames := 0, cells := 0, slots := 0, locals := 0 }
theorem x_lenI {p : Program} {l : Launch} {e : Env} {R : Room} {s : State} {m : MethodId} {args : Array Value} {below : List Frame} {meth : Method} {c : Code} {H : Heap} {locs : List Loc} {cells slots : Nat} {Q : State → Prop} {A : Nat → Prop} {own : String} {cc : ByteArray} {nL : Nat} {rt : Option FieldType} {E : us_E} {pc : Nat} {ls : Array Slot} {rest : List Value} {B : Nat → Int → Nat} {F : Nat → Int} {M : Nat → Int → Int} {G : Nat → Int → Option Nat} {T : x_T} (C : Cx p s m args meth c A own cc nL rt E) (hX : XH E A B F M G T H) (f : Nat) {t n R1 : Nat} (h : xsp f = some (t, n, R1)) (hf : f < 100) {ty : FieldType} (ht : (us_T E.2)[t]? = some (E.2 t, ty)) {i : Int} (hi : 0 ≤ i ∧ i < R1) (hdg : decode cc pc = .ok (.arraylength, 1)) (kk : W p l e R s m args below meth c H locs cells slots Q (F0 m (pc + 1) ls (.int (zi (n : Int)) :: rest))) : W p l e R s m args below meth c H locs cells slots Q (F0 m pc ls (.ref (B f i) :: rest)) := by
  have key := g_alen C hX.1 (x_r f i) t (by rw [x_cef hf hi.1]; exact xK_i h hi) ht (n : Int) rfl hdg kk
  rw [x_adf hf hi.1] at key
  exact key
set_option maxHeartbeats 8000000 in
theorem met_J10_fill (l : Launch) (E : us_E) (A : Nat → Prop) (B : Nat → Int → Nat) (F : Nat → Int) (M : Nat → Int → Int) (G : Nat → Int → Option Nat) (T : x_T) (f n R1 : Nat) (i v : Int) (h : xsp f = some (0, n, R1)) (hf : f < 100) (hn : n < 1000) (hi : 0 ≤ i ∧ i < R1) (hb : ∀ b, xmb f = some b → b.1 ≤ v ∧ v ≤ b.2) : cMet l yJ10_fill cJ10_fill 4 none rm_J10_fill A E [.ref (B f i), .int (zi v)] (fun H => XH E A B F M G T H) (qv A (fun H => XH E A B F (va_up M f (ffill (M f) (n * i) n v)) G T H)) := by
  refine cMet.of (by decide) (Nat.le_of_ble_eq_true rfl) (fun p e s m args below meth c C hnm hX hS ls hl => ?_)
  have C : Cx p s m args meth c A "java/util/Arrays" cJ10_fill 4 none E := C
  have hX : XH E A B F M G T s.heap := hX
  have hl : lv_has ls 4 [(0, .ref (B f i)), (1, .int (zi v))] := hl
  generalize hH : s.heap = H at hX
  have hS : va_S A s.heap H [] := by rw [← hH]; exact hS
  generalize hlocs : ([] : List Loc) = locs at hS ⊢
  obtain ⟨QQ, hQQ⟩ : ∃ z, MQ below (qv A (fun H => XH E A B F (va_up M f (ffill (M f) (n * i) n v)) G T H)) args s (rm_J10_fill).cells (rm_J10_fill).slots A = z := ⟨_, rfl⟩
  rw [hQQ]
  refine r_const C dJ10_fill_0 ?_
  refine lv_istore_n (lv' := [(2, .int (zi 0)), (0, .ref (B f i)), (1, .int (zi v))]) C.x C.b dJ10_fill_1 rfl hl (by decide) rfl (fun ls hl => ?_)
  refine lv_aload_n C.x C.b dJ10_fill_2 rfl (lv_at hl 1 rfl) ?_
  refine x_lenI C hX f h hf rfl hi dJ10_fill_3 ?_
  refine lv_istore_n (lv' := [(3, .int (zi (n : Int))), (2, .int (zi 0)), (0, .ref (B f i)), (1, .int (zi v))]) C.x C.b dJ10_fill_4 rfl hl (by decide) rfl (fun ls hl => ?_)
  have L5 : ∀ (fu : Nat) (v2 : Int) (h2 : 0 ≤ v2 ∧ v2 ≤ n) (hm : Int.toNat (n - v2) < fu) (H : Heap) (locs : List Loc) (ls : Array Slot) (hX : XH E A B F (va_up M f (ffill (M f) (n * i) v2 v)) G T H) (hS : va_S A s.heap H locs) (hl : lv_has ls 4 [(0, .ref (B f i)), (1, .int (zi v)), (2, .int (zi v2)), (3, .int (zi (n : Int)))]), W p l e rm_J10_fill s m args below meth c H locs 0 0 QQ (F0 m 5 ls []) := by
    intro fu
    induction fu with
    | zero => intro v2 h2 hm; exact absurd hm (Nat.not_lt_zero _)
    | succ fu ih5 =>
      intro v2 h2 hm H locs ls hX hS hl
      refine lv_iload_n C.x C.b dJ10_fill_5 rfl (lv_at hl 2 rfl) ?_
      refine lv_iload_n C.x C.b dJ10_fill_6 rfl (lv_at hl 3 rfl) ?_
      refine r_icmp_ge (tgt := 20) C (by omega) (by omega) dJ10_fill_7 (by decide) (fun c_1 => ?_) (fun c_1 => ?_)
      · rw [← hQQ]
        exact r_vret C hS (Nat.le_of_ble_eq_true rfl) (Nat.le_of_ble_eq_true rfl) dJ10_fill_20 (by rw [show v2 = (n : Int) by omega] at hX; exact hX)
      · refine lv_aload_n C.x C.b dJ10_fill_10 rfl (lv_at hl 0 rfl) ?_
        refine lv_iload_n C.x C.b dJ10_fill_11 rfl (lv_at hl 2 rfl) ?_
        refine lv_iload_n C.x C.b dJ10_fill_12 rfl (lv_at hl 1 rfl) ?_
        refine x_si C hX hS f h hf rfl hi ⟨h2.1, c_1⟩ (by omega) hb (M' := va_up M f (ffill (M f) (n * i) (v2 + 1) v)) (by rw [up_up, va_up_self, ffill_s _ _ _ h2.1]) dJ10_fill_13 (fun H locs hX hS => ?_)
        refine r_iinc (lv' := [(2, .int (zi (v2 + 1))), (0, .ref (B f i)), (1, .int (zi v)), (3, .int (zi (n : Int)))]) C dJ10_fill_14 hl (k := 2) rfl (by decide) rfl (fun ls hl => ?_)
        refine lv_goto (tgt := 5) C.x C.b dJ10_fill_17 (by decide) ?_
        exact ih5 (v2 + 1) (by omega) (by omega) H locs ls hX hS (lv_sub hl [1, 2, 0, 3] rfl)
  exact L5 _ 0 (by omega) (Nat.lt_succ_self _) H locs ls (by rw [ffill_0, up_id M rfl]; exact hX) hS (lv_sub hl [2, 3, 1, 0] rfl)
theorem met_fill1 (l : Launch) (E : us_E) (A : Nat → Prop) (B : Nat → Int → Nat) (F : Nat → Int) (M : Nat → Int → Int) (G : Nat → Int → Option Nat) (T : x_T) (f n : Nat) (v : Int) (h : xsp f = some (0, n, 1)) (hf : f < 100) (hn : n < 1000) (hb : ∀ b, xmb f = some b → b.1 ≤ v ∧ v ≤ b.2) : cMet l yJ10_fill cJ10_fill 4 none rm_J10_fill A E [.ref (B f 0), .int (zi v)] (fun H => XH E A B F M G T H) (qv A (fun H => XH E A B F (va_up M f (ffill (M f) 0 n v)) G T H)) := by
  have z := met_J10_fill l E A B F M G T f n 1 0 v h hf hn (by decide) hb
  rwa [Int.mul_zero] at z
theorem r_mmax {p : Program} {l : Launch} {e : Env} {R : Room} {s : State} {m : MethodId} {args : Array Value} {below : List Frame} {meth : Method} {c : Code} {H : Heap} {locs : List Loc} {cells slots : Nat} {Q : State → Prop} {A : Nat → Prop} {own : String} {cc : ByteArray} {nL : Nat} {rt : Option FieldType} {E : us_E} {pc : Nat} {ls : Array Slot} {rest : List Value} (C : Cx p s m args meth c A own cc nL rt E) (hz : ls.size = nL) {a b : Int} (ha : -2147483648 ≤ a ∧ a < 2147483648) (hb : -2147483648 ≤ b ∧ b < 2147483648) {index : Nat} (hlink : Cond.methodLink own index Lib.Math.max.name ∈ lw_all) (hstat : Cond.static Lib.Math.max.name ∈ lw_all) (hini : Cond.initialized "java/lang/Math" ∈ lw_all) (hcode : Cond.code Lib.Math.max.name Lib.Math.max.code 2 (some .int) ∈ lw_all) (hframes : 1 ≤ R.frames) (hlocals : (rest.map fun v => v.category).sum + 13 ≤ R.locals) (hc : cells ≤ R.cells) (hs : slots ≤ R.slots) (hdg : decode cc pc = .ok (.invokestatic index, 3)) (kk : W p l e R s m args below meth c H locs cells slots Q (F0 m (pc + 3) ls (.int (zi (sel (a < b) b a)) :: rest))) : W p l e R s m args below meth c H locs cells slots Q (F0 m pc ls (.int (zi b) :: .int (zi a) :: rest)) := by
  refine va_mmax C.x C.b (by rw [C.l, hz]) C.o (C.t _ hlink) (C.t _ hstat) (C.t _ hini) (C.t _ hcode) hframes hlocals hc hs hdg ?_
  have e : (if zi a < zi b then zi b else zi a) = zi (sel (a < b) b a) := by
    by_cases q : a < b
    · rw [if_pos ((zi_lt ha hb).2 q), sel_t q]
    · rw [if_neg (fun z => q ((zi_lt ha hb).1 z)), sel_f q]
  rw [e]
  exact kk
