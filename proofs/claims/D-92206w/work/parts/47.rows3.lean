set_option maxRecDepth 100000
/-! LIST, and some plain law of numbers -/
section LROWS
variable {p : Program} {l : Launch} {e : Env} {R : Room} {s : State} {m : MethodId} {args : Array Value} {below : List Frame} {meth : Method} {c : Code} {H : Heap} {locs : List Loc} {cells slots : Nat} {Q : State → Prop}
variable {A : Nat → Prop} {own : String} {cc : ByteArray} {nL : Nat} {rt : Option FieldType} {E : us_E} {pc : Nat} {ls : Array Slot} {rest : List Value}
theorem x_LIST (C : Cx p s m args meth c A RX0 cc nL rt E) (hS : va_S A s.heap H locs) {index : Nat} (hlink : Cond.fieldLink RX0 index "UnreadScript" "LIST" "[I" ∈ lw_all) (hdg : decode cc pc = .ok (.getstatic index, 3)) (kk : W p l e R s m args below meth c H locs cells slots Q (F0 m (pc + 3) ls (.ref (E.2 100) :: rest))) : W p l e R s m args below meth c H locs cells slots Q (F0 m pc ls rest) :=
  va_gets C.x C.b C.k.2.2.1 hS C.o (C.t _ hlink) (fun _ h => h) hdg kk
theorem lst_e : ∀ j : Nat, j < 8 → lst (j : Int) = lstN j := by
  intro j hj
  have h : j = 0 ∨ j = 1 ∨ j = 2 ∨ j = 3 ∨ j = 4 ∨ j = 5 ∨ j = 6 ∨ j = 7 := by omega
  unfold lst
  rcases h with rfl | rfl | rfl | rfl | rfl | rfl | rfl | rfl <;> (repeat first | rw [sel_t (by decide)] | rw [sel_f (by decide)]) <;> rfl
theorem x_ltab (C : Cx p s m args meth c A own cc nL rt E) (hS : va_S A s.heap H locs) {j : Int} (hj : 0 ≤ j ∧ j < 8) (hdg : decode cc pc = .ok (.iaload, 1)) (kk : 1 ≤ lst j ∧ lst j ≤ 60 → W p l e R s m args below meth c H locs cells slots Q (F0 m (pc + 1) ls (.int (zi (lst j)) :: rest))) : W p l e R s m args below meth c H locs cells slots Q (F0 m pc ls (.int (zi j) :: .ref (E.2 100) :: rest)) :=
  va_ti C.x C.b C.k.2.2.2.1 hS (zi_in hj (by decide)) (v := .int (zi (lst j))) (by
    rw [zi_cl (by omega)]
    show Value.int (zi (lstN j.toNat)) = _
    rw [← lst_e _ (by omega), Int.toNat_of_nonneg hj.1]) hdg (kk (lst_r j))
end LROWS
theorem isum_ext {f : Int → Int} {n N : Int} (h0 : 0 ≤ n) (h : n ≤ N) (hf : ∀ j : Int, n ≤ j → j < N → f j = 0) : isum f N = isum f n := by
  obtain ⟨k, rfl⟩ : ∃ k : Int, N = n + k := ⟨N - n, by omega⟩
  refine int_ind (P := fun m => m ≤ k → isum f (n + m) = isum f n) (show 0 ≤ k by omega) (fun _ => by rw [Int.add_zero]) (fun m h1 h2 ih _ => ?_) (Int.le_refl _)
  rw [← Int.add_assoc, isum_s (by omega), ih (by omega), hf _ (by omega) (by omega), Int.add_zero]
theorem bits_P {v n : Int} {P : Int → Prop} (h0 : 0 ≤ n) (hn : n ≤ 24) (h : ∀ b : Int, 0 ≤ b → b < n → (Bt v b ↔ P b)) (h2 : ∀ b : Int, n ≤ b → ¬ Bt v b) : bits v = isum (fun b => bI (P b)) n := by
  unfold bits
  rw [isum_ext (n := n) (N := 24) h0 hn (fun j a b => by have := h2 j a; unfold Bt at this; omega)]
  refine isum_congr (fun j a b => ?_)
  by_cases q : P j
  · rw [bI_t q]; exact (h j a b).2 q
  · rw [bI_f q]
    have z : ¬ Bt v j := fun y => q ((h j a b).1 y)
    unfold Bt at z
    omega
theorem fst_at {P : Int → Prop} {v n : Int} (h0 : 0 ≤ v) (hv : v < n) (hp : P v) (h : ∀ z : Int, 0 ≤ z → z < v → ¬ P z) : fstc P n = v := by
  rcases fstc_r (P := P) (n := n) (by omega) with q | q
  · exact absurd hp (q.2 v h0 hv)
  · rcases Int.lt_trichotomy (fstc P n) v with z | z | z
    · exact absurd q.2.2.1 (h _ q.1 z)
    · exact z
    · exact absurd hp (q.2.2.2 v h0 z)
theorem fst_none {P : Int → Prop} {n : Int} (h0 : 0 ≤ n) (h : ∀ z : Int, 0 ≤ z → z < n → ¬ P z) : fstc P n = -1 := by
  rcases fstc_r (P := P) h0 with q | q
  · exact q.1
  · exact absurd q.2.2.1 (h _ q.1 q.2.1)
theorem fitc_i {it to m : Int → Int} {am c : Int} (h : ∀ k : Int, 0 ≤ k → k < 4 → m k = vc c k) : (Unl m ∧ Adds m it to am) ↔ fitc it to am c := and_congr (Unl_congr h) (Adds_congr h)
theorem p2_7 {k : Int} (h : 0 ≤ k ∧ k ≤ 7) : (1 : Int) ≤ 2 ^ k.toNat ∧ (2 : Int) ^ k.toNat ≤ 128 := by
  have h1 : 2 ^ k.toNat ≤ 2 ^ 7 := Nat.pow_le_pow_right (by omega) (by omega)
  have h2 : 0 < 2 ^ k.toNat := Nat.two_pow_pos _
  rw [← p2_nat]
  omega
theorem oo_8 {v w : Int} (hv : 0 ≤ v ∧ v < 256) (hw : 0 ≤ w ∧ w < 256) : 0 ≤ oo v w ∧ oo v w < 256 := by
  have := Nat.or_lt_two_pow (x := v.toNat) (y := w.toNat) (n := 8) (by omega) (by omega)
  unfold oo
  omega
theorem sure_st {v x n : Int} {P : Int → Prop} {g : Int → Int} (hn : 0 ≤ n) (hv : 0 ≤ v) (hg : 0 ≤ g n) (h : ∀ b : Int, 0 ≤ b → (Bt v b ↔ ∃ z, 0 ≤ z ∧ z < n ∧ P z ∧ g z = b)) (hx : x = sel (P n) (1 * 2 ^ (g n).toNat) 0) (hx0 : 0 ≤ x) : ∀ b : Int, 0 ≤ b → (Bt (oo v x) b ↔ ∃ z, 0 ≤ z ∧ z < n + 1 ∧ P z ∧ g z = b) := by
  intro b hb
  rw [Bt_oo hv hx0, h b hb, ex_s hn, hx]
  refine or_congr Iff.rfl ?_
  by_cases q : P n
  · rw [sel_t q, Bt_one hg hb]; exact ⟨fun e => ⟨q, e.symm⟩, fun e => e.2.symm⟩
  · rw [sel_f q]; exact ⟨fun e => absurd e (Bt_z b), fun e => absurd e.1 q⟩
