set_option maxRecDepth 100000

section X27
variable {p : Program} {l : Launch} {e : Env} {R : Room} {s : State} {m : MethodId} {args : Array Value} {below : List Frame} {meth : Method} {c : Code} {H : Heap} {locs : List Loc} {cells slots : Nat} {Q : State → Prop}
variable {A : Nat → Prop} {own : String} {cc : ByteArray} {nL : Nat} {rt : Option FieldType} {E : us_E} {pc : Nat} {ls : Array Slot} {rest : List Value} {B : Nat → Int → Nat} {F : Nat → Int} {M : Nat → Int → Int} {G : Nat → Int → Option Nat} {T : x_T}
theorem xs_0 (C : Cx p s m args meth c A RX0 cc nL rt E) (hX : XP E A B F M G T 46 H) (hS : va_S A s.heap H locs) (hz : X0Z F M) {o : Nat} (ho : B 49 0 = o) {ix : Nat} (hcl : Cond.classLink RX0 ix "UnreadScript$Sheet" ∈ lw_all) {cells' slots' : Nat} (hc' : cells + 1 = cells') (hs' : slots + 4 = slots') (hcells : cells' ≤ R.cells) (hslots : slots' ≤ R.slots) (d0 : decode cc pc = .ok (.anewarray ix, 3)) (kk : ∀ (B' : Nat → Int → Nat) (aA : Nat) (H : Heap), B' 49 0 = o → B' 48 0 = aA → (∀ f, ¬ f = 48 → B' f = B f) → XQ E A B' F M G T 0 H → va_S A s.heap H locs → W p l e R s m args below meth c H locs cells' slots' Q (F0 m (pc + 3) ls (.ref aA :: rest))) : W p l e R s m args below meth c H locs cells slots Q (F0 m pc ls (.int (zi 4) :: rest)) := by
  subst hc'
  subst hs'
  refine W.anew C.x C.b C.o (C.t _ hcl) (C.ao (t := .object "UnreadScript$Sheet") (by decide +kernel)) (g := F0 m pc ls (.int (zi 4) :: rest)) rfl d0 rfl (by decide) (by decide) hcells hslots (fun cA kA comp f1 f2 f3 f4 => ?_)
  have hcA : cA = E.2 10 := by
    obtain ⟨kA', comp', -, -, -, g4⟩ := (C.k.1.2 10 _ rfl).2
    exact Option.some.inj (f1.symm.trans g4)
  have o1 : ∀ q : Nat, q < H.size → (H.push ({ cls := cA, slots := Array.replicate (zi 4).toNatClampNeg .null } : Cell))[q]? = H[q]? := fun q hq => by rw [Array.getElem?_push, if_neg (Nat.ne_of_lt hq)]
  have he2 : va_at E.1 us_cl (H.size, .inl (E.2 10, 4, .inr (.inr (.inr (.inr (fun _ => none)))))) (H.push ({ cls := cA, slots := Array.replicate (zi 4).toNatClampNeg .null } : Cell)) := by
    show (H.push _)[H.size]? = some (vp_cell (E.2 10) (4, .inr (.inr (.inr (.inr (fun _ => none))))))
    rw [Array.getElem?_push_size, arrV_new, hcA, vp_cell_q]
    rfl
  have h := rw_push (x_r 48 0) hX (C.a _ hS.1) he2 o1
  rw [x_adu (by omega) (Int.le_refl 0), x_ceu (by omega) (Int.le_refl 0), xQ_0 hz (a := H.size)] at h
  exact kk _ H.size _ (by rw [va_up_ne _ _ (by decide)]; exact ho) (by rw [va_up_self, fup_s]) (fun f hf => va_up_ne _ _ hf) h ⟨Nat.le_trans hS.1 (by rw [Array.size_push]; omega), fun x h1 h2 => (o1 x (Nat.lt_of_lt_of_le h1 hS.1)).trans (hS.2.1 x h1 h2), hS.2.2⟩
end X27
theorem own_4 (f : Nat) : ownX f = 4 ↔ f = 4 ∨ f = 50 := by
  constructor
  · intro h
    unfold ownX at h
    by_cases e50 : f = 50
    · rw [if_pos e50] at h; omega
    by_cases e51 : f = 51
    · rw [if_neg e50, if_pos e51] at h; omega
    by_cases e52 : f = 52
    · rw [if_neg e50, if_neg e51, if_pos e52] at h; omega
    by_cases e53 : f = 53
    · rw [if_neg e50, if_neg e51, if_neg e52, if_pos e53] at h; omega
    by_cases e60 : f = 60
    · rw [if_neg e50, if_neg e51, if_neg e52, if_neg e53, if_pos e60] at h; omega
    rw [if_neg e50, if_neg e51, if_neg e52, if_neg e53, if_neg e60] at h
    exact Or.inl h
  · intro h
    rcases h with rfl | rfl <;> rfl
theorem own_13 (f : Nat) : ownX f = 13 ↔ f = 13 ∨ f = 51 := by
  constructor
  · intro h
    unfold ownX at h
    by_cases e50 : f = 50
    · rw [if_pos e50] at h; omega
    by_cases e51 : f = 51
    · rw [if_neg e50, if_pos e51] at h; omega
    by_cases e52 : f = 52
    · rw [if_neg e50, if_neg e51, if_pos e52] at h; omega
    by_cases e53 : f = 53
    · rw [if_neg e50, if_neg e51, if_neg e52, if_pos e53] at h; omega
    by_cases e60 : f = 60
    · rw [if_neg e50, if_neg e51, if_neg e52, if_neg e53, if_pos e60] at h; omega
    rw [if_neg e50, if_neg e51, if_neg e52, if_neg e53, if_neg e60] at h
    exact Or.inl h
  · intro h
    rcases h with rfl | rfl <;> rfl
theorem own_14 (f : Nat) : ownX f = 14 ↔ f = 14 ∨ f = 52 := by
  constructor
  · intro h
    unfold ownX at h
    by_cases e50 : f = 50
    · rw [if_pos e50] at h; omega
    by_cases e51 : f = 51
    · rw [if_neg e50, if_pos e51] at h; omega
    by_cases e52 : f = 52
    · rw [if_neg e50, if_neg e51, if_pos e52] at h; omega
    by_cases e53 : f = 53
    · rw [if_neg e50, if_neg e51, if_neg e52, if_pos e53] at h; omega
    by_cases e60 : f = 60
    · rw [if_neg e50, if_neg e51, if_neg e52, if_neg e53, if_pos e60] at h; omega
    rw [if_neg e50, if_neg e51, if_neg e52, if_neg e53, if_neg e60] at h
    exact Or.inl h
  · intro h
    rcases h with rfl | rfl <;> rfl
theorem own_27 (f : Nat) : ownX f = 27 ↔ f = 27 ∨ f = 53 := by
  constructor
  · intro h
    unfold ownX at h
    by_cases e50 : f = 50
    · rw [if_pos e50] at h; omega
    by_cases e51 : f = 51
    · rw [if_neg e50, if_pos e51] at h; omega
    by_cases e52 : f = 52
    · rw [if_neg e50, if_neg e51, if_pos e52] at h; omega
    by_cases e53 : f = 53
    · rw [if_neg e50, if_neg e51, if_neg e52, if_pos e53] at h; omega
    by_cases e60 : f = 60
    · rw [if_neg e50, if_neg e51, if_neg e52, if_neg e53, if_pos e60] at h; omega
    rw [if_neg e50, if_neg e51, if_neg e52, if_neg e53, if_neg e60] at h
    exact Or.inl h
  · intro h
    rcases h with rfl | rfl <;> rfl
theorem xfb_1 : ∀ k q, xfb k = some q → q.1 ≤ (va_up (fun _ => 0 : Nat → Int) 2 1) k ∧ (va_up (fun _ => 0 : Nat → Int) 2 1) k ≤ q.2 := by
  intro k q h
  unfold xfb at h
  split at h <;> first | (cases h; done) | (cases h; decide)
theorem xmb_0 : ∀ k q, xmb k = some q → ∀ j : Int, q.1 ≤ (if k = 203 then -4 else 0 : Int) ∧ (if k = 203 then -4 else 0 : Int) ≤ q.2 := by
  intro k q h j
  unfold xmb at h
  split at h <;> first | (cases h; done) | (cases h; decide)

theorem hd_X0_init : yX0_init.cls = RX0 ∧ yX0_init.cls ≠ "java/lang/invoke/MethodHandle" ∧ yX0_init.cls ≠ "java/lang/invoke/VarHandle" ∧ (parseMethodDescriptor yX0_init.desc).map (fun d => d.parameters.length) = some 0 := by decide +kernel
abbrev rm_X0_init : Room := { frames := 2, cells := 113, slots := 31673, locals := 60 }
set_option maxHeartbeats 16000000 in
theorem met_X0_init (l : Launch) (E : us_E) (A : Nat → Prop) (B : Nat → Int → Nat) (F : Nat → Int) (M : Nat → Int → Int) (G : Nat → Int → Option Nat) (T : x_T) (o : Nat) (ho : B 49 0 = o) (hF0 : F = (fun _ => 0 : Nat → Int)) (hM0 : M = (fun k _ => if k = 203 then -4 else 0 : Nat → Int → Int)) (hG0 : ∀ f i, G f i = none) : cMet l yX0_init cX0_init 1 none rm_X0_init A E [.ref o] (fun H => XP E A B F M G T 0 H) (qv A (fun H => ∃ B : Nat → Int → Nat, ∃ G : Nat → Int → Option Nat, B 49 0 = o ∧ XH E A B (va_up F 2 1) M G T H)) := by
  refine cMet.of (by decide) (Nat.le_of_ble_eq_true rfl) (fun p e s m args below meth c C hnm hX hS ls hl => ?_)
  have C : Cx p s m args meth c A RX0 cX0_init 1 none E := C
  have hX : XP E A B F M G T 0 s.heap := hX
  have hl : lv_has ls 1 [(0, .ref o)] := hl
  generalize hH : s.heap = H at hX
  have hS : va_S A s.heap H [] := by rw [← hH]; exact hS
  generalize hlocs : ([] : List Loc) = locs at hS ⊢
  obtain ⟨QQ, hQQ⟩ : ∃ zQQ, MQ below (qv A (fun H => ∃ B : Nat → Int → Nat, ∃ G : Nat → Int → Option Nat, B 49 0 = o ∧ XH E A B (va_up F 2 1) M G T H)) args s (rm_X0_init).cells (rm_X0_init).slots A = zQQ := ⟨_, rfl⟩
  rw [hQQ]
  have hz : X0Z F M := by rw [hF0, hM0]; exact ⟨rfl, rfl, rfl, rfl, fun _ => rfl⟩
  have hgn : ∀ f, ¬ f = 4 ∧ ¬ f = 13 ∧ ¬ f = 14 ∧ ¬ f = 27 → ∀ i, G f i = none := fun f _ i => hG0 f i
  clear hG0
  refine lv_aload_n C.x C.b dX0_init_0 rfl (lv_at hl 0 rfl) ?_
  refine r_obj C hl.1 q709 (Nat.le_of_ble_eq_true rfl) (by decide) dX0_init_1 ?_
  refine lv_aload_n C.x C.b dX0_init_4 rfl (lv_at hl 0 rfl) ?_
  refine r_bipush C (by decide) dX0_init_5 ?_
  refine xi_i (cells' := 1) (slots' := 24) C hX hS ho 0 (n := 24) (by decide) (by decide) rfl rfl (fun i => by rw [hM0]; rfl) (fun i a b => by omega) hz (by decide) (by decide) rfl rfl hnm rfl q325 rfl rfl (Nat.le_of_ble_eq_true rfl) (Nat.le_of_ble_eq_true rfl) dX0_init_7 q736 (fun _ h => h) dX0_init_9 (fun B H locs ho hBo hX hS => ?_)
  refine (show W p l e rm_X0_init s m args below meth c H locs 1 24 QQ (F0 m 12 ls []) from ?_)
  refine lv_aload_n C.x C.b dX0_init_12 rfl (lv_at hl 0 rfl) ?_
  refine r_const C dX0_init_13 ?_
  refine xi_put C hX hS ho 2 (by decide) rfl (by decide) rfl rfl q738 (fun _ h => h) dX0_init_14 (fun H locs hX hS => ?_)
  replace hz : X0Z (va_up F 2 1) M := ⟨hz.1, hz.2.1, hz.2.2.1, hz.2.2.2.1, hz.2.2.2.2⟩
  refine lv_aload_n C.x C.b dX0_init_17 rfl (lv_at hl 0 rfl) ?_
  refine r_bipush C (by decide) dX0_init_18 ?_
  refine xi_i (cells' := 2) (slots' := 48) C hX hS ho 3 (n := 24) (by decide) (by decide) rfl rfl (fun i => by rw [hM0]; rfl) (fun i a b => by rcases (show i = 1 ∨ i = 2 by omega) with rfl | rfl <;> rfl) hz (by decide) (by decide) rfl rfl hnm rfl q325 rfl rfl (Nat.le_of_ble_eq_true rfl) (Nat.le_of_ble_eq_true rfl) dX0_init_20 q739 (fun _ h => h) dX0_init_22 (fun B H locs ho hBo hX hS => ?_)
  refine (show W p l e rm_X0_init s m args below meth c H locs 2 48 QQ (F0 m 25 ls []) from ?_)
  refine lv_aload_n C.x C.b dX0_init_25 rfl (lv_at hl 0 rfl) ?_
  refine r_bipush C (by decide) dX0_init_26 ?_
  refine r_bipush C (by decide) dX0_init_28 ?_
  refine xi_mi (cells' := 27) (slots' := 648) C hX hS ho 4 50 (n := 24) (q2 := 24) (by decide) (by decide) (by decide) rfl rfl rfl rfl (fun i => by rw [hM0]; rfl) own_4 (fun i a b => by omega) hz rfl hnm rfl (fun _ => rfl) (fun _ => rfl) q740 (fun _ h => h) (by decide) (by decide) q710 q325 rfl rfl (Nat.le_of_ble_eq_true rfl) (Nat.le_of_ble_eq_true rfl) dX0_init_30 dX0_init_34 (fun B G H locs ho hGo hGn hBo hX hS => ?_)
  replace hgn : ∀ f, ¬ f = 4 ∧ ¬ f = 13 ∧ ¬ f = 14 ∧ ¬ f = 27 → ∀ i, G f i = none := fun f h i => by rw [hGo f (by omega)]; exact hgn f h i
  have g4 : ∀ i : Int, 0 ≤ i → i < 24 → G 4 i = some (B 50 i) := hGn
  clear hGo hGn
  refine (show W p l e rm_X0_init s m args below meth c H locs 27 648 QQ (F0 m 37 ls []) from ?_)
  refine lv_aload_n C.x C.b dX0_init_37 rfl (lv_at hl 0 rfl) ?_
  refine r_bipush C (by decide) dX0_init_38 ?_
  refine xi_r (cells' := 28) (slots' := 656) C hX hS ho 5 (t := 6) (n := 8) (by decide) (by decide) rfl rfl rfl (fun i => hgn 5 (by decide) i) (fun i a b => by omega) hz (by decide) rfl hnm rfl (fun _ => rfl) (fun _ => rfl) q741 (fun _ h => h) (by decide) rfl (by decide +kernel) q712 rfl rfl (Nat.le_of_ble_eq_true rfl) (Nat.le_of_ble_eq_true rfl) dX0_init_40 dX0_init_43 (fun B H locs ho hBo hX hS => ?_)
  replace g4 : ∀ i : Int, 0 ≤ i → i < 24 → G 4 i = some (B 50 i) := fun i a b => by rw [hBo 50 (by decide)]; exact g4 i a b
  refine (show W p l e rm_X0_init s m args below meth c H locs 28 656 QQ (F0 m 46 ls []) from ?_)
  refine lv_aload_n C.x C.b dX0_init_46 rfl (lv_at hl 0 rfl) ?_
  refine r_bipush C (by decide) dX0_init_47 ?_
  refine xi_i (cells' := 29) (slots' := 680) C hX hS ho 7 (n := 24) (by decide) (by decide) rfl rfl (fun i => by rw [hM0]; rfl) (fun i a b => by rcases (show i = 6 by omega) with rfl <;> rfl) hz (by decide) (by decide) rfl rfl hnm rfl q325 rfl rfl (Nat.le_of_ble_eq_true rfl) (Nat.le_of_ble_eq_true rfl) dX0_init_49 q743 (fun _ h => h) dX0_init_51 (fun B H locs ho hBo hX hS => ?_)
  replace g4 : ∀ i : Int, 0 ≤ i → i < 24 → G 4 i = some (B 50 i) := fun i a b => by rw [hBo 50 (by decide)]; exact g4 i a b
  refine (show W p l e rm_X0_init s m args below meth c H locs 29 680 QQ (F0 m 54 ls []) from ?_)
  refine lv_aload_n C.x C.b dX0_init_54 rfl (lv_at hl 0 rfl) ?_
  refine r_bipush C (by decide) dX0_init_55 ?_
  refine xi_i (cells' := 30) (slots' := 704) C hX hS ho 8 (n := 24) (by decide) (by decide) rfl rfl (fun i => by rw [hM0]; rfl) (fun i a b => by omega) hz (by decide) (by decide) rfl rfl hnm rfl q325 rfl rfl (Nat.le_of_ble_eq_true rfl) (Nat.le_of_ble_eq_true rfl) dX0_init_57 q744 (fun _ h => h) dX0_init_59 (fun B H locs ho hBo hX hS => ?_)
  replace g4 : ∀ i : Int, 0 ≤ i → i < 24 → G 4 i = some (B 50 i) := fun i a b => by rw [hBo 50 (by decide)]; exact g4 i a b
  refine (show W p l e rm_X0_init s m args below meth c H locs 30 704 QQ (F0 m 62 ls []) from ?_)
  refine lv_aload_n C.x C.b dX0_init_62 rfl (lv_at hl 0 rfl) ?_
  refine r_sipush C (by decide) dX0_init_63 ?_
  refine xi_i (cells' := 31) (slots' := 896) C hX hS ho 9 (n := 192) (by decide) (by decide) rfl rfl (fun i => by rw [hM0]; rfl) (fun i a b => by omega) hz (by decide) (by decide) rfl rfl hnm rfl q325 rfl rfl (Nat.le_of_ble_eq_true rfl) (Nat.le_of_ble_eq_true rfl) dX0_init_66 q745 (fun _ h => h) dX0_init_68 (fun B H locs ho hBo hX hS => ?_)
  replace g4 : ∀ i : Int, 0 ≤ i → i < 24 → G 4 i = some (B 50 i) := fun i a b => by rw [hBo 50 (by decide)]; exact g4 i a b
  refine (show W p l e rm_X0_init s m args below meth c H locs 31 896 QQ (F0 m 71 ls []) from ?_)
  refine lv_aload_n C.x C.b dX0_init_71 rfl (lv_at hl 0 rfl) ?_
  refine r_sipush C (by decide) dX0_init_72 ?_
  refine xi_i (cells' := 32) (slots' := 1088) C hX hS ho 10 (n := 192) (by decide) (by decide) rfl rfl (fun i => by rw [hM0]; rfl) (fun i a b => by omega) hz (by decide) (by decide) rfl rfl hnm rfl q325 rfl rfl (Nat.le_of_ble_eq_true rfl) (Nat.le_of_ble_eq_true rfl) dX0_init_75 q746 (fun _ h => h) dX0_init_77 (fun B H locs ho hBo hX hS => ?_)
  replace g4 : ∀ i : Int, 0 ≤ i → i < 24 → G 4 i = some (B 50 i) := fun i a b => by rw [hBo 50 (by decide)]; exact g4 i a b
  refine (show W p l e rm_X0_init s m args below meth c H locs 32 1088 QQ (F0 m 80 ls []) from ?_)
  refine lv_aload_n C.x C.b dX0_init_80 rfl (lv_at hl 0 rfl) ?_
  refine r_sipush C (by decide) dX0_init_81 ?_
  refine xi_i (cells' := 33) (slots' := 1280) C hX hS ho 11 (n := 192) (by decide) (by decide) rfl rfl (fun i => by rw [hM0]; rfl) (fun i a b => by omega) hz (by decide) (by decide) rfl rfl hnm rfl q325 rfl rfl (Nat.le_of_ble_eq_true rfl) (Nat.le_of_ble_eq_true rfl) dX0_init_84 q747 (fun _ h => h) dX0_init_86 (fun B H locs ho hBo hX hS => ?_)
  replace g4 : ∀ i : Int, 0 ≤ i → i < 24 → G 4 i = some (B 50 i) := fun i a b => by rw [hBo 50 (by decide)]; exact g4 i a b
  refine (show W p l e rm_X0_init s m args below meth c H locs 33 1280 QQ (F0 m 89 ls []) from ?_)
  refine lv_aload_n C.x C.b dX0_init_89 rfl (lv_at hl 0 rfl) ?_
  refine r_bipush C (by decide) dX0_init_90 ?_
  refine r_bipush C (by decide) dX0_init_92 ?_
  refine xi_mi (cells' := 58) (slots' := 1880) C hX hS ho 13 51 (n := 24) (q2 := 24) (by decide) (by decide) (by decide) rfl rfl rfl rfl (fun i => by rw [hM0]; rfl) own_13 (fun i a b => by rcases (show i = 12 by omega) with rfl <;> rfl) hz rfl hnm rfl (fun _ => rfl) (fun _ => rfl) q749 (fun _ h => h) (by decide) (by decide) q710 q325 rfl rfl (Nat.le_of_ble_eq_true rfl) (Nat.le_of_ble_eq_true rfl) dX0_init_94 dX0_init_98 (fun B G H locs ho hGo hGn hBo hX hS => ?_)
  replace hgn : ∀ f, ¬ f = 4 ∧ ¬ f = 13 ∧ ¬ f = 14 ∧ ¬ f = 27 → ∀ i, G f i = none := fun f h i => by rw [hGo f (by omega)]; exact hgn f h i
  replace g4 : ∀ i : Int, 0 ≤ i → i < 24 → G 4 i = some (B 50 i) := fun i a b => by rw [hGo 4 (by decide), hBo 50 (by decide) (by decide)]; exact g4 i a b
  have g13 : ∀ i : Int, 0 ≤ i → i < 24 → G 13 i = some (B 51 i) := hGn
  clear hGo hGn
  refine (show W p l e rm_X0_init s m args below meth c H locs 58 1880 QQ (F0 m 101 ls []) from ?_)
  refine lv_aload_n C.x C.b dX0_init_101 rfl (lv_at hl 0 rfl) ?_
  refine r_bipush C (by decide) dX0_init_102 ?_
  refine r_bipush C (by decide) dX0_init_104 ?_
  refine xi_mi (cells' := 83) (slots' := 2480) C hX hS ho 14 52 (n := 24) (q2 := 24) (by decide) (by decide) (by decide) rfl rfl rfl rfl (fun i => by rw [hM0]; rfl) own_14 (fun i a b => by omega) hz rfl hnm rfl (fun _ => rfl) (fun _ => rfl) q750 (fun _ h => h) (by decide) (by decide) q710 q325 rfl rfl (Nat.le_of_ble_eq_true rfl) (Nat.le_of_ble_eq_true rfl) dX0_init_106 dX0_init_110 (fun B G H locs ho hGo hGn hBo hX hS => ?_)
  replace hgn : ∀ f, ¬ f = 4 ∧ ¬ f = 13 ∧ ¬ f = 14 ∧ ¬ f = 27 → ∀ i, G f i = none := fun f h i => by rw [hGo f (by omega)]; exact hgn f h i
  replace g4 : ∀ i : Int, 0 ≤ i → i < 24 → G 4 i = some (B 50 i) := fun i a b => by rw [hGo 4 (by decide), hBo 50 (by decide) (by decide)]; exact g4 i a b
  replace g13 : ∀ i : Int, 0 ≤ i → i < 24 → G 13 i = some (B 51 i) := fun i a b => by rw [hGo 13 (by decide), hBo 51 (by decide) (by decide)]; exact g13 i a b
  have g14 : ∀ i : Int, 0 ≤ i → i < 24 → G 14 i = some (B 52 i) := hGn
  clear hGo hGn
  refine (show W p l e rm_X0_init s m args below meth c H locs 83 2480 QQ (F0 m 113 ls []) from ?_)
  refine lv_aload_n C.x C.b dX0_init_113 rfl (lv_at hl 0 rfl) ?_
  refine r_bipush C (by decide) dX0_init_114 ?_
  refine xi_i (cells' := 84) (slots' := 2488) C hX hS ho 15 (n := 8) (by decide) (by decide) rfl rfl (fun i => by rw [hM0]; rfl) (fun i a b => by omega) hz (by decide) (by decide) rfl rfl hnm rfl q325 rfl rfl (Nat.le_of_ble_eq_true rfl) (Nat.le_of_ble_eq_true rfl) dX0_init_116 q751 (fun _ h => h) dX0_init_118 (fun B H locs ho hBo hX hS => ?_)
  replace g4 : ∀ i : Int, 0 ≤ i → i < 24 → G 4 i = some (B 50 i) := fun i a b => by rw [hBo 50 (by decide)]; exact g4 i a b
  replace g13 : ∀ i : Int, 0 ≤ i → i < 24 → G 13 i = some (B 51 i) := fun i a b => by rw [hBo 51 (by decide)]; exact g13 i a b
  replace g14 : ∀ i : Int, 0 ≤ i → i < 24 → G 14 i = some (B 52 i) := fun i a b => by rw [hBo 52 (by decide)]; exact g14 i a b
  refine (show W p l e rm_X0_init s m args below meth c H locs 84 2488 QQ (F0 m 121 ls []) from ?_)
  refine lv_aload_n C.x C.b dX0_init_121 rfl (lv_at hl 0 rfl) ?_
  refine r_bipush C (by decide) dX0_init_122 ?_
  refine xi_i (cells' := 85) (slots' := 2496) C hX hS ho 17 (n := 8) (by decide) (by decide) rfl rfl (fun i => by rw [hM0]; rfl) (fun i a b => by rcases (show i = 16 by omega) with rfl <;> rfl) hz (by decide) (by decide) rfl rfl hnm rfl q325 rfl rfl (Nat.le_of_ble_eq_true rfl) (Nat.le_of_ble_eq_true rfl) dX0_init_124 q753 (fun _ h => h) dX0_init_126 (fun B H locs ho hBo hX hS => ?_)
  replace g4 : ∀ i : Int, 0 ≤ i → i < 24 → G 4 i = some (B 50 i) := fun i a b => by rw [hBo 50 (by decide)]; exact g4 i a b
  replace g13 : ∀ i : Int, 0 ≤ i → i < 24 → G 13 i = some (B 51 i) := fun i a b => by rw [hBo 51 (by decide)]; exact g13 i a b
  replace g14 : ∀ i : Int, 0 ≤ i → i < 24 → G 14 i = some (B 52 i) := fun i a b => by rw [hBo 52 (by decide)]; exact g14 i a b
  refine (show W p l e rm_X0_init s m args below meth c H locs 85 2496 QQ (F0 m 129 ls []) from ?_)
  refine lv_aload_n C.x C.b dX0_init_129 rfl (lv_at hl 0 rfl) ?_
  refine r_bipush C (by decide) dX0_init_130 ?_
  refine xi_i (cells' := 86) (slots' := 2504) C hX hS ho 18 (n := 8) (by decide) (by decide) rfl rfl (fun i => by rw [hM0]; rfl) (fun i a b => by omega) hz (by decide) (by decide) rfl rfl hnm rfl q325 rfl rfl (Nat.le_of_ble_eq_true rfl) (Nat.le_of_ble_eq_true rfl) dX0_init_132 q754 (fun _ h => h) dX0_init_134 (fun B H locs ho hBo hX hS => ?_)
  replace g4 : ∀ i : Int, 0 ≤ i → i < 24 → G 4 i = some (B 50 i) := fun i a b => by rw [hBo 50 (by decide)]; exact g4 i a b
  replace g13 : ∀ i : Int, 0 ≤ i → i < 24 → G 13 i = some (B 51 i) := fun i a b => by rw [hBo 51 (by decide)]; exact g13 i a b
  replace g14 : ∀ i : Int, 0 ≤ i → i < 24 → G 14 i = some (B 52 i) := fun i a b => by rw [hBo 52 (by decide)]; exact g14 i a b
  refine (show W p l e rm_X0_init s m args below meth c H locs 86 2504 QQ (F0 m 137 ls []) from ?_)
  refine lv_aload_n C.x C.b dX0_init_137 rfl (lv_at hl 0 rfl) ?_
  refine r_bipush C (by decide) dX0_init_138 ?_
  refine xi_i (cells' := 87) (slots' := 2512) C hX hS ho 19 (n := 8) (by decide) (by decide) rfl rfl (fun i => by rw [hM0]; rfl) (fun i a b => by omega) hz (by decide) (by decide) rfl rfl hnm rfl q325 rfl rfl (Nat.le_of_ble_eq_true rfl) (Nat.le_of_ble_eq_true rfl) dX0_init_140 q755 (fun _ h => h) dX0_init_142 (fun B H locs ho hBo hX hS => ?_)
  replace g4 : ∀ i : Int, 0 ≤ i → i < 24 → G 4 i = some (B 50 i) := fun i a b => by rw [hBo 50 (by decide)]; exact g4 i a b
  replace g13 : ∀ i : Int, 0 ≤ i → i < 24 → G 13 i = some (B 51 i) := fun i a b => by rw [hBo 51 (by decide)]; exact g13 i a b
  replace g14 : ∀ i : Int, 0 ≤ i → i < 24 → G 14 i = some (B 52 i) := fun i a b => by rw [hBo 52 (by decide)]; exact g14 i a b
  refine (show W p l e rm_X0_init s m args below meth c H locs 87 2512 QQ (F0 m 145 ls []) from ?_)
  refine lv_aload_n C.x C.b dX0_init_145 rfl (lv_at hl 0 rfl) ?_
  refine r_bipush C (by decide) dX0_init_146 ?_
  refine xi_i (cells' := 88) (slots' := 2520) C hX hS ho 20 (n := 8) (by decide) (by decide) rfl rfl (fun i => by rw [hM0]; rfl) (fun i a b => by omega) hz (by decide) (by decide) rfl rfl hnm rfl q325 rfl rfl (Nat.le_of_ble_eq_true rfl) (Nat.le_of_ble_eq_true rfl) dX0_init_148 q756 (fun _ h => h) dX0_init_150 (fun B H locs ho hBo hX hS => ?_)
  replace g4 : ∀ i : Int, 0 ≤ i → i < 24 → G 4 i = some (B 50 i) := fun i a b => by rw [hBo 50 (by decide)]; exact g4 i a b
  replace g13 : ∀ i : Int, 0 ≤ i → i < 24 → G 13 i = some (B 51 i) := fun i a b => by rw [hBo 51 (by decide)]; exact g13 i a b
  replace g14 : ∀ i : Int, 0 ≤ i → i < 24 → G 14 i = some (B 52 i) := fun i a b => by rw [hBo 52 (by decide)]; exact g14 i a b
  refine (show W p l e rm_X0_init s m args below meth c H locs 88 2520 QQ (F0 m 153 ls []) from ?_)
  refine lv_aload_n C.x C.b dX0_init_153 rfl (lv_at hl 0 rfl) ?_
  refine r_const C dX0_init_154 ?_
  refine xi_i (cells' := 89) (slots' := 2524) C hX hS ho 22 (n := 4) (by decide) (by decide) rfl rfl (fun i => by rw [hM0]; rfl) (fun i a b => by rcases (show i = 21 by omega) with rfl <;> rfl) hz (by decide) (by decide) rfl rfl hnm rfl q325 rfl rfl (Nat.le_of_ble_eq_true rfl) (Nat.le_of_ble_eq_true rfl) dX0_init_155 q758 (fun _ h => h) dX0_init_157 (fun B H locs ho hBo hX hS => ?_)
  replace g4 : ∀ i : Int, 0 ≤ i → i < 24 → G 4 i = some (B 50 i) := fun i a b => by rw [hBo 50 (by decide)]; exact g4 i a b
  replace g13 : ∀ i : Int, 0 ≤ i → i < 24 → G 13 i = some (B 51 i) := fun i a b => by rw [hBo 51 (by decide)]; exact g13 i a b
  replace g14 : ∀ i : Int, 0 ≤ i → i < 24 → G 14 i = some (B 52 i) := fun i a b => by rw [hBo 52 (by decide)]; exact g14 i a b
  refine (show W p l e rm_X0_init s m args below meth c H locs 89 2524 QQ (F0 m 160 ls []) from ?_)
  refine lv_aload_n C.x C.b dX0_init_160 rfl (lv_at hl 0 rfl) ?_
  refine r_const C dX0_init_161 ?_
  refine xi_r (cells' := 90) (slots' := 2528) C hX hS ho 23 (t := 7) (n := 4) (by decide) (by decide) rfl rfl rfl (fun i => hgn 23 (by decide) i) (fun i a b => by omega) hz (by decide) rfl hnm rfl (fun _ => rfl) (fun _ => rfl) q759 (fun _ h => h) (by decide) rfl (by decide +kernel) q308 rfl rfl (Nat.le_of_ble_eq_true rfl) (Nat.le_of_ble_eq_true rfl) dX0_init_162 dX0_init_165 (fun B H locs ho hBo hX hS => ?_)
  replace g4 : ∀ i : Int, 0 ≤ i → i < 24 → G 4 i = some (B 50 i) := fun i a b => by rw [hBo 50 (by decide)]; exact g4 i a b
  replace g13 : ∀ i : Int, 0 ≤ i → i < 24 → G 13 i = some (B 51 i) := fun i a b => by rw [hBo 51 (by decide)]; exact g13 i a b
  replace g14 : ∀ i : Int, 0 ≤ i → i < 24 → G 14 i = some (B 52 i) := fun i a b => by rw [hBo 52 (by decide)]; exact g14 i a b
  refine (show W p l e rm_X0_init s m args below meth c H locs 90 2528 QQ (F0 m 168 ls []) from ?_)
  refine lv_aload_n C.x C.b dX0_init_168 rfl (lv_at hl 0 rfl) ?_
  refine r_bipush C (by decide) dX0_init_169 ?_
  refine xi_r (cells' := 91) (slots' := 2540) C hX hS ho 25 (t := 8) (n := 12) (by decide) (by decide) rfl rfl rfl (fun i => hgn 25 (by decide) i) (fun i a b => by rcases (show i = 24 by omega) with rfl <;> rfl) hz (by decide) rfl hnm rfl (fun _ => rfl) (fun _ => rfl) q761 (fun _ h => h) (by decide) rfl (by decide +kernel) q356 rfl rfl (Nat.le_of_ble_eq_true rfl) (Nat.le_of_ble_eq_true rfl) dX0_init_171 dX0_init_174 (fun B H locs ho hBo hX hS => ?_)
  replace g4 : ∀ i : Int, 0 ≤ i → i < 24 → G 4 i = some (B 50 i) := fun i a b => by rw [hBo 50 (by decide)]; exact g4 i a b
  replace g13 : ∀ i : Int, 0 ≤ i → i < 24 → G 13 i = some (B 51 i) := fun i a b => by rw [hBo 51 (by decide)]; exact g13 i a b
  replace g14 : ∀ i : Int, 0 ≤ i → i < 24 → G 14 i = some (B 52 i) := fun i a b => by rw [hBo 52 (by decide)]; exact g14 i a b
  refine (show W p l e rm_X0_init s m args below meth c H locs 91 2540 QQ (F0 m 177 ls []) from ?_)
  refine lv_aload_n C.x C.b dX0_init_177 rfl (lv_at hl 0 rfl) ?_
  refine r_bipush C (by decide) dX0_init_178 ?_
  refine r_sipush C (by decide) dX0_init_180 ?_
  refine xi_mz (cells' := 99) (slots' := 31219) C hX hS ho 27 53 (n := 7) (q2 := 4096) (by decide) (by decide) (by decide) rfl rfl rfl rfl (fun i => by rw [hM0]; rfl) own_27 (fun i a b => by rcases (show i = 26 by omega) with rfl <;> rfl) hz rfl hnm rfl (fun _ => rfl) (fun _ => rfl) q763 (fun _ h => h) (by decide) (by decide) q716 q735 rfl rfl (Nat.le_of_ble_eq_true rfl) (Nat.le_of_ble_eq_true rfl) dX0_init_183 dX0_init_187 (fun B G H locs ho hGo hGn hBo hX hS => ?_)
  replace hgn : ∀ f, ¬ f = 4 ∧ ¬ f = 13 ∧ ¬ f = 14 ∧ ¬ f = 27 → ∀ i, G f i = none := fun f h i => by rw [hGo f (by omega)]; exact hgn f h i
  replace g4 : ∀ i : Int, 0 ≤ i → i < 24 → G 4 i = some (B 50 i) := fun i a b => by rw [hGo 4 (by decide), hBo 50 (by decide) (by decide)]; exact g4 i a b
  replace g13 : ∀ i : Int, 0 ≤ i → i < 24 → G 13 i = some (B 51 i) := fun i a b => by rw [hGo 13 (by decide), hBo 51 (by decide) (by decide)]; exact g13 i a b
  replace g14 : ∀ i : Int, 0 ≤ i → i < 24 → G 14 i = some (B 52 i) := fun i a b => by rw [hGo 14 (by decide), hBo 52 (by decide) (by decide)]; exact g14 i a b
  have g27 : ∀ i : Int, 0 ≤ i → i < 7 → G 27 i = some (B 53 i) := hGn
  clear hGo hGn
  refine (show W p l e rm_X0_init s m args below meth c H locs 99 31219 QQ (F0 m 190 ls []) from ?_)
  refine lv_aload_n C.x C.b dX0_init_190 rfl (lv_at hl 0 rfl) ?_
  refine r_const C dX0_init_191 ?_
  refine xi_i (cells' := 100) (slots' := 31223) C hX hS ho 28 (n := 4) (by decide) (by decide) rfl rfl (fun i => by rw [hM0]; rfl) (fun i a b => by omega) hz (by decide) (by decide) rfl rfl hnm rfl q325 rfl rfl (Nat.le_of_ble_eq_true rfl) (Nat.le_of_ble_eq_true rfl) dX0_init_192 q764 (fun _ h => h) dX0_init_194 (fun B H locs ho hBo hX hS => ?_)
  replace g4 : ∀ i : Int, 0 ≤ i → i < 24 → G 4 i = some (B 50 i) := fun i a b => by rw [hBo 50 (by decide)]; exact g4 i a b
  replace g13 : ∀ i : Int, 0 ≤ i → i < 24 → G 13 i = some (B 51 i) := fun i a b => by rw [hBo 51 (by decide)]; exact g13 i a b
  replace g14 : ∀ i : Int, 0 ≤ i → i < 24 → G 14 i = some (B 52 i) := fun i a b => by rw [hBo 52 (by decide)]; exact g14 i a b
  replace g27 : ∀ i : Int, 0 ≤ i → i < 7 → G 27 i = some (B 53 i) := fun i a b => by rw [hBo 53 (by decide)]; exact g27 i a b
  refine (show W p l e rm_X0_init s m args below meth c H locs 100 31223 QQ (F0 m 197 ls []) from ?_)
  refine lv_aload_n C.x C.b dX0_init_197 rfl (lv_at hl 0 rfl) ?_
  refine r_bipush C (by decide) dX0_init_198 ?_
  refine xi_i (cells' := 101) (slots' := 31247) C hX hS ho 29 (n := 24) (by decide) (by decide) rfl rfl (fun i => by rw [hM0]; rfl) (fun i a b => by omega) hz (by decide) (by decide) rfl rfl hnm rfl q325 rfl rfl (Nat.le_of_ble_eq_true rfl) (Nat.le_of_ble_eq_true rfl) dX0_init_200 q765 (fun _ h => h) dX0_init_202 (fun B H locs ho hBo hX hS => ?_)
  replace g4 : ∀ i : Int, 0 ≤ i → i < 24 → G 4 i = some (B 50 i) := fun i a b => by rw [hBo 50 (by decide)]; exact g4 i a b
  replace g13 : ∀ i : Int, 0 ≤ i → i < 24 → G 13 i = some (B 51 i) := fun i a b => by rw [hBo 51 (by decide)]; exact g13 i a b
  replace g14 : ∀ i : Int, 0 ≤ i → i < 24 → G 14 i = some (B 52 i) := fun i a b => by rw [hBo 52 (by decide)]; exact g14 i a b
  replace g27 : ∀ i : Int, 0 ≤ i → i < 7 → G 27 i = some (B 53 i) := fun i a b => by rw [hBo 53 (by decide)]; exact g27 i a b
  refine (show W p l e rm_X0_init s m args below meth c H locs 101 31247 QQ (F0 m 205 ls []) from ?_)
  refine lv_aload_n C.x C.b dX0_init_205 rfl (lv_at hl 0 rfl) ?_
  refine r_bipush C (by decide) dX0_init_206 ?_
  refine xi_i (cells' := 102) (slots' := 31253) C hX hS ho 30 (n := 6) (by decide) (by decide) rfl rfl (fun i => by rw [hM0]; rfl) (fun i a b => by omega) hz (by decide) (by decide) rfl rfl hnm rfl q325 rfl rfl (Nat.le_of_ble_eq_true rfl) (Nat.le_of_ble_eq_true rfl) dX0_init_208 q766 (fun _ h => h) dX0_init_210 (fun B H locs ho hBo hX hS => ?_)
  replace g4 : ∀ i : Int, 0 ≤ i → i < 24 → G 4 i = some (B 50 i) := fun i a b => by rw [hBo 50 (by decide)]; exact g4 i a b
  replace g13 : ∀ i : Int, 0 ≤ i → i < 24 → G 13 i = some (B 51 i) := fun i a b => by rw [hBo 51 (by decide)]; exact g13 i a b
  replace g14 : ∀ i : Int, 0 ≤ i → i < 24 → G 14 i = some (B 52 i) := fun i a b => by rw [hBo 52 (by decide)]; exact g14 i a b
  replace g27 : ∀ i : Int, 0 ≤ i → i < 7 → G 27 i = some (B 53 i) := fun i a b => by rw [hBo 53 (by decide)]; exact g27 i a b
  refine (show W p l e rm_X0_init s m args below meth c H locs 102 31253 QQ (F0 m 213 ls []) from ?_)
  refine lv_aload_n C.x C.b dX0_init_213 rfl (lv_at hl 0 rfl) ?_
  refine r_bipush C (by decide) dX0_init_214 ?_
  refine xi_i (cells' := 103) (slots' := 31277) C hX hS ho 32 (n := 24) (by decide) (by decide) rfl rfl (fun i => by rw [hM0]; rfl) (fun i a b => by rcases (show i = 31 by omega) with rfl <;> rfl) hz (by decide) (by decide) rfl rfl hnm rfl q325 rfl rfl (Nat.le_of_ble_eq_true rfl) (Nat.le_of_ble_eq_true rfl) dX0_init_216 q768 (fun _ h => h) dX0_init_218 (fun B H locs ho hBo hX hS => ?_)
  replace g4 : ∀ i : Int, 0 ≤ i → i < 24 → G 4 i = some (B 50 i) := fun i a b => by rw [hBo 50 (by decide)]; exact g4 i a b
  replace g13 : ∀ i : Int, 0 ≤ i → i < 24 → G 13 i = some (B 51 i) := fun i a b => by rw [hBo 51 (by decide)]; exact g13 i a b
  replace g14 : ∀ i : Int, 0 ≤ i → i < 24 → G 14 i = some (B 52 i) := fun i a b => by rw [hBo 52 (by decide)]; exact g14 i a b
  replace g27 : ∀ i : Int, 0 ≤ i → i < 7 → G 27 i = some (B 53 i) := fun i a b => by rw [hBo 53 (by decide)]; exact g27 i a b
  refine (show W p l e rm_X0_init s m args below meth c H locs 103 31277 QQ (F0 m 221 ls []) from ?_)
  refine lv_aload_n C.x C.b dX0_init_221 rfl (lv_at hl 0 rfl) ?_
  refine r_bipush C (by decide) dX0_init_222 ?_
  refine xi_i (cells' := 104) (slots' := 31283) C hX hS ho 33 (n := 6) (by decide) (by decide) rfl rfl (fun i => by rw [hM0]; rfl) (fun i a b => by omega) hz (by decide) (by decide) rfl rfl hnm rfl q325 rfl rfl (Nat.le_of_ble_eq_true rfl) (Nat.le_of_ble_eq_true rfl) dX0_init_224 q769 (fun _ h => h) dX0_init_226 (fun B H locs ho hBo hX hS => ?_)
  replace g4 : ∀ i : Int, 0 ≤ i → i < 24 → G 4 i = some (B 50 i) := fun i a b => by rw [hBo 50 (by decide)]; exact g4 i a b
  replace g13 : ∀ i : Int, 0 ≤ i → i < 24 → G 13 i = some (B 51 i) := fun i a b => by rw [hBo 51 (by decide)]; exact g13 i a b
  replace g14 : ∀ i : Int, 0 ≤ i → i < 24 → G 14 i = some (B 52 i) := fun i a b => by rw [hBo 52 (by decide)]; exact g14 i a b
  replace g27 : ∀ i : Int, 0 ≤ i → i < 7 → G 27 i = some (B 53 i) := fun i a b => by rw [hBo 53 (by decide)]; exact g27 i a b
  refine (show W p l e rm_X0_init s m args below meth c H locs 104 31283 QQ (F0 m 229 ls []) from ?_)
  refine lv_aload_n C.x C.b dX0_init_229 rfl (lv_at hl 0 rfl) ?_
  refine r_sipush C (by decide) dX0_init_230 ?_
  refine xi_a (cells' := 105) (slots' := 31475) C hX hS ho 34 (t := 4) (n := 192) (by decide) (by decide) rfl rfl rfl (fun i => hgn 34 (by decide) i) (fun i a b => by omega) hz (by decide) rfl hnm rfl (fun _ => rfl) (fun _ => rfl) q770 (fun _ h => h) (by decide) rfl q718 rfl rfl (Nat.le_of_ble_eq_true rfl) (Nat.le_of_ble_eq_true rfl) dX0_init_233 dX0_init_236 (fun B H locs ho hBo hX hS => ?_)
  replace g4 : ∀ i : Int, 0 ≤ i → i < 24 → G 4 i = some (B 50 i) := fun i a b => by rw [hBo 50 (by decide)]; exact g4 i a b
  replace g13 : ∀ i : Int, 0 ≤ i → i < 24 → G 13 i = some (B 51 i) := fun i a b => by rw [hBo 51 (by decide)]; exact g13 i a b
  replace g14 : ∀ i : Int, 0 ≤ i → i < 24 → G 14 i = some (B 52 i) := fun i a b => by rw [hBo 52 (by decide)]; exact g14 i a b
  replace g27 : ∀ i : Int, 0 ≤ i → i < 7 → G 27 i = some (B 53 i) := fun i a b => by rw [hBo 53 (by decide)]; exact g27 i a b
  refine (show W p l e rm_X0_init s m args below meth c H locs 105 31475 QQ (F0 m 239 ls []) from ?_)
  refine lv_aload_n C.x C.b dX0_init_239 rfl (lv_at hl 0 rfl) ?_
  refine r_bipush C (by decide) dX0_init_240 ?_
  refine xi_i (cells' := 106) (slots' := 31481) C hX hS ho 39 (n := 6) (by decide) (by decide) rfl rfl (fun i => by rw [hM0]; rfl) (fun i a b => by rcases (show i = 35 ∨ i = 36 ∨ i = 37 ∨ i = 38 by omega) with rfl | rfl | rfl | rfl <;> rfl) hz (by decide) (by decide) rfl rfl hnm rfl q325 rfl rfl (Nat.le_of_ble_eq_true rfl) (Nat.le_of_ble_eq_true rfl) dX0_init_242 q775 (fun _ h => h) dX0_init_244 (fun B H locs ho hBo hX hS => ?_)
  replace g4 : ∀ i : Int, 0 ≤ i → i < 24 → G 4 i = some (B 50 i) := fun i a b => by rw [hBo 50 (by decide)]; exact g4 i a b
  replace g13 : ∀ i : Int, 0 ≤ i → i < 24 → G 13 i = some (B 51 i) := fun i a b => by rw [hBo 51 (by decide)]; exact g13 i a b
  replace g14 : ∀ i : Int, 0 ≤ i → i < 24 → G 14 i = some (B 52 i) := fun i a b => by rw [hBo 52 (by decide)]; exact g14 i a b
  replace g27 : ∀ i : Int, 0 ≤ i → i < 7 → G 27 i = some (B 53 i) := fun i a b => by rw [hBo 53 (by decide)]; exact g27 i a b
  refine (show W p l e rm_X0_init s m args below meth c H locs 106 31481 QQ (F0 m 247 ls []) from ?_)
  refine lv_aload_n C.x C.b dX0_init_247 rfl (lv_at hl 0 rfl) ?_
  refine r_bipush C (by decide) dX0_init_248 ?_
  refine xi_r (cells' := 107) (slots' := 31501) C hX hS ho 42 (t := 9) (n := 20) (by decide) (by decide) rfl rfl rfl (fun i => hgn 42 (by decide) i) (fun i a b => by rcases (show i = 40 ∨ i = 41 by omega) with rfl | rfl <;> rfl) hz (by decide) rfl hnm rfl (fun _ => rfl) (fun _ => rfl) q779 (fun _ h => h) (by decide) rfl (by decide +kernel) q719 rfl rfl (Nat.le_of_ble_eq_true rfl) (Nat.le_of_ble_eq_true rfl) dX0_init_250 dX0_init_253 (fun B H locs ho hBo hX hS => ?_)
  replace g4 : ∀ i : Int, 0 ≤ i → i < 24 → G 4 i = some (B 50 i) := fun i a b => by rw [hBo 50 (by decide)]; exact g4 i a b
  replace g13 : ∀ i : Int, 0 ≤ i → i < 24 → G 13 i = some (B 51 i) := fun i a b => by rw [hBo 51 (by decide)]; exact g13 i a b
  replace g14 : ∀ i : Int, 0 ≤ i → i < 24 → G 14 i = some (B 52 i) := fun i a b => by rw [hBo 52 (by decide)]; exact g14 i a b
  replace g27 : ∀ i : Int, 0 ≤ i → i < 7 → G 27 i = some (B 53 i) := fun i a b => by rw [hBo 53 (by decide)]; exact g27 i a b
  refine (show W p l e rm_X0_init s m args below meth c H locs 107 31501 QQ (F0 m 256 ls []) from ?_)
  refine lv_aload_n C.x C.b dX0_init_256 rfl (lv_at hl 0 rfl) ?_
  refine r_sipush C (by decide) dX0_init_257 ?_
  refine xi_b (cells' := 108) (slots' := 31661) C hX hS ho 45 (n := 160) (by decide) (by decide) rfl rfl (fun i => by rw [hM0]; rfl) (fun i a b => by rcases (show i = 43 ∨ i = 44 by omega) with rfl | rfl <;> rfl) hz (by decide) (by decide) rfl rfl hnm rfl q600 rfl rfl (Nat.le_of_ble_eq_true rfl) (Nat.le_of_ble_eq_true rfl) dX0_init_260 q784 (fun _ h => h) dX0_init_262 (fun B H locs ho hBo hX hS => ?_)
  replace g4 : ∀ i : Int, 0 ≤ i → i < 24 → G 4 i = some (B 50 i) := fun i a b => by rw [hBo 50 (by decide)]; exact g4 i a b
  replace g13 : ∀ i : Int, 0 ≤ i → i < 24 → G 13 i = some (B 51 i) := fun i a b => by rw [hBo 51 (by decide)]; exact g13 i a b
  replace g14 : ∀ i : Int, 0 ≤ i → i < 24 → G 14 i = some (B 52 i) := fun i a b => by rw [hBo 52 (by decide)]; exact g14 i a b
  replace g27 : ∀ i : Int, 0 ≤ i → i < 7 → G 27 i = some (B 53 i) := fun i a b => by rw [hBo 53 (by decide)]; exact g27 i a b
  refine (show W p l e rm_X0_init s m args below meth c H locs 108 31661 QQ (F0 m 265 ls []) from ?_)
  refine lv_aload_n C.x C.b dX0_init_265 rfl (lv_at hl 0 rfl) ?_
  refine r_const C dX0_init_266 ?_
  refine xs_0 (cells' := 109) (slots' := 31665) C hX hS hz ho q721 rfl rfl (Nat.le_of_ble_eq_true rfl) (Nat.le_of_ble_eq_true rfl) dX0_init_267 (fun B aA H ho ha hBo hX hS => ?_)
  replace g4 : ∀ i : Int, 0 ≤ i → i < 24 → G 4 i = some (B 50 i) := fun i a b => by rw [hBo 50 (by decide)]; exact g4 i a b
  replace g13 : ∀ i : Int, 0 ≤ i → i < 24 → G 13 i = some (B 51 i) := fun i a b => by rw [hBo 51 (by decide)]; exact g13 i a b
  replace g14 : ∀ i : Int, 0 ≤ i → i < 24 → G 14 i = some (B 52 i) := fun i a b => by rw [hBo 52 (by decide)]; exact g14 i a b
  replace g27 : ∀ i : Int, 0 ≤ i → i < 7 → G 27 i = some (B 53 i) := fun i a b => by rw [hBo 53 (by decide)]; exact g27 i a b
  refine lv_dup C.x C.b dX0_init_270 rfl ?_
  refine r_const C dX0_init_271 ?_
  refine xs_step (cells' := 110) (slots' := 31667) C hX hS (by decide) hz hl.1 ho ha q721 q723 q87 (List.mem_of_getElem? (i := 10) rfl) q726 q725 (by decide) rfl rfl (Nat.le_of_ble_eq_true rfl) (Nat.le_of_ble_eq_true rfl) dX0_init_272 dX0_init_275 dX0_init_276 dX0_init_279 (Nat.le_of_ble_eq_true rfl) (fun B H locs ho ha hBo hX hS => ?_)
  replace g4 : ∀ i : Int, 0 ≤ i → i < 24 → G 4 i = some (B 50 i) := fun i a b => by rw [hBo 50 (by decide)]; exact g4 i a b
  replace g13 : ∀ i : Int, 0 ≤ i → i < 24 → G 13 i = some (B 51 i) := fun i a b => by rw [hBo 51 (by decide)]; exact g13 i a b
  replace g14 : ∀ i : Int, 0 ≤ i → i < 24 → G 14 i = some (B 52 i) := fun i a b => by rw [hBo 52 (by decide)]; exact g14 i a b
  replace g27 : ∀ i : Int, 0 ≤ i → i < 7 → G 27 i = some (B 53 i) := fun i a b => by rw [hBo 53 (by decide)]; exact g27 i a b
  refine (show W p l e rm_X0_init s m args below meth c H locs 110 31667 QQ (F0 m 280 ls [.ref aA, .ref o]) from ?_)
  refine lv_dup C.x C.b dX0_init_280 rfl ?_
  refine r_const C dX0_init_281 ?_
  refine xs_step (cells' := 111) (slots' := 31669) C hX hS (by decide) hz hl.1 ho ha q721 q723 q87 (List.mem_of_getElem? (i := 10) rfl) q726 q725 (by decide) rfl rfl (Nat.le_of_ble_eq_true rfl) (Nat.le_of_ble_eq_true rfl) dX0_init_282 dX0_init_285 dX0_init_286 dX0_init_289 (Nat.le_of_ble_eq_true rfl) (fun B H locs ho ha hBo hX hS => ?_)
  replace g4 : ∀ i : Int, 0 ≤ i → i < 24 → G 4 i = some (B 50 i) := fun i a b => by rw [hBo 50 (by decide)]; exact g4 i a b
  replace g13 : ∀ i : Int, 0 ≤ i → i < 24 → G 13 i = some (B 51 i) := fun i a b => by rw [hBo 51 (by decide)]; exact g13 i a b
  replace g14 : ∀ i : Int, 0 ≤ i → i < 24 → G 14 i = some (B 52 i) := fun i a b => by rw [hBo 52 (by decide)]; exact g14 i a b
  replace g27 : ∀ i : Int, 0 ≤ i → i < 7 → G 27 i = some (B 53 i) := fun i a b => by rw [hBo 53 (by decide)]; exact g27 i a b
  refine (show W p l e rm_X0_init s m args below meth c H locs 111 31669 QQ (F0 m 290 ls [.ref aA, .ref o]) from ?_)
  refine lv_dup C.x C.b dX0_init_290 rfl ?_
  refine r_const C dX0_init_291 ?_
  refine xs_step (cells' := 112) (slots' := 31671) C hX hS (by decide) hz hl.1 ho ha q721 q723 q87 (List.mem_of_getElem? (i := 10) rfl) q726 q725 (by decide) rfl rfl (Nat.le_of_ble_eq_true rfl) (Nat.le_of_ble_eq_true rfl) dX0_init_292 dX0_init_295 dX0_init_296 dX0_init_299 (Nat.le_of_ble_eq_true rfl) (fun B H locs ho ha hBo hX hS => ?_)
  replace g4 : ∀ i : Int, 0 ≤ i → i < 24 → G 4 i = some (B 50 i) := fun i a b => by rw [hBo 50 (by decide)]; exact g4 i a b
  replace g13 : ∀ i : Int, 0 ≤ i → i < 24 → G 13 i = some (B 51 i) := fun i a b => by rw [hBo 51 (by decide)]; exact g13 i a b
  replace g14 : ∀ i : Int, 0 ≤ i → i < 24 → G 14 i = some (B 52 i) := fun i a b => by rw [hBo 52 (by decide)]; exact g14 i a b
  replace g27 : ∀ i : Int, 0 ≤ i → i < 7 → G 27 i = some (B 53 i) := fun i a b => by rw [hBo 53 (by decide)]; exact g27 i a b
  refine (show W p l e rm_X0_init s m args below meth c H locs 112 31671 QQ (F0 m 300 ls [.ref aA, .ref o]) from ?_)
  refine lv_dup C.x C.b dX0_init_300 rfl ?_
  refine r_const C dX0_init_301 ?_
  refine xs_step (cells' := 113) (slots' := 31673) C hX hS (by decide) hz hl.1 ho ha q721 q723 q87 (List.mem_of_getElem? (i := 10) rfl) q726 q725 (by decide) rfl rfl (Nat.le_of_ble_eq_true rfl) (Nat.le_of_ble_eq_true rfl) dX0_init_302 dX0_init_305 dX0_init_306 dX0_init_309 (Nat.le_of_ble_eq_true rfl) (fun B H locs ho ha hBo hX hS => ?_)
  replace g4 : ∀ i : Int, 0 ≤ i → i < 24 → G 4 i = some (B 50 i) := fun i a b => by rw [hBo 50 (by decide)]; exact g4 i a b
  replace g13 : ∀ i : Int, 0 ≤ i → i < 24 → G 13 i = some (B 51 i) := fun i a b => by rw [hBo 51 (by decide)]; exact g13 i a b
  replace g14 : ∀ i : Int, 0 ≤ i → i < 24 → G 14 i = some (B 52 i) := fun i a b => by rw [hBo 52 (by decide)]; exact g14 i a b
  replace g27 : ∀ i : Int, 0 ≤ i → i < 7 → G 27 i = some (B 53 i) := fun i a b => by rw [hBo 53 (by decide)]; exact g27 i a b
  refine (show W p l e rm_X0_init s m args below meth c H locs 113 31673 QQ (F0 m 310 ls [.ref aA, .ref o]) from ?_)
  refine xi_fld C (j := 46) (B := B) (B' := B) (F := va_up F 2 1) (M := M) (G := G) (G' := va_up G 48 (fun i => if 0 ≤ i ∧ i < 4 then some (B 60 i) else none)) (K := xQ E 4 B (va_up F 2 1) M G) hX hS ho 48 (by decide) (by decide) rfl (fun i a b => by rcases (show i = 46 ∨ i = 47 by omega) with rfl | rfl <;> rfl) hz (fun _ _ _ => rfl) ha (fun f hf => xQ_new hz (fun i => by rw [hM0]; rfl) hf) (fun f hf => xQ_old hf) (fun f hf => va_up_ne _ _ hf) rfl hnm rfl rfl rfl q787 (fun _ h => h) dX0_init_310 (fun H locs hX hS => ?_)
  have hX : XH E A B (va_up F 2 1) M (va_up G 48 (fun i => if 0 ≤ i ∧ i < 4 then some (B 60 i) else none)) T H := by
    refine ⟨?_, ?_, ?_, ?_⟩
    · have z := hX
      unfold XP at z
      rw [xP_end (fun f i a b => xK_far hz a b)] at z
      exact z
    · rw [hF0]; exact xfb_1
    · rw [hM0]; exact fun k q h j => xmb_0 k q h j
    · intro f g0 hg x h0 hx
      unfold xgf at hg
      split at hg
      · cases hg; rw [va_up_ne _ _ (by decide)]; exact g4 x h0 hx
      · cases hg; rw [va_up_ne _ _ (by decide)]; exact g13 x h0 hx
      · cases hg; rw [va_up_ne _ _ (by decide)]; exact g14 x h0 hx
      · cases hg; rw [va_up_ne _ _ (by decide)]; exact g27 x h0 hx
      · cases hg; exact absurd (show x < (va_up F 2 1) 6 from hx) (by have := hz.1; omega)
      · cases hg; exact absurd (show x < (va_up F 2 1) 24 from hx) (by have := hz.2.1; omega)
      · cases hg; exact absurd (show x < (va_up F 2 1) 35 from hx) (by have := hz.2.2.1; omega)
      · cases hg; exact absurd (show x < (va_up F 2 1) 43 from hx) (by have := hz.2.2.2.1; omega)
      · cases hg; rw [va_up_self, if_pos ⟨h0, hx⟩]
      · cases hg
  rw [← hQQ]
  exact r_vret C hS (Nat.le_of_ble_eq_true rfl) (Nat.le_of_ble_eq_true rfl) dX0_init_313 ⟨B, _, ho, hX⟩
