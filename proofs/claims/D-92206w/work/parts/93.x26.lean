set_option maxRecDepth 100000

theorem hd_X2_init : yX2_init.cls = RX2 ∧ yX2_init.cls ≠ "java/lang/invoke/MethodHandle" ∧ yX2_init.cls ≠ "java/lang/invoke/VarHandle" ∧ (parseMethodDescriptor yX2_init.desc).map (fun d => d.parameters.length) = some 0 := by decide +kernel
abbrev rm_X2_init : Room := { frames := 1, cells := 40, slots := 31460, locals := 20 }
theorem mfb_1 : ∀ k q, mfb k = some q → q.1 ≤ (va_up (fun _ => 0 : Nat → Int) 2 1) k ∧ (va_up (fun _ => 0 : Nat → Int) 2 1) k ≤ q.2 := by
  intro k q h
  unfold mfb at h
  split at h <;> first | (cases h; done) | (cases h; decide)
theorem mab_0 : ∀ k q, mab k = some q → ∀ j : Int, q.1 ≤ (0 : Int) ∧ (0 : Int) ≤ q.2 := by
  intro k q h j
  unfold mab at h
  split at h <;> first | (cases h; done) | (cases h; decide)
set_option maxHeartbeats 8000000 in
theorem met_X2_init (l : Launch) (E : us_E) (A : Nat → Prop) (ad : Nat → Nat) (F : Nat → Int) (M : Nat → Int → Int) (hF0 : F = (va_up (fun _ => 0 : Nat → Int) 2 1)) (hM0 : M = (fun _ _ => 0 : Nat → Int → Int)) (o : Nat) (ho : ad 63 = o) : cMet l yX2_init cX2_init 2 none rm_X2_init A E [.ref o] (fun H => MP E A ad (fun _ => 0 : Nat → Int) (fun _ _ => 0 : Nat → Int → Int) 0 H) (qv A (fun H => ∃ ad : Nat → Nat, ∃ m60 : Int → Int, (ad 63 = o) ∧ (∀ j : Int, 0 ≤ j → j < 4 → m60 j = -4) ∧ MH E A ad F (va_up M 60 m60) H)) := by
  refine cMet.of (by decide) (Nat.le_of_ble_eq_true rfl) (fun p e s m args below meth c C hnm hX hS ls hl => ?_)
  have C : Cx p s m args meth c A RX2 cX2_init 2 none E := C
  have hX : MP E A ad (fun _ => 0 : Nat → Int) (fun _ _ => 0 : Nat → Int → Int) 0 s.heap := hX
  have hl : lv_has ls 2 [(0, .ref o)] := hl
  generalize hH : s.heap = H at hX
  have hS : va_S A s.heap H [] := by rw [← hH]; exact hS
  generalize hlocs : ([] : List Loc) = locs at hS ⊢
  obtain ⟨QQ, hQQ⟩ : ∃ zQQ, MQ below (qv A (fun H => ∃ ad : Nat → Nat, ∃ m60 : Int → Int, (ad 63 = o) ∧ (∀ j : Int, 0 ≤ j → j < 4 → m60 j = -4) ∧ MH E A ad F (va_up M 60 m60) H)) args s (rm_X2_init).cells (rm_X2_init).slots A = zQQ := ⟨_, rfl⟩
  rw [hQQ]
  refine lv_aload_n C.x C.b dX2_init_0 rfl (lv_at hl 0 rfl) ?_
  refine r_obj C hl.1 q1013 (Nat.le_of_ble_eq_true rfl) (by decide) dX2_init_1 ?_
  refine lv_aload_n C.x C.b dX2_init_4 rfl (lv_at hl 0 rfl) ?_
  refine r_bipush C (by decide) dX2_init_5 ?_
  refine mi_i (cells' := 1) (slots' := 24) C hX hS ho 1 (n := 24) (by decide) (by decide) rfl (fun _ => rfl) (fun i a b => by rcases (show i = 0 by omega) with rfl <;> rfl) (by decide) rfl rfl hnm rfl q325 rfl rfl (Nat.le_of_ble_eq_true rfl) (Nat.le_of_ble_eq_true rfl) dX2_init_7 q1015 (fun _ h => h) dX2_init_9 (fun ad H locs ho hX hS => ?_)
  refine (show W p l e rm_X2_init s m args below meth c H locs 1 24 QQ (F0 m 12 ls []) from ?_)
  refine lv_aload_n C.x C.b dX2_init_12 rfl (lv_at hl 0 rfl) ?_
  refine r_const C dX2_init_13 ?_
  refine mi_put C hX hS ho 2 (by decide) rfl rfl rfl q1016 (fun _ h => h) dX2_init_14 (fun H locs hX hS => ?_)
  refine lv_aload_n C.x C.b dX2_init_17 rfl (lv_at hl 0 rfl) ?_
  refine r_bipush C (by decide) dX2_init_18 ?_
  refine mi_i (cells' := 2) (slots' := 48) C hX hS ho 3 (n := 24) (by decide) (by decide) rfl (fun _ => rfl) (fun i a b => by rcases (show i = 2 by omega) with rfl <;> rfl) (by decide) rfl rfl hnm rfl q325 rfl rfl (Nat.le_of_ble_eq_true rfl) (Nat.le_of_ble_eq_true rfl) dX2_init_20 q1017 (fun _ h => h) dX2_init_22 (fun ad H locs ho hX hS => ?_)
  refine (show W p l e rm_X2_init s m args below meth c H locs 2 48 QQ (F0 m 25 ls []) from ?_)
  refine lv_aload_n C.x C.b dX2_init_25 rfl (lv_at hl 0 rfl) ?_
  refine r_bipush C (by decide) dX2_init_26 ?_
  refine mi_i (cells' := 3) (slots' := 56) C hX hS ho 5 (n := 8) (by decide) (by decide) rfl (fun _ => rfl) (fun i a b => by rcases (show i = 4 by omega) with rfl <;> rfl) (by decide) rfl rfl hnm rfl q325 rfl rfl (Nat.le_of_ble_eq_true rfl) (Nat.le_of_ble_eq_true rfl) dX2_init_28 q1019 (fun _ h => h) dX2_init_30 (fun ad H locs ho hX hS => ?_)
  refine (show W p l e rm_X2_init s m args below meth c H locs 3 56 QQ (F0 m 33 ls []) from ?_)
  refine lv_aload_n C.x C.b dX2_init_33 rfl (lv_at hl 0 rfl) ?_
  refine r_sipush C (by decide) dX2_init_34 ?_
  refine mi_i (cells' := 4) (slots' := 248) C hX hS ho 6 (n := 192) (by decide) (by decide) rfl (fun _ => rfl) (fun i a b => by omega) (by decide) rfl rfl hnm rfl q325 rfl rfl (Nat.le_of_ble_eq_true rfl) (Nat.le_of_ble_eq_true rfl) dX2_init_37 q1020 (fun _ h => h) dX2_init_39 (fun ad H locs ho hX hS => ?_)
  refine (show W p l e rm_X2_init s m args below meth c H locs 4 248 QQ (F0 m 42 ls []) from ?_)
  refine lv_aload_n C.x C.b dX2_init_42 rfl (lv_at hl 0 rfl) ?_
  refine r_bipush C (by decide) dX2_init_43 ?_
  refine mi_i (cells' := 5) (slots' := 352) C hX hS ho 8 (n := 104) (by decide) (by decide) rfl (fun _ => rfl) (fun i a b => by rcases (show i = 7 by omega) with rfl <;> rfl) (by decide) rfl rfl hnm rfl q325 rfl rfl (Nat.le_of_ble_eq_true rfl) (Nat.le_of_ble_eq_true rfl) dX2_init_45 q1022 (fun _ h => h) dX2_init_47 (fun ad H locs ho hX hS => ?_)
  refine (show W p l e rm_X2_init s m args below meth c H locs 5 352 QQ (F0 m 50 ls []) from ?_)
  refine lv_aload_n C.x C.b dX2_init_50 rfl (lv_at hl 0 rfl) ?_
  refine r_bipush C (by decide) dX2_init_51 ?_
  refine mi_i (cells' := 6) (slots' := 456) C hX hS ho 9 (n := 104) (by decide) (by decide) rfl (fun _ => rfl) (fun i a b => by omega) (by decide) rfl rfl hnm rfl q325 rfl rfl (Nat.le_of_ble_eq_true rfl) (Nat.le_of_ble_eq_true rfl) dX2_init_53 q1023 (fun _ h => h) dX2_init_55 (fun ad H locs ho hX hS => ?_)
  refine (show W p l e rm_X2_init s m args below meth c H locs 6 456 QQ (F0 m 58 ls []) from ?_)
  refine lv_aload_n C.x C.b dX2_init_58 rfl (lv_at hl 0 rfl) ?_
  refine r_bipush C (by decide) dX2_init_59 ?_
  refine mi_i (cells' := 7) (slots' := 560) C hX hS ho 10 (n := 104) (by decide) (by decide) rfl (fun _ => rfl) (fun i a b => by omega) (by decide) rfl rfl hnm rfl q325 rfl rfl (Nat.le_of_ble_eq_true rfl) (Nat.le_of_ble_eq_true rfl) dX2_init_61 q1024 (fun _ h => h) dX2_init_63 (fun ad H locs ho hX hS => ?_)
  refine (show W p l e rm_X2_init s m args below meth c H locs 7 560 QQ (F0 m 66 ls []) from ?_)
  refine lv_aload_n C.x C.b dX2_init_66 rfl (lv_at hl 0 rfl) ?_
  refine r_bipush C (by decide) dX2_init_67 ?_
  refine mi_z (cells' := 8) (slots' := 664) C hX hS ho 11 (n := 104) (by decide) (by decide) rfl (fun _ => rfl) (fun i a b => by omega) (by decide) rfl rfl hnm rfl q735 rfl rfl (Nat.le_of_ble_eq_true rfl) (Nat.le_of_ble_eq_true rfl) dX2_init_69 q1025 (fun _ h => h) dX2_init_71 (fun ad H locs ho hX hS => ?_)
  refine (show W p l e rm_X2_init s m args below meth c H locs 8 664 QQ (F0 m 74 ls []) from ?_)
  refine lv_aload_n C.x C.b dX2_init_74 rfl (lv_at hl 0 rfl) ?_
  refine r_bipush C (by decide) dX2_init_75 ?_
  refine mi_i (cells' := 9) (slots' := 688) C hX hS ho 12 (n := 24) (by decide) (by decide) rfl (fun _ => rfl) (fun i a b => by omega) (by decide) rfl rfl hnm rfl q325 rfl rfl (Nat.le_of_ble_eq_true rfl) (Nat.le_of_ble_eq_true rfl) dX2_init_77 q1026 (fun _ h => h) dX2_init_79 (fun ad H locs ho hX hS => ?_)
  refine (show W p l e rm_X2_init s m args below meth c H locs 9 688 QQ (F0 m 82 ls []) from ?_)
  refine lv_aload_n C.x C.b dX2_init_82 rfl (lv_at hl 0 rfl) ?_
  refine r_sipush C (by decide) dX2_init_83 ?_
  refine mi_i (cells' := 10) (slots' := 1264) C hX hS ho 13 (n := 576) (by decide) (by decide) rfl (fun _ => rfl) (fun i a b => by omega) (by decide) rfl rfl hnm rfl q325 rfl rfl (Nat.le_of_ble_eq_true rfl) (Nat.le_of_ble_eq_true rfl) dX2_init_86 q1027 (fun _ h => h) dX2_init_88 (fun ad H locs ho hX hS => ?_)
  refine (show W p l e rm_X2_init s m args below meth c H locs 10 1264 QQ (F0 m 91 ls []) from ?_)
  refine lv_aload_n C.x C.b dX2_init_91 rfl (lv_at hl 0 rfl) ?_
  refine r_sipush C (by decide) dX2_init_92 ?_
  refine mi_i (cells' := 11) (slots' := 1840) C hX hS ho 14 (n := 576) (by decide) (by decide) rfl (fun _ => rfl) (fun i a b => by omega) (by decide) rfl rfl hnm rfl q325 rfl rfl (Nat.le_of_ble_eq_true rfl) (Nat.le_of_ble_eq_true rfl) dX2_init_95 q1028 (fun _ h => h) dX2_init_97 (fun ad H locs ho hX hS => ?_)
  refine (show W p l e rm_X2_init s m args below meth c H locs 11 1840 QQ (F0 m 100 ls []) from ?_)
  refine lv_aload_n C.x C.b dX2_init_100 rfl (lv_at hl 0 rfl) ?_
  refine r_bipush C (by decide) dX2_init_101 ?_
  refine mi_i (cells' := 12) (slots' := 1848) C hX hS ho 16 (n := 8) (by decide) (by decide) rfl (fun _ => rfl) (fun i a b => by rcases (show i = 15 by omega) with rfl <;> rfl) (by decide) rfl rfl hnm rfl q325 rfl rfl (Nat.le_of_ble_eq_true rfl) (Nat.le_of_ble_eq_true rfl) dX2_init_103 q1030 (fun _ h => h) dX2_init_105 (fun ad H locs ho hX hS => ?_)
  refine (show W p l e rm_X2_init s m args below meth c H locs 12 1848 QQ (F0 m 108 ls []) from ?_)
  refine lv_aload_n C.x C.b dX2_init_108 rfl (lv_at hl 0 rfl) ?_
  refine r_bipush C (by decide) dX2_init_109 ?_
  refine mi_i (cells' := 13) (slots' := 1912) C hX hS ho 17 (n := 64) (by decide) (by decide) rfl (fun _ => rfl) (fun i a b => by omega) (by decide) rfl rfl hnm rfl q325 rfl rfl (Nat.le_of_ble_eq_true rfl) (Nat.le_of_ble_eq_true rfl) dX2_init_111 q1031 (fun _ h => h) dX2_init_113 (fun ad H locs ho hX hS => ?_)
  refine (show W p l e rm_X2_init s m args below meth c H locs 13 1912 QQ (F0 m 116 ls []) from ?_)
  refine lv_aload_n C.x C.b dX2_init_116 rfl (lv_at hl 0 rfl) ?_
  refine r_bipush C (by decide) dX2_init_117 ?_
  refine mi_i (cells' := 14) (slots' := 1920) C hX hS ho 18 (n := 8) (by decide) (by decide) rfl (fun _ => rfl) (fun i a b => by omega) (by decide) rfl rfl hnm rfl q325 rfl rfl (Nat.le_of_ble_eq_true rfl) (Nat.le_of_ble_eq_true rfl) dX2_init_119 q1032 (fun _ h => h) dX2_init_121 (fun ad H locs ho hX hS => ?_)
  refine (show W p l e rm_X2_init s m args below meth c H locs 14 1920 QQ (F0 m 124 ls []) from ?_)
  refine lv_aload_n C.x C.b dX2_init_124 rfl (lv_at hl 0 rfl) ?_
  refine r_bipush C (by decide) dX2_init_125 ?_
  refine mi_i (cells' := 15) (slots' := 1928) C hX hS ho 19 (n := 8) (by decide) (by decide) rfl (fun _ => rfl) (fun i a b => by omega) (by decide) rfl rfl hnm rfl q325 rfl rfl (Nat.le_of_ble_eq_true rfl) (Nat.le_of_ble_eq_true rfl) dX2_init_127 q1033 (fun _ h => h) dX2_init_129 (fun ad H locs ho hX hS => ?_)
  refine (show W p l e rm_X2_init s m args below meth c H locs 15 1928 QQ (F0 m 132 ls []) from ?_)
  refine lv_aload_n C.x C.b dX2_init_132 rfl (lv_at hl 0 rfl) ?_
  refine r_bipush C (by decide) dX2_init_133 ?_
  refine mi_i (cells' := 16) (slots' := 1936) C hX hS ho 21 (n := 8) (by decide) (by decide) rfl (fun _ => rfl) (fun i a b => by rcases (show i = 20 by omega) with rfl <;> rfl) (by decide) rfl rfl hnm rfl q325 rfl rfl (Nat.le_of_ble_eq_true rfl) (Nat.le_of_ble_eq_true rfl) dX2_init_135 q1035 (fun _ h => h) dX2_init_137 (fun ad H locs ho hX hS => ?_)
  refine (show W p l e rm_X2_init s m args below meth c H locs 16 1936 QQ (F0 m 140 ls []) from ?_)
  refine lv_aload_n C.x C.b dX2_init_140 rfl (lv_at hl 0 rfl) ?_
  refine r_bipush C (by decide) dX2_init_141 ?_
  refine mi_i (cells' := 17) (slots' := 1944) C hX hS ho 22 (n := 8) (by decide) (by decide) rfl (fun _ => rfl) (fun i a b => by omega) (by decide) rfl rfl hnm rfl q325 rfl rfl (Nat.le_of_ble_eq_true rfl) (Nat.le_of_ble_eq_true rfl) dX2_init_143 q1036 (fun _ h => h) dX2_init_145 (fun ad H locs ho hX hS => ?_)
  refine (show W p l e rm_X2_init s m args below meth c H locs 17 1944 QQ (F0 m 148 ls []) from ?_)
  refine lv_aload_n C.x C.b dX2_init_148 rfl (lv_at hl 0 rfl) ?_
  refine r_const C dX2_init_149 ?_
  refine mi_i (cells' := 18) (slots' := 1948) C hX hS ho 23 (n := 4) (by decide) (by decide) rfl (fun _ => rfl) (fun i a b => by omega) (by decide) rfl rfl hnm rfl q325 rfl rfl (Nat.le_of_ble_eq_true rfl) (Nat.le_of_ble_eq_true rfl) dX2_init_150 q1037 (fun _ h => h) dX2_init_152 (fun ad H locs ho hX hS => ?_)
  refine (show W p l e rm_X2_init s m args below meth c H locs 18 1948 QQ (F0 m 155 ls []) from ?_)
  refine lv_aload_n C.x C.b dX2_init_155 rfl (lv_at hl 0 rfl) ?_
  refine r_const C dX2_init_156 ?_
  refine mi_i (cells' := 19) (slots' := 1952) C hX hS ho 25 (n := 4) (by decide) (by decide) rfl (fun _ => rfl) (fun i a b => by rcases (show i = 24 by omega) with rfl <;> rfl) (by decide) rfl rfl hnm rfl q325 rfl rfl (Nat.le_of_ble_eq_true rfl) (Nat.le_of_ble_eq_true rfl) dX2_init_157 q1039 (fun _ h => h) dX2_init_159 (fun ad H locs ho hX hS => ?_)
  refine (show W p l e rm_X2_init s m args below meth c H locs 19 1952 QQ (F0 m 162 ls []) from ?_)
  refine lv_aload_n C.x C.b dX2_init_162 rfl (lv_at hl 0 rfl) ?_
  refine r_bipush C (by decide) dX2_init_163 ?_
  refine mi_z (cells' := 20) (slots' := 1984) C hX hS ho 26 (n := 32) (by decide) (by decide) rfl (fun _ => rfl) (fun i a b => by omega) (by decide) rfl rfl hnm rfl q735 rfl rfl (Nat.le_of_ble_eq_true rfl) (Nat.le_of_ble_eq_true rfl) dX2_init_165 q1040 (fun _ h => h) dX2_init_167 (fun ad H locs ho hX hS => ?_)
  refine (show W p l e rm_X2_init s m args below meth c H locs 20 1984 QQ (F0 m 170 ls []) from ?_)
  refine lv_aload_n C.x C.b dX2_init_170 rfl (lv_at hl 0 rfl) ?_
  refine r_const C dX2_init_171 ?_
  refine mi_i (cells' := 21) (slots' := 1988) C hX hS ho 28 (n := 4) (by decide) (by decide) rfl (fun _ => rfl) (fun i a b => by rcases (show i = 27 by omega) with rfl <;> rfl) (by decide) rfl rfl hnm rfl q325 rfl rfl (Nat.le_of_ble_eq_true rfl) (Nat.le_of_ble_eq_true rfl) dX2_init_172 q1042 (fun _ h => h) dX2_init_174 (fun ad H locs ho hX hS => ?_)
  refine (show W p l e rm_X2_init s m args below meth c H locs 21 1988 QQ (F0 m 177 ls []) from ?_)
  refine lv_aload_n C.x C.b dX2_init_177 rfl (lv_at hl 0 rfl) ?_
  refine r_const C dX2_init_178 ?_
  refine mi_i (cells' := 22) (slots' := 1992) C hX hS ho 29 (n := 4) (by decide) (by decide) rfl (fun _ => rfl) (fun i a b => by omega) (by decide) rfl rfl hnm rfl q325 rfl rfl (Nat.le_of_ble_eq_true rfl) (Nat.le_of_ble_eq_true rfl) dX2_init_179 q1043 (fun _ h => h) dX2_init_181 (fun ad H locs ho hX hS => ?_)
  refine (show W p l e rm_X2_init s m args below meth c H locs 22 1992 QQ (F0 m 184 ls []) from ?_)
  refine lv_aload_n C.x C.b dX2_init_184 rfl (lv_at hl 0 rfl) ?_
  refine r_bipush C (by decide) dX2_init_185 ?_
  refine mi_i (cells' := 23) (slots' := 2004) C hX hS ho 31 (n := 12) (by decide) (by decide) rfl (fun _ => rfl) (fun i a b => by rcases (show i = 30 by omega) with rfl <;> rfl) (by decide) rfl rfl hnm rfl q325 rfl rfl (Nat.le_of_ble_eq_true rfl) (Nat.le_of_ble_eq_true rfl) dX2_init_187 q1045 (fun _ h => h) dX2_init_189 (fun ad H locs ho hX hS => ?_)
  refine (show W p l e rm_X2_init s m args below meth c H locs 23 2004 QQ (F0 m 192 ls []) from ?_)
  refine lv_aload_n C.x C.b dX2_init_192 rfl (lv_at hl 0 rfl) ?_
  refine r_bipush C (by decide) dX2_init_193 ?_
  refine mi_i (cells' := 24) (slots' := 2016) C hX hS ho 32 (n := 12) (by decide) (by decide) rfl (fun _ => rfl) (fun i a b => by omega) (by decide) rfl rfl hnm rfl q325 rfl rfl (Nat.le_of_ble_eq_true rfl) (Nat.le_of_ble_eq_true rfl) dX2_init_195 q1046 (fun _ h => h) dX2_init_197 (fun ad H locs ho hX hS => ?_)
  refine (show W p l e rm_X2_init s m args below meth c H locs 24 2016 QQ (F0 m 200 ls []) from ?_)
  refine lv_aload_n C.x C.b dX2_init_200 rfl (lv_at hl 0 rfl) ?_
  refine r_bipush C (by decide) dX2_init_201 ?_
  refine mi_i (cells' := 25) (slots' := 2022) C hX hS ho 34 (n := 6) (by decide) (by decide) rfl (fun _ => rfl) (fun i a b => by rcases (show i = 33 by omega) with rfl <;> rfl) (by decide) rfl rfl hnm rfl q325 rfl rfl (Nat.le_of_ble_eq_true rfl) (Nat.le_of_ble_eq_true rfl) dX2_init_203 q1048 (fun _ h => h) dX2_init_205 (fun ad H locs ho hX hS => ?_)
  refine (show W p l e rm_X2_init s m args below meth c H locs 25 2022 QQ (F0 m 208 ls []) from ?_)
  refine lv_aload_n C.x C.b dX2_init_208 rfl (lv_at hl 0 rfl) ?_
  refine r_bipush C (by decide) dX2_init_209 ?_
  refine mi_i (cells' := 26) (slots' := 2046) C hX hS ho 35 (n := 24) (by decide) (by decide) rfl (fun _ => rfl) (fun i a b => by omega) (by decide) rfl rfl hnm rfl q325 rfl rfl (Nat.le_of_ble_eq_true rfl) (Nat.le_of_ble_eq_true rfl) dX2_init_211 q1049 (fun _ h => h) dX2_init_213 (fun ad H locs ho hX hS => ?_)
  refine (show W p l e rm_X2_init s m args below meth c H locs 26 2046 QQ (F0 m 216 ls []) from ?_)
  refine lv_aload_n C.x C.b dX2_init_216 rfl (lv_at hl 0 rfl) ?_
  refine r_bipush C (by decide) dX2_init_217 ?_
  refine mi_i (cells' := 27) (slots' := 2150) C hX hS ho 37 (n := 104) (by decide) (by decide) rfl (fun _ => rfl) (fun i a b => by rcases (show i = 36 by omega) with rfl <;> rfl) (by decide) rfl rfl hnm rfl q325 rfl rfl (Nat.le_of_ble_eq_true rfl) (Nat.le_of_ble_eq_true rfl) dX2_init_219 q1051 (fun _ h => h) dX2_init_221 (fun ad H locs ho hX hS => ?_)
  refine (show W p l e rm_X2_init s m args below meth c H locs 27 2150 QQ (F0 m 224 ls []) from ?_)
  refine lv_aload_n C.x C.b dX2_init_224 rfl (lv_at hl 0 rfl) ?_
  refine r_bipush C (by decide) dX2_init_225 ?_
  refine mi_i (cells' := 28) (slots' := 2254) C hX hS ho 38 (n := 104) (by decide) (by decide) rfl (fun _ => rfl) (fun i a b => by omega) (by decide) rfl rfl hnm rfl q325 rfl rfl (Nat.le_of_ble_eq_true rfl) (Nat.le_of_ble_eq_true rfl) dX2_init_227 q1052 (fun _ h => h) dX2_init_229 (fun ad H locs ho hX hS => ?_)
  refine (show W p l e rm_X2_init s m args below meth c H locs 28 2254 QQ (F0 m 232 ls []) from ?_)
  refine lv_aload_n C.x C.b dX2_init_232 rfl (lv_at hl 0 rfl) ?_
  refine r_sipush C (by decide) dX2_init_233 ?_
  refine mi_z (cells' := 29) (slots' := 30926) C hX hS ho 39 (n := 28672) (by decide) (by decide) rfl (fun _ => rfl) (fun i a b => by omega) (by decide) rfl rfl hnm rfl q735 rfl rfl (Nat.le_of_ble_eq_true rfl) (Nat.le_of_ble_eq_true rfl) dX2_init_236 q1053 (fun _ h => h) dX2_init_238 (fun ad H locs ho hX hS => ?_)
  refine (show W p l e rm_X2_init s m args below meth c H locs 29 30926 QQ (F0 m 241 ls []) from ?_)
  refine lv_aload_n C.x C.b dX2_init_241 rfl (lv_at hl 0 rfl) ?_
  refine r_bipush C (by decide) dX2_init_242 ?_
  refine mi_i (cells' := 30) (slots' := 30932) C hX hS ho 43 (n := 6) (by decide) (by decide) rfl (fun _ => rfl) (fun i a b => by rcases (show i = 40 ∨ i = 41 ∨ i = 42 by omega) with rfl | rfl | rfl <;> rfl) (by decide) rfl rfl hnm rfl q325 rfl rfl (Nat.le_of_ble_eq_true rfl) (Nat.le_of_ble_eq_true rfl) dX2_init_244 q1057 (fun _ h => h) dX2_init_246 (fun ad H locs ho hX hS => ?_)
  refine (show W p l e rm_X2_init s m args below meth c H locs 30 30932 QQ (F0 m 249 ls []) from ?_)
  refine lv_aload_n C.x C.b dX2_init_249 rfl (lv_at hl 0 rfl) ?_
  refine r_sipush C (by decide) dX2_init_250 ?_
  refine mi_i (cells' := 31) (slots' := 31092) C hX hS ho 44 (n := 160) (by decide) (by decide) rfl (fun _ => rfl) (fun i a b => by omega) (by decide) rfl rfl hnm rfl q325 rfl rfl (Nat.le_of_ble_eq_true rfl) (Nat.le_of_ble_eq_true rfl) dX2_init_253 q1058 (fun _ h => h) dX2_init_255 (fun ad H locs ho hX hS => ?_)
  refine (show W p l e rm_X2_init s m args below meth c H locs 31 31092 QQ (F0 m 258 ls []) from ?_)
  refine lv_aload_n C.x C.b dX2_init_258 rfl (lv_at hl 0 rfl) ?_
  refine r_bipush C (by decide) dX2_init_259 ?_
  refine mi_i (cells' := 32) (slots' := 31112) C hX hS ho 53 (n := 20) (by decide) (by decide) rfl (fun _ => rfl) (fun i a b => by rcases (show i = 45 ∨ i = 46 ∨ i = 47 ∨ i = 48 ∨ i = 49 ∨ i = 50 ∨ i = 51 ∨ i = 52 by omega) with rfl | rfl | rfl | rfl | rfl | rfl | rfl | rfl <;> rfl) (by decide) rfl rfl hnm rfl q325 rfl rfl (Nat.le_of_ble_eq_true rfl) (Nat.le_of_ble_eq_true rfl) dX2_init_261 q1067 (fun _ h => h) dX2_init_263 (fun ad H locs ho hX hS => ?_)
  refine (show W p l e rm_X2_init s m args below meth c H locs 32 31112 QQ (F0 m 266 ls []) from ?_)
  refine lv_aload_n C.x C.b dX2_init_266 rfl (lv_at hl 0 rfl) ?_
  refine r_bipush C (by decide) dX2_init_267 ?_
  refine mi_i (cells' := 33) (slots' := 31132) C hX hS ho 54 (n := 20) (by decide) (by decide) rfl (fun _ => rfl) (fun i a b => by omega) (by decide) rfl rfl hnm rfl q325 rfl rfl (Nat.le_of_ble_eq_true rfl) (Nat.le_of_ble_eq_true rfl) dX2_init_269 q1068 (fun _ h => h) dX2_init_271 (fun ad H locs ho hX hS => ?_)
  refine (show W p l e rm_X2_init s m args below meth c H locs 33 31132 QQ (F0 m 274 ls []) from ?_)
  refine lv_aload_n C.x C.b dX2_init_274 rfl (lv_at hl 0 rfl) ?_
  refine r_bipush C (by decide) dX2_init_275 ?_
  refine mi_i (cells' := 34) (slots' := 31152) C hX hS ho 55 (n := 20) (by decide) (by decide) rfl (fun _ => rfl) (fun i a b => by omega) (by decide) rfl rfl hnm rfl q325 rfl rfl (Nat.le_of_ble_eq_true rfl) (Nat.le_of_ble_eq_true rfl) dX2_init_277 q1069 (fun _ h => h) dX2_init_279 (fun ad H locs ho hX hS => ?_)
  refine (show W p l e rm_X2_init s m args below meth c H locs 34 31152 QQ (F0 m 282 ls []) from ?_)
  refine lv_aload_n C.x C.b dX2_init_282 rfl (lv_at hl 0 rfl) ?_
  refine r_bipush C (by decide) dX2_init_283 ?_
  refine mi_i (cells' := 35) (slots' := 31172) C hX hS ho 56 (n := 20) (by decide) (by decide) rfl (fun _ => rfl) (fun i a b => by omega) (by decide) rfl rfl hnm rfl q325 rfl rfl (Nat.le_of_ble_eq_true rfl) (Nat.le_of_ble_eq_true rfl) dX2_init_285 q1070 (fun _ h => h) dX2_init_287 (fun ad H locs ho hX hS => ?_)
  refine (show W p l e rm_X2_init s m args below meth c H locs 35 31172 QQ (F0 m 290 ls []) from ?_)
  refine lv_aload_n C.x C.b dX2_init_290 rfl (lv_at hl 0 rfl) ?_
  refine r_bipush C (by decide) dX2_init_291 ?_
  refine mi_i (cells' := 36) (slots' := 31192) C hX hS ho 57 (n := 20) (by decide) (by decide) rfl (fun _ => rfl) (fun i a b => by omega) (by decide) rfl rfl hnm rfl q325 rfl rfl (Nat.le_of_ble_eq_true rfl) (Nat.le_of_ble_eq_true rfl) dX2_init_293 q1071 (fun _ h => h) dX2_init_295 (fun ad H locs ho hX hS => ?_)
  refine (show W p l e rm_X2_init s m args below meth c H locs 36 31192 QQ (F0 m 298 ls []) from ?_)
  refine lv_aload_n C.x C.b dX2_init_298 rfl (lv_at hl 0 rfl) ?_
  refine r_bipush C (by decide) dX2_init_299 ?_
  refine mi_i (cells' := 37) (slots' := 31212) C hX hS ho 59 (n := 20) (by decide) (by decide) rfl (fun _ => rfl) (fun i a b => by rcases (show i = 58 by omega) with rfl <;> rfl) (by decide) rfl rfl hnm rfl q325 rfl rfl (Nat.le_of_ble_eq_true rfl) (Nat.le_of_ble_eq_true rfl) dX2_init_301 q1073 (fun _ h => h) dX2_init_303 (fun ad H locs ho hX hS => ?_)
  refine (show W p l e rm_X2_init s m args below meth c H locs 37 31212 QQ (F0 m 306 ls []) from ?_)
  refine lv_aload_n C.x C.b dX2_init_306 rfl (lv_at hl 0 rfl) ?_
  refine r_const C dX2_init_307 ?_
  refine mi_i (cells' := 38) (slots' := 31216) C hX hS ho 60 (n := 4) (by decide) (by decide) rfl (fun _ => rfl) (fun i a b => by omega) (by decide) rfl rfl hnm rfl q325 rfl rfl (Nat.le_of_ble_eq_true rfl) (Nat.le_of_ble_eq_true rfl) dX2_init_308 q1074 (fun _ h => h) dX2_init_310 (fun ad H locs ho hX hS => ?_)
  refine (show W p l e rm_X2_init s m args below meth c H locs 38 31216 QQ (F0 m 313 ls []) from ?_)
  refine lv_aload_n C.x C.b dX2_init_313 rfl (lv_at hl 0 rfl) ?_
  refine r_const C dX2_init_314 ?_
  refine mi_i (cells' := 39) (slots' := 31220) C hX hS ho 61 (n := 4) (by decide) (by decide) rfl (fun _ => rfl) (fun i a b => by omega) (by decide) rfl rfl hnm rfl q325 rfl rfl (Nat.le_of_ble_eq_true rfl) (Nat.le_of_ble_eq_true rfl) dX2_init_315 q1075 (fun _ h => h) dX2_init_317 (fun ad H locs ho hX hS => ?_)
  refine (show W p l e rm_X2_init s m args below meth c H locs 39 31220 QQ (F0 m 320 ls []) from ?_)
  refine lv_aload_n C.x C.b dX2_init_320 rfl (lv_at hl 0 rfl) ?_
  refine r_sipush C (by decide) dX2_init_321 ?_
  refine mi_i (cells' := 40) (slots' := 31460) C hX hS ho 62 (n := 240) (by decide) (by decide) rfl (fun _ => rfl) (fun i a b => by omega) (by decide) rfl rfl hnm rfl q325 rfl rfl (Nat.le_of_ble_eq_true rfl) (Nat.le_of_ble_eq_true rfl) dX2_init_324 q1076 (fun _ h => h) dX2_init_326 (fun ad H locs ho hX hS => ?_)
  refine (show W p l e rm_X2_init s m args below meth c H locs 40 31460 QQ (F0 m 329 ls []) from ?_)
  have hX : MH E A ad (va_up (fun _ => 0 : Nat → Int) 2 1) (fun _ _ => 0 : Nat → Int → Int) H := ⟨by have z := hX; unfold MP at z; rw [show pC 63 ad E.2 (va_up (fun _ => 0 : Nat → Int) 2 1) (fun _ _ => 0 : Nat → Int → Int) = _ from pC_end] at z; exact z, mfb_1, fun k q h j => mab_0 k q h j⟩
  rw [← hF0, ← hM0] at hX
  have had : ad 63 = o := ho
  rw [← ho] at hl
  refine r_const C dX2_init_329 ?_
  refine lv_istore_n (lv' := [(1, .int (zi 0)), (0, .ref (ad 63))]) C.x C.b dX2_init_330 rfl hl (by decide) rfl (fun ls hl => ?_)
  have L331 : ∀ (fu : Nat) (v1 : Int) (m60 : Int → Int) (h1 : 0 ≤ v1 ∧ v1 ≤ 4) (h60 : ∀ j : Int, 0 ≤ j → j < v1 → m60 j = -4) (hm : Int.toNat (4 - v1) < fu) (H : Heap) (locs : List Loc) (ls : Array Slot) (hX : MH E A ad F (va_up M 60 m60) H) (hS : va_S A s.heap H locs) (hl : lv_has ls 2 [(0, .ref (ad 63)), (1, .int (zi v1))]), W p l e rm_X2_init s m args below meth c H locs 40 31460 QQ (F0 m 331 ls []) := by
    intro fu
    induction fu with
    | zero => intro v1 m60 h1 h60 hm; exact absurd hm (Nat.not_lt_zero _)
    | succ fu ih331 =>
      intro v1 m60 h1 h60 hm H locs ls hX hS hl
      refine lv_iload_n C.x C.b dX2_init_331 rfl (lv_at hl 1 rfl) ?_
      refine r_const C dX2_init_332 ?_
      refine r_icmp_ge (tgt := 350) C (by omega) (by decide) dX2_init_333 (by decide) (fun c_1 => ?_) (fun c_1 => ?_)
      · rw [← hQQ]
        exact r_vret C hS (Nat.le_of_ble_eq_true rfl) (Nat.le_of_ble_eq_true rfl) dX2_init_350 ⟨ad, m60, had, (fun j a b => h60 j a (by omega)), hX⟩
      · refine lv_aload_n C.x C.b dX2_init_336 rfl (lv_at hl 0 rfl) ?_
        refine mg_60 C hX dX2_init_337 ?_
        refine lv_iload_n C.x C.b dX2_init_340 rfl (lv_at hl 1 rfl) ?_
        refine r_bipush C (by decide) dX2_init_341 ?_
        refine ms_60 C hX hS (by omega) (by omega) m60 rfl (M' := (va_up M 60 (fup m60 v1 (-4)))) (up_up _ _ _ _) dX2_init_343 (fun H locs hX hS => ?_)
        refine r_iinc (lv' := [(1, .int (zi (v1 + 1))), (0, .ref (ad 63))]) C dX2_init_344 hl (k := 1) rfl (by decide) rfl (fun ls hl => ?_)
        refine lv_goto (tgt := 331) C.x C.b dX2_init_347 (by decide) ?_
        exact ih331 (v1 + 1) (fup m60 v1 (-4)) (by omega) (fup_st (P := fun j x => x = -4) h60 rfl) (by omega) H locs ls hX hS (lv_sub hl [1, 0] rfl)
  exact L331 _ 0 (M 60) (by omega) (fun j a b => absurd a (by omega)) (Nat.lt_succ_self _) H locs ls (hX.to rfl ((up_id M (k := 60) (a := (M 60)) rfl).symm.trans rfl)) hS (lv_sub hl [1, 0] rfl)
