abbrev b_Mu_init : ByteArray := prog_7_method_1_code
abbrev y_Mu_init : MethodName := { cls := "DelayMachine$Multiplier", name := "<init>", desc := "()V" }
theorem d_Mu_init_0 : decode b_Mu_init 0 = .ok (.aload_n 0, 1) := by decide +kernel
theorem d_Mu_init_1 : decode b_Mu_init 1 = .ok (.invokespecial 3, 3) := by decide +kernel
theorem d_Mu_init_4 : decode b_Mu_init 4 = .ok (.return_, 1) := by decide +kernel
theorem hd_Mu_init : y_Mu_init.cls ≠ "java/lang/invoke/MethodHandle" ∧ y_Mu_init.cls ≠ "java/lang/invoke/VarHandle" ∧ (parseMethodDescriptor y_Mu_init.desc).map (fun d => d.parameters.length) = some 0 := by decide +kernel
abbrev rm_Mu_init : Room := { frames := 1, cells := 0, slots := 0, locals := 20 }
set_option maxHeartbeats 4000000 in
set_option maxRecDepth 100000 in
theorem c_Mu_init (l : Launch) (G : dm_G) (a : Nat) : dm_Ct l y_Mu_init b_Mu_init 1 none rm_Mu_init G [(a, .inr (2, [.int (0 : Int32), .int (0 : Int32)]))] [.ref a] (fun ov w' => ov = none ∧ w' = [(a, .inr (2, [.int (0 : Int32), .int (0 : Int32)]))]) := by
  refine dm_Ct.of (by decide +kernel) (Nat.le_of_ble_eq_true rfl) ?_
  intro p e s m below meth c A ls B hl hP hD hS
  have hx := B.1
  have hb := B.2.1
  have hl : lv_has ls 1 [(0, .ref a)] := hl
  refine lv_aload_n hx hb d_Mu_init_0 rfl (lv_at hl 0 rfl) ?_
  refine dm_oi B k_45 k_30 k_31 hl.1 d_Mu_init_1 (by decide) (Nat.le_of_ble_eq_true rfl) ?_
  exact dm_retv B d_Mu_init_4 (by decide) (by decide) hP hD hS ⟨rfl, rfl⟩
abbrev b_Wi_init : ByteArray := prog_14_method_1_code
abbrev y_Wi_init : MethodName := { cls := "DelayMachine$Window", name := "<init>", desc := "()V" }
theorem d_Wi_init_0 : decode b_Wi_init 0 = .ok (.aload_n 0, 1) := by decide +kernel
theorem d_Wi_init_1 : decode b_Wi_init 1 = .ok (.invokespecial 1, 3) := by decide +kernel
theorem d_Wi_init_4 : decode b_Wi_init 4 = .ok (.aload_n 0, 1) := by decide +kernel
theorem d_Wi_init_5 : decode b_Wi_init 5 = .ok (.iconst (-1), 1) := by decide +kernel
theorem d_Wi_init_6 : decode b_Wi_init 6 = .ok (.putfield 7, 3) := by decide +kernel
theorem d_Wi_init_9 : decode b_Wi_init 9 = .ok (.aload_n 0, 1) := by decide +kernel
theorem d_Wi_init_10 : decode b_Wi_init 10 = .ok (.iconst (-1), 1) := by decide +kernel
theorem d_Wi_init_11 : decode b_Wi_init 11 = .ok (.putfield 13, 3) := by decide +kernel
theorem d_Wi_init_14 : decode b_Wi_init 14 = .ok (.return_, 1) := by decide +kernel
theorem hd_Wi_init : y_Wi_init.cls ≠ "java/lang/invoke/MethodHandle" ∧ y_Wi_init.cls ≠ "java/lang/invoke/VarHandle" ∧ (parseMethodDescriptor y_Wi_init.desc).map (fun d => d.parameters.length) = some 0 := by decide +kernel
abbrev rm_Wi_init : Room := { frames := 1, cells := 0, slots := 0, locals := 20 }
set_option maxHeartbeats 4000000 in
set_option maxRecDepth 100000 in
theorem c_Wi_init (l : Launch) (G : dm_G) (a : Nat) : dm_Ct l y_Wi_init b_Wi_init 1 none rm_Wi_init G [(a, .inr (4, [.int (0 : Int32), .int (0 : Int32), .null, .null]))] [.ref a] (fun ov w' => ov = none ∧ w' = [(a, .inr (4, [.int (-1 : Int32), .int (-1 : Int32), .null, .null]))]) := by
  refine dm_Ct.of (by decide +kernel) (Nat.le_of_ble_eq_true rfl) ?_
  intro p e s m below meth c A ls B hl hP hD hS
  have hx := B.1
  have hb := B.2.1
  have hl : lv_has ls 1 [(0, .ref a)] := hl
  refine lv_aload_n hx hb d_Wi_init_0 rfl (lv_at hl 0 rfl) ?_
  refine dm_oi B k_97 k_30 k_31 hl.1 d_Wi_init_1 (by decide) (Nat.le_of_ble_eq_true rfl) ?_
  refine lv_aload_n hx hb d_Wi_init_4 rfl (lv_at hl 0 rfl) ?_
  refine lv_iconst (v := (-1 : Int32)) hx hb d_Wi_init_5 (by decide) ?_
  refine dm_put (ci := 4) (v := .int (-1 : Int32)) B hP hD hS 0 rfl rfl in_Wi t_Wi t_Wi_ok n_Wi 0 (by decide) k_98 rfl rfl rfl (Nat.le_of_ble_eq_true rfl) d_Wi_init_6 (fun H locs hP hD hS => ?_)
  have hP : va_P G.1 dm_cl [(a, .inr (4, [.int (-1 : Int32), .int (0 : Int32), .null, .null]))] H := hP
  have hD : va_D A [(a, .inr (4, [.int (-1 : Int32), .int (0 : Int32), .null, .null]))] := hD
  refine lv_aload_n hx hb d_Wi_init_9 rfl (lv_at hl 0 rfl) ?_
  refine lv_iconst (v := (-1 : Int32)) hx hb d_Wi_init_10 (by decide) ?_
  refine dm_put (ci := 4) (v := .int (-1 : Int32)) B hP hD hS 0 rfl rfl in_Wi t_Wi t_Wi_ok n_Wi 1 (by decide) k_100 rfl rfl rfl (Nat.le_of_ble_eq_true rfl) d_Wi_init_11 (fun H locs hP hD hS => ?_)
  have hP : va_P G.1 dm_cl [(a, .inr (4, [.int (-1 : Int32), .int (-1 : Int32), .null, .null]))] H := hP
  have hD : va_D A [(a, .inr (4, [.int (-1 : Int32), .int (-1 : Int32), .null, .null]))] := hD
  exact dm_retv B d_Wi_init_14 (by decide) (by decide) hP hD hS ⟨rfl, rfl⟩
abbrev b_Re_init : ByteArray := prog_10_method_1_code
abbrev y_Re_init : MethodName := { cls := "DelayMachine$Reader", name := "<init>", desc := "()V" }
theorem d_Re_init_0 : decode b_Re_init 0 = .ok (.aload_n 0, 1) := by decide +kernel
theorem d_Re_init_1 : decode b_Re_init 1 = .ok (.invokespecial 3, 3) := by decide +kernel
theorem d_Re_init_4 : decode b_Re_init 4 = .ok (.aload_n 0, 1) := by decide +kernel
theorem d_Re_init_5 : decode b_Re_init 5 = .ok (.bipush (48), 2) := by decide +kernel
theorem d_Re_init_7 : decode b_Re_init 7 = .ok (.newarray .short, 2) := by decide +kernel
theorem d_Re_init_9 : decode b_Re_init 9 = .ok (.putfield 9, 3) := by decide +kernel
theorem d_Re_init_12 : decode b_Re_init 12 = .ok (.return_, 1) := by decide +kernel
theorem hd_Re_init : y_Re_init.cls ≠ "java/lang/invoke/MethodHandle" ∧ y_Re_init.cls ≠ "java/lang/invoke/VarHandle" ∧ (parseMethodDescriptor y_Re_init.desc).map (fun d => d.parameters.length) = some 0 := by decide +kernel
abbrev rm_Re_init : Room := { frames := 1, cells := 1, slots := 48, locals := 20 }
set_option maxHeartbeats 4000000 in
set_option maxRecDepth 100000 in
theorem c_Re_init (l : Launch) (G : dm_G) (a : Nat) : dm_Ct l y_Re_init b_Re_init 1 none rm_Re_init G [(a, .inr (3, [.null, .int (0 : Int32), .int (0 : Int32), .int (0 : Int32), .int (0 : Int32), .int (0 : Int32), .int (0 : Int32)]))] [.ref a] (fun ov w' => ∃ (q1 : Nat), ov = none ∧ w' = [(a, .inr (3, [.ref q1, .int (0 : Int32), .int (0 : Int32), .int (0 : Int32), .int (0 : Int32), .int (0 : Int32), .int (0 : Int32)])), (q1, .inl (G.2.1 1, 48, .inl (fun _ => 0)))]) := by
  refine dm_Ct.of (by decide +kernel) (Nat.le_of_ble_eq_true rfl) ?_
  intro p e s m below meth c A ls B hl hP hD hS
  have hx := B.1
  have hb := B.2.1
  have hl : lv_has ls 1 [(0, .ref a)] := hl
  refine lv_aload_n hx hb d_Re_init_0 rfl (lv_at hl 0 rfl) ?_
  refine dm_oi B k_61 k_30 k_31 hl.1 d_Re_init_1 (by decide) (Nat.le_of_ble_eq_true rfl) ?_
  refine lv_aload_n hx hb d_Re_init_4 rfl (lv_at hl 0 rfl) ?_
  refine lv_bipush (v := (48 : Int32)) hx hb d_Re_init_5 (by decide) ?_
  refine dm_newa (atype := .short) (a0 := (48, .inl (fun _ => 0))) B k_87 rfl 1 rfl hP hD hS (fun _ => rfl) (by decide) (by decide) (by decide) (by decide) (by decide) d_Re_init_7 (fun q1 H hP hD hS => ?_)
  have hP : va_P G.1 dm_cl [(a, .inr (3, [.null, .int (0 : Int32), .int (0 : Int32), .int (0 : Int32), .int (0 : Int32), .int (0 : Int32), .int (0 : Int32)])), (q1, .inl (G.2.1 1, 48, .inl (fun _ => 0)))] H := hP
  have hD : va_D A [(a, .inr (3, [.null, .int (0 : Int32), .int (0 : Int32), .int (0 : Int32), .int (0 : Int32), .int (0 : Int32), .int (0 : Int32)])), (q1, .inl (G.2.1 1, 48, .inl (fun _ => 0)))] := hD
  refine dm_putF (ci := 3) (v := .ref q1) B hP hD hS 0 rfl rfl in_Re t_Re t_Re_ok n_Re 0 (by decide) k_62 rfl rfl rfl rfl (Nat.le_of_ble_eq_true rfl) d_Re_init_9 (fun H locs hP hD hS => ?_)
  have hP : va_P G.1 dm_cl [(a, .inr (3, [.ref q1, .int (0 : Int32), .int (0 : Int32), .int (0 : Int32), .int (0 : Int32), .int (0 : Int32), .int (0 : Int32)])), (q1, .inl (G.2.1 1, 48, .inl (fun _ => 0)))] H := hP
  have hD : va_D A [(a, .inr (3, [.ref q1, .int (0 : Int32), .int (0 : Int32), .int (0 : Int32), .int (0 : Int32), .int (0 : Int32), .int (0 : Int32)])), (q1, .inl (G.2.1 1, 48, .inl (fun _ => 0)))] := hD
  exact dm_retv B d_Re_init_12 (by decide) (by decide) hP hD hS ⟨q1, rfl, rfl⟩
abbrev b_Li_init : ByteArray := prog_5_method_1_code
abbrev y_Li_init : MethodName := { cls := "DelayMachine$Line", name := "<init>", desc := "(I)V" }
theorem d_Li_init_0 : decode b_Li_init 0 = .ok (.aload_n 0, 1) := by decide +kernel
theorem d_Li_init_1 : decode b_Li_init 1 = .ok (.invokespecial 1, 3) := by decide +kernel
theorem d_Li_init_4 : decode b_Li_init 4 = .ok (.aload_n 0, 1) := by decide +kernel
theorem d_Li_init_5 : decode b_Li_init 5 = .ok (.iload_n 1, 1) := by decide +kernel
theorem d_Li_init_6 : decode b_Li_init 6 = .ok (.newarray .short, 2) := by decide +kernel
theorem d_Li_init_8 : decode b_Li_init 8 = .ok (.putfield 7, 3) := by decide +kernel
theorem d_Li_init_11 : decode b_Li_init 11 = .ok (.return_, 1) := by decide +kernel
theorem hd_Li_init : y_Li_init.cls ≠ "java/lang/invoke/MethodHandle" ∧ y_Li_init.cls ≠ "java/lang/invoke/VarHandle" ∧ (parseMethodDescriptor y_Li_init.desc).map (fun d => d.parameters.length) = some 1 := by decide +kernel
abbrev rm_Li_init : Room := { frames := 1, cells := 1, slots := 32, locals := 20 }
set_option maxHeartbeats 4000000 in
set_option maxRecDepth 100000 in
theorem c_Li_init (l : Launch) (G : dm_G) (a : Nat) (x1 : Int32) (N : Nat) (hn : ¬ x1 < 0) (hN : x1.toNatClampNeg = N) (hs : N ≤ 32) : dm_Ct l y_Li_init b_Li_init 2 none rm_Li_init G [(a, .inr (5, [.null]))] [.ref a, .int x1] (fun ov w' => ∃ (q1 : Nat), ov = none ∧ w' = [(a, .inr (5, [.ref q1])), (q1, .inl (G.2.1 1, N, .inl (fun _ => 0)))]) := by
  refine dm_Ct.of (by decide +kernel) (Nat.le_of_ble_eq_true rfl) ?_
  intro p e s m below meth c A ls B hl hP hD hS
  have hx := B.1
  have hb := B.2.1
  have hl : lv_has ls 2 [(0, .ref a), (1, .int x1)] := hl
  refine lv_aload_n hx hb d_Li_init_0 rfl (lv_at hl 0 rfl) ?_
  refine dm_oi B k_205 k_30 k_31 hl.1 d_Li_init_1 (by decide) (Nat.le_of_ble_eq_true rfl) ?_
  refine lv_aload_n hx hb d_Li_init_4 rfl (lv_at hl 0 rfl) ?_
  refine lv_iload_n hx hb d_Li_init_5 rfl (lv_at hl 1 rfl) ?_
  refine dm_newa (atype := .short) (a0 := (N, .inl (fun _ => 0))) B k_87 rfl 1 rfl hP hD hS (fun _ => rfl) hn hN (by show N * 2 ≤ 536870912; omega) (by decide) (by show 0 + N ≤ 32; omega) d_Li_init_6 (fun q1 H hP hD hS => ?_)
  have hP : va_P G.1 dm_cl [(a, .inr (5, [.null])), (q1, .inl (G.2.1 1, N, .inl (fun _ => 0)))] H := hP
  have hD : va_D A [(a, .inr (5, [.null])), (q1, .inl (G.2.1 1, N, .inl (fun _ => 0)))] := hD
  refine dm_putF (ci := 5) (v := .ref q1) B hP hD hS 0 rfl rfl in_Li t_Li t_Li_ok n_Li 0 (by decide) k_206 rfl rfl rfl rfl (Nat.le_of_ble_eq_true rfl) d_Li_init_8 (fun H locs hP hD hS => ?_)
  have hP : va_P G.1 dm_cl [(a, .inr (5, [.ref q1])), (q1, .inl (G.2.1 1, N, .inl (fun _ => 0)))] H := hP
  have hD : va_D A [(a, .inr (5, [.ref q1])), (q1, .inl (G.2.1 1, N, .inl (fun _ => 0)))] := hD
  refine W.widen (k := 1) (n := 32) (by decide) (by omega) ?_
  exact dm_retv B d_Li_init_11 (by decide) (by decide) hP hD hS ⟨q1, rfl, rfl⟩
abbrev b_Pr_init : ByteArray := prog_9_method_1_code
abbrev y_Pr_init : MethodName := { cls := "DelayMachine$Presented", name := "<init>", desc := "(LDelayMachine$Line;)V" }
theorem d_Pr_init_0 : decode b_Pr_init 0 = .ok (.aload_n 0, 1) := by decide +kernel
theorem d_Pr_init_1 : decode b_Pr_init 1 = .ok (.invokespecial 1, 3) := by decide +kernel
theorem d_Pr_init_4 : decode b_Pr_init 4 = .ok (.aload_n 0, 1) := by decide +kernel
theorem d_Pr_init_5 : decode b_Pr_init 5 = .ok (.aload_n 1, 1) := by decide +kernel
theorem d_Pr_init_6 : decode b_Pr_init 6 = .ok (.putfield 7, 3) := by decide +kernel
theorem d_Pr_init_9 : decode b_Pr_init 9 = .ok (.return_, 1) := by decide +kernel
theorem hd_Pr_init : y_Pr_init.cls ≠ "java/lang/invoke/MethodHandle" ∧ y_Pr_init.cls ≠ "java/lang/invoke/VarHandle" ∧ (parseMethodDescriptor y_Pr_init.desc).map (fun d => d.parameters.length) = some 1 := by decide +kernel
abbrev rm_Pr_init : Room := { frames := 1, cells := 0, slots := 0, locals := 20 }
set_option maxHeartbeats 4000000 in
set_option maxRecDepth 100000 in
theorem c_Pr_init (l : Launch) (G : dm_G) (a r1 : Nat) : dm_Ct l y_Pr_init b_Pr_init 2 none rm_Pr_init G [(a, .inr (6, [.null]))] [.ref a, .ref r1] (fun ov w' => ov = none ∧ w' = [(a, .inr (6, [.ref r1]))]) := by
  refine dm_Ct.of (by decide +kernel) (Nat.le_of_ble_eq_true rfl) ?_
  intro p e s m below meth c A ls B hl hP hD hS
  have hx := B.1
  have hb := B.2.1
  have hl : lv_has ls 2 [(0, .ref a), (1, .ref r1)] := hl
  refine lv_aload_n hx hb d_Pr_init_0 rfl (lv_at hl 0 rfl) ?_
  refine dm_oi B k_218 k_30 k_31 hl.1 d_Pr_init_1 (by decide) (Nat.le_of_ble_eq_true rfl) ?_
  refine lv_aload_n hx hb d_Pr_init_4 rfl (lv_at hl 0 rfl) ?_
  refine lv_aload_n hx hb d_Pr_init_5 rfl (lv_at hl 1 rfl) ?_
  refine dm_putF (ci := 6) (v := .ref r1) B hP hD hS 0 rfl rfl in_Pr t_Pr t_Pr_ok n_Pr 0 (by decide) k_219 rfl rfl rfl rfl (Nat.le_of_ble_eq_true rfl) d_Pr_init_6 (fun H locs hP hD hS => ?_)
  have hP : va_P G.1 dm_cl [(a, .inr (6, [.ref r1]))] H := hP
  have hD : va_D A [(a, .inr (6, [.ref r1]))] := hD
  exact dm_retv B d_Pr_init_9 (by decide) (by decide) hP hD hS ⟨rfl, rfl⟩
abbrev b_Rk_init : ByteArray := prog_11_method_1_code
abbrev y_Rk_init : MethodName := { cls := "DelayMachine$Reckoned", name := "<init>", desc := "(LDelayMachine$Machine;I)V" }
theorem d_Rk_init_0 : decode b_Rk_init 0 = .ok (.aload_n 0, 1) := by decide +kernel
theorem d_Rk_init_1 : decode b_Rk_init 1 = .ok (.invokespecial 1, 3) := by decide +kernel
theorem d_Rk_init_4 : decode b_Rk_init 4 = .ok (.aload_n 0, 1) := by decide +kernel
theorem d_Rk_init_5 : decode b_Rk_init 5 = .ok (.aload_n 1, 1) := by decide +kernel
theorem d_Rk_init_6 : decode b_Rk_init 6 = .ok (.putfield 7, 3) := by decide +kernel
theorem d_Rk_init_9 : decode b_Rk_init 9 = .ok (.aload_n 0, 1) := by decide +kernel
theorem d_Rk_init_10 : decode b_Rk_init 10 = .ok (.iload_n 2, 1) := by decide +kernel
theorem d_Rk_init_11 : decode b_Rk_init 11 = .ok (.putfield 13, 3) := by decide +kernel
theorem d_Rk_init_14 : decode b_Rk_init 14 = .ok (.return_, 1) := by decide +kernel
theorem hd_Rk_init : y_Rk_init.cls ≠ "java/lang/invoke/MethodHandle" ∧ y_Rk_init.cls ≠ "java/lang/invoke/VarHandle" ∧ (parseMethodDescriptor y_Rk_init.desc).map (fun d => d.parameters.length) = some 2 := by decide +kernel
abbrev rm_Rk_init : Room := { frames := 1, cells := 0, slots := 0, locals := 20 }
set_option maxHeartbeats 4000000 in
set_option maxRecDepth 100000 in
theorem c_Rk_init (l : Launch) (G : dm_G) (a r1 : Nat) (x2 : Int32) : dm_Ct l y_Rk_init b_Rk_init 3 none rm_Rk_init G [(a, .inr (7, [.null, .int (0 : Int32)]))] [.ref a, .ref r1, .int x2] (fun ov w' => ov = none ∧ w' = [(a, .inr (7, [.ref r1, .int x2]))]) := by
  refine dm_Ct.of (by decide +kernel) (Nat.le_of_ble_eq_true rfl) ?_
  intro p e s m below meth c A ls B hl hP hD hS
  have hx := B.1
  have hb := B.2.1
  have hl : lv_has ls 3 [(0, .ref a), (1, .ref r1), (2, .int x2)] := hl
  refine lv_aload_n hx hb d_Rk_init_0 rfl (lv_at hl 0 rfl) ?_
  refine dm_oi B k_228 k_30 k_31 hl.1 d_Rk_init_1 (by decide) (Nat.le_of_ble_eq_true rfl) ?_
  refine lv_aload_n hx hb d_Rk_init_4 rfl (lv_at hl 0 rfl) ?_
  refine lv_aload_n hx hb d_Rk_init_5 rfl (lv_at hl 1 rfl) ?_
  refine dm_putF (ci := 7) (v := .ref r1) B hP hD hS 0 rfl rfl in_Rk t_Rk t_Rk_ok n_Rk 0 (by decide) k_229 rfl rfl rfl rfl (Nat.le_of_ble_eq_true rfl) d_Rk_init_6 (fun H locs hP hD hS => ?_)
  have hP : va_P G.1 dm_cl [(a, .inr (7, [.ref r1, .int (0 : Int32)]))] H := hP
  have hD : va_D A [(a, .inr (7, [.ref r1, .int (0 : Int32)]))] := hD
  refine lv_aload_n hx hb d_Rk_init_9 rfl (lv_at hl 0 rfl) ?_
  refine lv_iload_n hx hb d_Rk_init_10 rfl (lv_at hl 2 rfl) ?_
  refine dm_putF (ci := 7) (v := .int x2) B hP hD hS 0 rfl rfl in_Rk t_Rk t_Rk_ok n_Rk 1 (by decide) k_230 rfl rfl rfl rfl (Nat.le_of_ble_eq_true rfl) d_Rk_init_11 (fun H locs hP hD hS => ?_)
  have hP : va_P G.1 dm_cl [(a, .inr (7, [.ref r1, .int x2]))] H := hP
  have hD : va_D A [(a, .inr (7, [.ref r1, .int x2]))] := hD
  exact dm_retv B d_Rk_init_14 (by decide) (by decide) hP hD hS ⟨rfl, rfl⟩
abbrev b_Do_init : ByteArray := prog_4_method_1_code
abbrev y_Do_init : MethodName := { cls := "DelayMachine$Done", name := "<init>", desc := "(LDelayMachine$Machine;I)V" }
theorem d_Do_init_0 : decode b_Do_init 0 = .ok (.aload_n 0, 1) := by decide +kernel
theorem d_Do_init_1 : decode b_Do_init 1 = .ok (.invokespecial 1, 3) := by decide +kernel
theorem d_Do_init_4 : decode b_Do_init 4 = .ok (.aload_n 0, 1) := by decide +kernel
theorem d_Do_init_5 : decode b_Do_init 5 = .ok (.aload_n 1, 1) := by decide +kernel
theorem d_Do_init_6 : decode b_Do_init 6 = .ok (.putfield 7, 3) := by decide +kernel
theorem d_Do_init_9 : decode b_Do_init 9 = .ok (.aload_n 0, 1) := by decide +kernel
theorem d_Do_init_10 : decode b_Do_init 10 = .ok (.iload_n 2, 1) := by decide +kernel
theorem d_Do_init_11 : decode b_Do_init 11 = .ok (.putfield 13, 3) := by decide +kernel
theorem d_Do_init_14 : decode b_Do_init 14 = .ok (.return_, 1) := by decide +kernel
theorem hd_Do_init : y_Do_init.cls ≠ "java/lang/invoke/MethodHandle" ∧ y_Do_init.cls ≠ "java/lang/invoke/VarHandle" ∧ (parseMethodDescriptor y_Do_init.desc).map (fun d => d.parameters.length) = some 2 := by decide +kernel
abbrev rm_Do_init : Room := { frames := 1, cells := 0, slots := 0, locals := 20 }
set_option maxHeartbeats 4000000 in
set_option maxRecDepth 100000 in
theorem c_Do_init (l : Launch) (G : dm_G) (a r1 : Nat) (x2 : Int32) : dm_Ct l y_Do_init b_Do_init 3 none rm_Do_init G [(a, .inr (8, [.null, .int (0 : Int32)]))] [.ref a, .ref r1, .int x2] (fun ov w' => ov = none ∧ w' = [(a, .inr (8, [.ref r1, .int x2]))]) := by
  refine dm_Ct.of (by decide +kernel) (Nat.le_of_ble_eq_true rfl) ?_
  intro p e s m below meth c A ls B hl hP hD hS
  have hx := B.1
  have hb := B.2.1
  have hl : lv_has ls 3 [(0, .ref a), (1, .ref r1), (2, .int x2)] := hl
  refine lv_aload_n hx hb d_Do_init_0 rfl (lv_at hl 0 rfl) ?_
  refine dm_oi B k_241 k_30 k_31 hl.1 d_Do_init_1 (by decide) (Nat.le_of_ble_eq_true rfl) ?_
  refine lv_aload_n hx hb d_Do_init_4 rfl (lv_at hl 0 rfl) ?_
  refine lv_aload_n hx hb d_Do_init_5 rfl (lv_at hl 1 rfl) ?_
  refine dm_putF (ci := 8) (v := .ref r1) B hP hD hS 0 rfl rfl in_Do t_Do t_Do_ok n_Do 0 (by decide) k_242 rfl rfl rfl rfl (Nat.le_of_ble_eq_true rfl) d_Do_init_6 (fun H locs hP hD hS => ?_)
  have hP : va_P G.1 dm_cl [(a, .inr (8, [.ref r1, .int (0 : Int32)]))] H := hP
  have hD : va_D A [(a, .inr (8, [.ref r1, .int (0 : Int32)]))] := hD
  refine lv_aload_n hx hb d_Do_init_9 rfl (lv_at hl 0 rfl) ?_
  refine lv_iload_n hx hb d_Do_init_10 rfl (lv_at hl 2 rfl) ?_
  refine dm_putF (ci := 8) (v := .int x2) B hP hD hS 0 rfl rfl in_Do t_Do t_Do_ok n_Do 1 (by decide) k_243 rfl rfl rfl rfl (Nat.le_of_ble_eq_true rfl) d_Do_init_11 (fun H locs hP hD hS => ?_)
  have hP : va_P G.1 dm_cl [(a, .inr (8, [.ref r1, .int x2]))] H := hP
  have hD : va_D A [(a, .inr (8, [.ref r1, .int x2]))] := hD
  exact dm_retv B d_Do_init_14 (by decide) (by decide) hP hD hS ⟨rfl, rfl⟩
abbrev b_Ma_init : ByteArray := prog_6_method_1_code
abbrev y_Ma_init : MethodName := { cls := "DelayMachine$Machine", name := "<init>", desc := "()V" }
theorem d_Ma_init_0 : decode b_Ma_init 0 = .ok (.aload_n 0, 1) := by decide +kernel
theorem d_Ma_init_1 : decode b_Ma_init 1 = .ok (.invokespecial 3, 3) := by decide +kernel
theorem d_Ma_init_4 : decode b_Ma_init 4 = .ok (.aload_n 0, 1) := by decide +kernel
theorem d_Ma_init_5 : decode b_Ma_init 5 = .ok (.bipush (64), 2) := by decide +kernel
theorem d_Ma_init_7 : decode b_Ma_init 7 = .ok (.newarray .int, 2) := by decide +kernel
theorem d_Ma_init_9 : decode b_Ma_init 9 = .ok (.putfield 9, 3) := by decide +kernel
theorem d_Ma_init_12 : decode b_Ma_init 12 = .ok (.aload_n 0, 1) := by decide +kernel
theorem d_Ma_init_13 : decode b_Ma_init 13 = .ok (.bipush (9), 2) := by decide +kernel
theorem d_Ma_init_15 : decode b_Ma_init 15 = .ok (.anewarray 15, 3) := by decide +kernel
theorem d_Ma_init_18 : decode b_Ma_init 18 = .ok (.putfield 17, 3) := by decide +kernel
theorem d_Ma_init_21 : decode b_Ma_init 21 = .ok (.aload_n 0, 1) := by decide +kernel
theorem d_Ma_init_22 : decode b_Ma_init 22 = .ok (.new 21, 3) := by decide +kernel
theorem d_Ma_init_25 : decode b_Ma_init 25 = .ok (.dup, 1) := by decide +kernel
theorem d_Ma_init_26 : decode b_Ma_init 26 = .ok (.invokespecial 23, 3) := by decide +kernel
theorem d_Ma_init_29 : decode b_Ma_init 29 = .ok (.putfield 24, 3) := by decide +kernel
theorem d_Ma_init_32 : decode b_Ma_init 32 = .ok (.aload_n 0, 1) := by decide +kernel
theorem d_Ma_init_33 : decode b_Ma_init 33 = .ok (.new 28, 3) := by decide +kernel
theorem d_Ma_init_36 : decode b_Ma_init 36 = .ok (.dup, 1) := by decide +kernel
theorem d_Ma_init_37 : decode b_Ma_init 37 = .ok (.invokespecial 30, 3) := by decide +kernel
theorem d_Ma_init_40 : decode b_Ma_init 40 = .ok (.putfield 31, 3) := by decide +kernel
theorem d_Ma_init_43 : decode b_Ma_init 43 = .ok (.aload_n 0, 1) := by decide +kernel
theorem d_Ma_init_44 : decode b_Ma_init 44 = .ok (.bipush (16), 2) := by decide +kernel
theorem d_Ma_init_46 : decode b_Ma_init 46 = .ok (.anewarray 35, 3) := by decide +kernel
theorem d_Ma_init_49 : decode b_Ma_init 49 = .ok (.putfield 37, 3) := by decide +kernel
theorem d_Ma_init_52 : decode b_Ma_init 52 = .ok (.aload_n 0, 1) := by decide +kernel
theorem d_Ma_init_53 : decode b_Ma_init 53 = .ok (.bipush (16), 2) := by decide +kernel
theorem d_Ma_init_55 : decode b_Ma_init 55 = .ok (.anewarray 41, 3) := by decide +kernel
theorem d_Ma_init_58 : decode b_Ma_init 58 = .ok (.putfield 43, 3) := by decide +kernel
theorem d_Ma_init_61 : decode b_Ma_init 61 = .ok (.aload_n 0, 1) := by decide +kernel
theorem d_Ma_init_62 : decode b_Ma_init 62 = .ok (.new 47, 3) := by decide +kernel
theorem d_Ma_init_65 : decode b_Ma_init 65 = .ok (.dup, 1) := by decide +kernel
theorem d_Ma_init_66 : decode b_Ma_init 66 = .ok (.invokespecial 49, 3) := by decide +kernel
theorem d_Ma_init_69 : decode b_Ma_init 69 = .ok (.putfield 50, 3) := by decide +kernel
theorem d_Ma_init_72 : decode b_Ma_init 72 = .ok (.aload_n 0, 1) := by decide +kernel
theorem d_Ma_init_73 : decode b_Ma_init 73 = .ok (.new 47, 3) := by decide +kernel
theorem d_Ma_init_76 : decode b_Ma_init 76 = .ok (.dup, 1) := by decide +kernel
theorem d_Ma_init_77 : decode b_Ma_init 77 = .ok (.invokespecial 49, 3) := by decide +kernel
theorem d_Ma_init_80 : decode b_Ma_init 80 = .ok (.putfield 54, 3) := by decide +kernel
theorem d_Ma_init_83 : decode b_Ma_init 83 = .ok (.aload_n 0, 1) := by decide +kernel
theorem d_Ma_init_84 : decode b_Ma_init 84 = .ok (.iconst (-1), 1) := by decide +kernel
theorem d_Ma_init_85 : decode b_Ma_init 85 = .ok (.putfield 57, 3) := by decide +kernel
theorem d_Ma_init_88 : decode b_Ma_init 88 = .ok (.aload_n 0, 1) := by decide +kernel
theorem d_Ma_init_89 : decode b_Ma_init 89 = .ok (.iconst (-1), 1) := by decide +kernel
theorem d_Ma_init_90 : decode b_Ma_init 90 = .ok (.putfield 61, 3) := by decide +kernel
theorem d_Ma_init_93 : decode b_Ma_init 93 = .ok (.aload_n 0, 1) := by decide +kernel
theorem d_Ma_init_94 : decode b_Ma_init 94 = .ok (.bipush (60), 2) := by decide +kernel
theorem d_Ma_init_96 : decode b_Ma_init 96 = .ok (.newarray .short, 2) := by decide +kernel
theorem d_Ma_init_98 : decode b_Ma_init 98 = .ok (.putfield 64, 3) := by decide +kernel
theorem d_Ma_init_101 : decode b_Ma_init 101 = .ok (.aload_n 0, 1) := by decide +kernel
theorem d_Ma_init_102 : decode b_Ma_init 102 = .ok (.bipush (-6), 2) := by decide +kernel
theorem d_Ma_init_104 : decode b_Ma_init 104 = .ok (.putfield 68, 3) := by decide +kernel
theorem d_Ma_init_107 : decode b_Ma_init 107 = .ok (.return_, 1) := by decide +kernel
theorem hd_Ma_init : y_Ma_init.cls ≠ "java/lang/invoke/MethodHandle" ∧ y_Ma_init.cls ≠ "java/lang/invoke/VarHandle" ∧ (parseMethodDescriptor y_Ma_init.desc).map (fun d => d.parameters.length) = some 0 := by decide +kernel
abbrev rm_Ma_init : Room := { frames := 2, cells := 10, slots := 230, locals := 40 }
set_option maxHeartbeats 4000000 in
set_option maxRecDepth 100000 in
theorem c_Ma_init (l : Launch) (G : dm_G) (a : Nat) : dm_Ct l y_Ma_init b_Ma_init 1 none rm_Ma_init G [(a, .inr (1, [.null, .null, .null, .null, .null, .null, .null, .null, .int (0 : Int32), .int (0 : Int32), .int (0 : Int32), .int (0 : Int32), .int (0 : Int32), .int (0 : Int32), .int (0 : Int32), .int (0 : Int32), .int (0 : Int32), .int (0 : Int32), .null, .int (0 : Int32), .int (0 : Int32)]))] [.ref a] (fun ov w' => ∃ (q1 q2 q3 q4 q5 q6 q7 q8 q9 q10 : Nat), ov = none ∧ w' = [(a, .inr (1, [.ref q1, .ref q2, .ref q3, .ref q4, .ref q6, .ref q7, .ref q8, .ref q9, .int (0 : Int32), .int (0 : Int32), .int (0 : Int32), .int (0 : Int32), .int (0 : Int32), .int (0 : Int32), .int (0 : Int32), .int (-1 : Int32), .int (-1 : Int32), .int (0 : Int32), .ref q10, .int (0 : Int32), .int (-6 : Int32)])), (q1, .inl (G.2.1 0, 64, .inl (fun _ => 0))), (q2, .inl (G.2.1 3, 9, .inr (.inr (.inr (.inr (fun _ => none)))))), (q3, .inr (2, [.int (0 : Int32), .int (0 : Int32)])), (q4, .inr (3, [.ref q5, .int (0 : Int32), .int (0 : Int32), .int (0 : Int32), .int (0 : Int32), .int (0 : Int32), .int (0 : Int32)])), (q5, .inl (G.2.1 1, 48, .inl (fun _ => 0))), (q6, .inl (G.2.1 4, 16, .inr (.inr (.inr (.inr (fun _ => none)))))), (q7, .inl (G.2.1 5, 16, .inr (.inr (.inr (.inr (fun _ => none)))))), (q8, .inr (4, [.int (-1 : Int32), .int (-1 : Int32), .null, .null])), (q9, .inr (4, [.int (-1 : Int32), .int (-1 : Int32), .null, .null])), (q10, .inl (G.2.1 1, 60, .inl (fun _ => 0)))]) := by
  refine dm_Ct.of (by decide +kernel) (Nat.le_of_ble_eq_true rfl) ?_
  intro p e s m below meth c A ls B hl hP hD hS
  have hx := B.1
  have hb := B.2.1
  have hl : lv_has ls 1 [(0, .ref a)] := hl
  refine lv_aload_n hx hb d_Ma_init_0 rfl (lv_at hl 0 rfl) ?_
  refine dm_oi B k_37 k_30 k_31 hl.1 d_Ma_init_1 (by decide) (Nat.le_of_ble_eq_true rfl) ?_
  refine lv_aload_n hx hb d_Ma_init_4 rfl (lv_at hl 0 rfl) ?_
  refine lv_bipush (v := (64 : Int32)) hx hb d_Ma_init_5 (by decide) ?_
  refine dm_newa (atype := .int) (a0 := (64, .inl (fun _ => 0))) B k_55 rfl 0 rfl hP hD hS (fun _ => rfl) (by decide) (by decide) (by decide) (by decide) (by decide) d_Ma_init_7 (fun q1 H hP hD hS => ?_)
  have hP : va_P G.1 dm_cl [(a, .inr (1, [.null, .null, .null, .null, .null, .null, .null, .null, .int (0 : Int32), .int (0 : Int32), .int (0 : Int32), .int (0 : Int32), .int (0 : Int32), .int (0 : Int32), .int (0 : Int32), .int (0 : Int32), .int (0 : Int32), .int (0 : Int32), .null, .int (0 : Int32), .int (0 : Int32)])), (q1, .inl (G.2.1 0, 64, .inl (fun _ => 0)))] H := hP
  have hD : va_D A [(a, .inr (1, [.null, .null, .null, .null, .null, .null, .null, .null, .int (0 : Int32), .int (0 : Int32), .int (0 : Int32), .int (0 : Int32), .int (0 : Int32), .int (0 : Int32), .int (0 : Int32), .int (0 : Int32), .int (0 : Int32), .int (0 : Int32), .null, .int (0 : Int32), .int (0 : Int32)])), (q1, .inl (G.2.1 0, 64, .inl (fun _ => 0)))] := hD
  refine dm_putF (ci := 1) (v := .ref q1) B hP hD hS 0 rfl rfl in_Ma t_Ma t_Ma_ok n_Ma 0 (by decide) k_113 rfl rfl rfl rfl (Nat.le_of_ble_eq_true rfl) d_Ma_init_9 (fun H locs hP hD hS => ?_)
  have hP : va_P G.1 dm_cl [(a, .inr (1, [.ref q1, .null, .null, .null, .null, .null, .null, .null, .int (0 : Int32), .int (0 : Int32), .int (0 : Int32), .int (0 : Int32), .int (0 : Int32), .int (0 : Int32), .int (0 : Int32), .int (0 : Int32), .int (0 : Int32), .int (0 : Int32), .null, .int (0 : Int32), .int (0 : Int32)])), (q1, .inl (G.2.1 0, 64, .inl (fun _ => 0)))] H := hP
  have hD : va_D A [(a, .inr (1, [.ref q1, .null, .null, .null, .null, .null, .null, .null, .int (0 : Int32), .int (0 : Int32), .int (0 : Int32), .int (0 : Int32), .int (0 : Int32), .int (0 : Int32), .int (0 : Int32), .int (0 : Int32), .int (0 : Int32), .int (0 : Int32), .null, .int (0 : Int32), .int (0 : Int32)])), (q1, .inl (G.2.1 0, 64, .inl (fun _ => 0)))] := hD
  refine lv_aload_n hx hb d_Ma_init_12 rfl (lv_at hl 0 rfl) ?_
  refine lv_bipush (v := (9 : Int32)) hx hb d_Ma_init_13 (by decide) ?_
  refine dm_newq (E := "DelayMachine$Line") (N' := 9) B k_38 k_39 3 rfl hP hD hS (by decide) (by decide) (by decide) (by decide) (by decide) d_Ma_init_15 (fun q2 H hP hD hS => ?_)
  have hP : va_P G.1 dm_cl [(a, .inr (1, [.ref q1, .null, .null, .null, .null, .null, .null, .null, .int (0 : Int32), .int (0 : Int32), .int (0 : Int32), .int (0 : Int32), .int (0 : Int32), .int (0 : Int32), .int (0 : Int32), .int (0 : Int32), .int (0 : Int32), .int (0 : Int32), .null, .int (0 : Int32), .int (0 : Int32)])), (q1, .inl (G.2.1 0, 64, .inl (fun _ => 0))), (q2, .inl (G.2.1 3, 9, .inr (.inr (.inr (.inr (fun _ => none))))))] H := hP
  have hD : va_D A [(a, .inr (1, [.ref q1, .null, .null, .null, .null, .null, .null, .null, .int (0 : Int32), .int (0 : Int32), .int (0 : Int32), .int (0 : Int32), .int (0 : Int32), .int (0 : Int32), .int (0 : Int32), .int (0 : Int32), .int (0 : Int32), .int (0 : Int32), .null, .int (0 : Int32), .int (0 : Int32)])), (q1, .inl (G.2.1 0, 64, .inl (fun _ => 0))), (q2, .inl (G.2.1 3, 9, .inr (.inr (.inr (.inr (fun _ => none))))))] := hD
  refine dm_putF (ci := 1) (v := .ref q2) B hP hD hS 0 rfl rfl in_Ma t_Ma t_Ma_ok n_Ma 1 (by decide) k_115 rfl rfl rfl rfl (Nat.le_of_ble_eq_true rfl) d_Ma_init_18 (fun H locs hP hD hS => ?_)
  have hP : va_P G.1 dm_cl [(a, .inr (1, [.ref q1, .ref q2, .null, .null, .null, .null, .null, .null, .int (0 : Int32), .int (0 : Int32), .int (0 : Int32), .int (0 : Int32), .int (0 : Int32), .int (0 : Int32), .int (0 : Int32), .int (0 : Int32), .int (0 : Int32), .int (0 : Int32), .null, .int (0 : Int32), .int (0 : Int32)])), (q1, .inl (G.2.1 0, 64, .inl (fun _ => 0))), (q2, .inl (G.2.1 3, 9, .inr (.inr (.inr (.inr (fun _ => none))))))] H := hP
  have hD : va_D A [(a, .inr (1, [.ref q1, .ref q2, .null, .null, .null, .null, .null, .null, .int (0 : Int32), .int (0 : Int32), .int (0 : Int32), .int (0 : Int32), .int (0 : Int32), .int (0 : Int32), .int (0 : Int32), .int (0 : Int32), .int (0 : Int32), .int (0 : Int32), .null, .int (0 : Int32), .int (0 : Int32)])), (q1, .inl (G.2.1 0, 64, .inl (fun _ => 0))), (q2, .inl (G.2.1 3, 9, .inr (.inr (.inr (.inr (fun _ => none))))))] := hD
  refine lv_aload_n hx hb d_Ma_init_21 rfl (lv_at hl 0 rfl) ?_
  refine dm_new (ci := 2) (fs := [.int (0 : Int32), .int (0 : Int32)]) B rfl in_Mu t_Mu t_Mu_ok k_40 k_41 k_3 hP hD hS (by decide +kernel) (by decide) (by decide) d_Ma_init_22 (fun q3 H hP hD hS => ?_)
  have hP : va_P G.1 dm_cl [(a, .inr (1, [.ref q1, .ref q2, .null, .null, .null, .null, .null, .null, .int (0 : Int32), .int (0 : Int32), .int (0 : Int32), .int (0 : Int32), .int (0 : Int32), .int (0 : Int32), .int (0 : Int32), .int (0 : Int32), .int (0 : Int32), .int (0 : Int32), .null, .int (0 : Int32), .int (0 : Int32)])), (q1, .inl (G.2.1 0, 64, .inl (fun _ => 0))), (q2, .inl (G.2.1 3, 9, .inr (.inr (.inr (.inr (fun _ => none)))))), (q3, .inr (2, [.int (0 : Int32), .int (0 : Int32)]))] H := hP
  have hD : va_D A [(a, .inr (1, [.ref q1, .ref q2, .null, .null, .null, .null, .null, .null, .int (0 : Int32), .int (0 : Int32), .int (0 : Int32), .int (0 : Int32), .int (0 : Int32), .int (0 : Int32), .int (0 : Int32), .int (0 : Int32), .int (0 : Int32), .int (0 : Int32), .null, .int (0 : Int32), .int (0 : Int32)])), (q1, .inl (G.2.1 0, 64, .inl (fun _ => 0))), (q2, .inl (G.2.1 3, 9, .inr (.inr (.inr (.inr (fun _ => none)))))), (q3, .inr (2, [.int (0 : Int32), .int (0 : Int32)]))] := hD
  refine lv_dup hx hb d_Ma_init_25 rfl ?_
  refine dm_callINp (wr := [(a, .inr (1, [.ref q1, .ref q2, .null, .null, .null, .null, .null, .null, .int (0 : Int32), .int (0 : Int32), .int (0 : Int32), .int (0 : Int32), .int (0 : Int32), .int (0 : Int32), .int (0 : Int32), .int (0 : Int32), .int (0 : Int32), .int (0 : Int32), .null, .int (0 : Int32), .int (0 : Int32)])), (q1, .inl (G.2.1 0, 64, .inl (fun _ => 0))), (q2, .inl (G.2.1 3, 9, .inr (.inr (.inr (.inr (fun _ => none))))))]) B [] (c_Mu_init l G q3) k_42 k_43 k_3 k_44 rfl hd_Mu_init rfl ⟨by decide, by decide⟩ hP hD hS (List.Perm.refl _) hl.1 (rest := [.ref q3, .ref a]) rfl (Nat.le_of_ble_eq_true rfl) d_Ma_init_26 ⟨by decide, by decide⟩ (fun ov w' H locs hq hP hD hS => ?_)
  obtain ⟨rfl, rfl⟩ := hq
  have hP : va_P G.1 dm_cl [(a, .inr (1, [.ref q1, .ref q2, .null, .null, .null, .null, .null, .null, .int (0 : Int32), .int (0 : Int32), .int (0 : Int32), .int (0 : Int32), .int (0 : Int32), .int (0 : Int32), .int (0 : Int32), .int (0 : Int32), .int (0 : Int32), .int (0 : Int32), .null, .int (0 : Int32), .int (0 : Int32)])), (q1, .inl (G.2.1 0, 64, .inl (fun _ => 0))), (q2, .inl (G.2.1 3, 9, .inr (.inr (.inr (.inr (fun _ => none)))))), (q3, .inr (2, [.int (0 : Int32), .int (0 : Int32)]))] H := hP
  have hD : va_D A [(a, .inr (1, [.ref q1, .ref q2, .null, .null, .null, .null, .null, .null, .int (0 : Int32), .int (0 : Int32), .int (0 : Int32), .int (0 : Int32), .int (0 : Int32), .int (0 : Int32), .int (0 : Int32), .int (0 : Int32), .int (0 : Int32), .int (0 : Int32), .null, .int (0 : Int32), .int (0 : Int32)])), (q1, .inl (G.2.1 0, 64, .inl (fun _ => 0))), (q2, .inl (G.2.1 3, 9, .inr (.inr (.inr (.inr (fun _ => none)))))), (q3, .inr (2, [.int (0 : Int32), .int (0 : Int32)]))] := hD
  refine W.eq (g2 := F0 m 29 ls [.ref q3, .ref a]) rfl ?_
  refine dm_putF (ci := 1) (v := .ref q3) B hP hD hS 0 rfl rfl in_Ma t_Ma t_Ma_ok n_Ma 2 (by decide) k_119 rfl rfl rfl rfl (Nat.le_of_ble_eq_true rfl) d_Ma_init_29 (fun H locs hP hD hS => ?_)
  have hP : va_P G.1 dm_cl [(a, .inr (1, [.ref q1, .ref q2, .ref q3, .null, .null, .null, .null, .null, .int (0 : Int32), .int (0 : Int32), .int (0 : Int32), .int (0 : Int32), .int (0 : Int32), .int (0 : Int32), .int (0 : Int32), .int (0 : Int32), .int (0 : Int32), .int (0 : Int32), .null, .int (0 : Int32), .int (0 : Int32)])), (q1, .inl (G.2.1 0, 64, .inl (fun _ => 0))), (q2, .inl (G.2.1 3, 9, .inr (.inr (.inr (.inr (fun _ => none)))))), (q3, .inr (2, [.int (0 : Int32), .int (0 : Int32)]))] H := hP
  have hD : va_D A [(a, .inr (1, [.ref q1, .ref q2, .ref q3, .null, .null, .null, .null, .null, .int (0 : Int32), .int (0 : Int32), .int (0 : Int32), .int (0 : Int32), .int (0 : Int32), .int (0 : Int32), .int (0 : Int32), .int (0 : Int32), .int (0 : Int32), .int (0 : Int32), .null, .int (0 : Int32), .int (0 : Int32)])), (q1, .inl (G.2.1 0, 64, .inl (fun _ => 0))), (q2, .inl (G.2.1 3, 9, .inr (.inr (.inr (.inr (fun _ => none)))))), (q3, .inr (2, [.int (0 : Int32), .int (0 : Int32)]))] := hD
  refine lv_aload_n hx hb d_Ma_init_32 rfl (lv_at hl 0 rfl) ?_
  refine dm_new (ci := 3) (fs := [.null, .int (0 : Int32), .int (0 : Int32), .int (0 : Int32), .int (0 : Int32), .int (0 : Int32), .int (0 : Int32)]) B rfl in_Re t_Re t_Re_ok k_56 k_57 k_4 hP hD hS (by decide +kernel) (by decide) (by decide) d_Ma_init_33 (fun q4 H hP hD hS => ?_)
  have hP : va_P G.1 dm_cl [(a, .inr (1, [.ref q1, .ref q2, .ref q3, .null, .null, .null, .null, .null, .int (0 : Int32), .int (0 : Int32), .int (0 : Int32), .int (0 : Int32), .int (0 : Int32), .int (0 : Int32), .int (0 : Int32), .int (0 : Int32), .int (0 : Int32), .int (0 : Int32), .null, .int (0 : Int32), .int (0 : Int32)])), (q1, .inl (G.2.1 0, 64, .inl (fun _ => 0))), (q2, .inl (G.2.1 3, 9, .inr (.inr (.inr (.inr (fun _ => none)))))), (q3, .inr (2, [.int (0 : Int32), .int (0 : Int32)])), (q4, .inr (3, [.null, .int (0 : Int32), .int (0 : Int32), .int (0 : Int32), .int (0 : Int32), .int (0 : Int32), .int (0 : Int32)]))] H := hP
  have hD : va_D A [(a, .inr (1, [.ref q1, .ref q2, .ref q3, .null, .null, .null, .null, .null, .int (0 : Int32), .int (0 : Int32), .int (0 : Int32), .int (0 : Int32), .int (0 : Int32), .int (0 : Int32), .int (0 : Int32), .int (0 : Int32), .int (0 : Int32), .int (0 : Int32), .null, .int (0 : Int32), .int (0 : Int32)])), (q1, .inl (G.2.1 0, 64, .inl (fun _ => 0))), (q2, .inl (G.2.1 3, 9, .inr (.inr (.inr (.inr (fun _ => none)))))), (q3, .inr (2, [.int (0 : Int32), .int (0 : Int32)])), (q4, .inr (3, [.null, .int (0 : Int32), .int (0 : Int32), .int (0 : Int32), .int (0 : Int32), .int (0 : Int32), .int (0 : Int32)]))] := hD
  refine lv_dup hx hb d_Ma_init_36 rfl ?_
  refine dm_callINp (wr := [(a, .inr (1, [.ref q1, .ref q2, .ref q3, .null, .null, .null, .null, .null, .int (0 : Int32), .int (0 : Int32), .int (0 : Int32), .int (0 : Int32), .int (0 : Int32), .int (0 : Int32), .int (0 : Int32), .int (0 : Int32), .int (0 : Int32), .int (0 : Int32), .null, .int (0 : Int32), .int (0 : Int32)])), (q1, .inl (G.2.1 0, 64, .inl (fun _ => 0))), (q2, .inl (G.2.1 3, 9, .inr (.inr (.inr (.inr (fun _ => none)))))), (q3, .inr (2, [.int (0 : Int32), .int (0 : Int32)]))]) B [] (c_Re_init l G q4) k_58 k_59 k_4 k_60 rfl hd_Re_init rfl ⟨by decide, by decide⟩ hP hD hS (List.Perm.refl _) hl.1 (rest := [.ref q4, .ref a]) rfl (Nat.le_of_ble_eq_true rfl) d_Ma_init_37 ⟨by decide, by decide⟩ (fun ov w' H locs hq hP hD hS => ?_)
  obtain ⟨q5, rfl, rfl⟩ := hq
  have hP : va_P G.1 dm_cl [(a, .inr (1, [.ref q1, .ref q2, .ref q3, .null, .null, .null, .null, .null, .int (0 : Int32), .int (0 : Int32), .int (0 : Int32), .int (0 : Int32), .int (0 : Int32), .int (0 : Int32), .int (0 : Int32), .int (0 : Int32), .int (0 : Int32), .int (0 : Int32), .null, .int (0 : Int32), .int (0 : Int32)])), (q1, .inl (G.2.1 0, 64, .inl (fun _ => 0))), (q2, .inl (G.2.1 3, 9, .inr (.inr (.inr (.inr (fun _ => none)))))), (q3, .inr (2, [.int (0 : Int32), .int (0 : Int32)])), (q4, .inr (3, [.ref q5, .int (0 : Int32), .int (0 : Int32), .int (0 : Int32), .int (0 : Int32), .int (0 : Int32), .int (0 : Int32)])), (q5, .inl (G.2.1 1, 48, .inl (fun _ => 0)))] H := hP
  have hD : va_D A [(a, .inr (1, [.ref q1, .ref q2, .ref q3, .null, .null, .null, .null, .null, .int (0 : Int32), .int (0 : Int32), .int (0 : Int32), .int (0 : Int32), .int (0 : Int32), .int (0 : Int32), .int (0 : Int32), .int (0 : Int32), .int (0 : Int32), .int (0 : Int32), .null, .int (0 : Int32), .int (0 : Int32)])), (q1, .inl (G.2.1 0, 64, .inl (fun _ => 0))), (q2, .inl (G.2.1 3, 9, .inr (.inr (.inr (.inr (fun _ => none)))))), (q3, .inr (2, [.int (0 : Int32), .int (0 : Int32)])), (q4, .inr (3, [.ref q5, .int (0 : Int32), .int (0 : Int32), .int (0 : Int32), .int (0 : Int32), .int (0 : Int32), .int (0 : Int32)])), (q5, .inl (G.2.1 1, 48, .inl (fun _ => 0)))] := hD
  refine W.eq (g2 := F0 m 40 ls [.ref q4, .ref a]) rfl ?_
  refine dm_putF (ci := 1) (v := .ref q4) B hP hD hS 0 rfl rfl in_Ma t_Ma t_Ma_ok n_Ma 3 (by decide) k_122 rfl rfl rfl rfl (Nat.le_of_ble_eq_true rfl) d_Ma_init_40 (fun H locs hP hD hS => ?_)
  have hP : va_P G.1 dm_cl [(a, .inr (1, [.ref q1, .ref q2, .ref q3, .ref q4, .null, .null, .null, .null, .int (0 : Int32), .int (0 : Int32), .int (0 : Int32), .int (0 : Int32), .int (0 : Int32), .int (0 : Int32), .int (0 : Int32), .int (0 : Int32), .int (0 : Int32), .int (0 : Int32), .null, .int (0 : Int32), .int (0 : Int32)])), (q1, .inl (G.2.1 0, 64, .inl (fun _ => 0))), (q2, .inl (G.2.1 3, 9, .inr (.inr (.inr (.inr (fun _ => none)))))), (q3, .inr (2, [.int (0 : Int32), .int (0 : Int32)])), (q4, .inr (3, [.ref q5, .int (0 : Int32), .int (0 : Int32), .int (0 : Int32), .int (0 : Int32), .int (0 : Int32), .int (0 : Int32)])), (q5, .inl (G.2.1 1, 48, .inl (fun _ => 0)))] H := hP
  have hD : va_D A [(a, .inr (1, [.ref q1, .ref q2, .ref q3, .ref q4, .null, .null, .null, .null, .int (0 : Int32), .int (0 : Int32), .int (0 : Int32), .int (0 : Int32), .int (0 : Int32), .int (0 : Int32), .int (0 : Int32), .int (0 : Int32), .int (0 : Int32), .int (0 : Int32), .null, .int (0 : Int32), .int (0 : Int32)])), (q1, .inl (G.2.1 0, 64, .inl (fun _ => 0))), (q2, .inl (G.2.1 3, 9, .inr (.inr (.inr (.inr (fun _ => none)))))), (q3, .inr (2, [.int (0 : Int32), .int (0 : Int32)])), (q4, .inr (3, [.ref q5, .int (0 : Int32), .int (0 : Int32), .int (0 : Int32), .int (0 : Int32), .int (0 : Int32), .int (0 : Int32)])), (q5, .inl (G.2.1 1, 48, .inl (fun _ => 0)))] := hD
  refine lv_aload_n hx hb d_Ma_init_43 rfl (lv_at hl 0 rfl) ?_
  refine lv_bipush (v := (16 : Int32)) hx hb d_Ma_init_44 (by decide) ?_
  refine dm_newq (E := "DelayMachine$Source") (N' := 16) B k_88 k_89 4 rfl hP hD hS (by decide) (by decide) (by decide) (by decide) (by decide) d_Ma_init_46 (fun q6 H hP hD hS => ?_)
  have hP : va_P G.1 dm_cl [(a, .inr (1, [.ref q1, .ref q2, .ref q3, .ref q4, .null, .null, .null, .null, .int (0 : Int32), .int (0 : Int32), .int (0 : Int32), .int (0 : Int32), .int (0 : Int32), .int (0 : Int32), .int (0 : Int32), .int (0 : Int32), .int (0 : Int32), .int (0 : Int32), .null, .int (0 : Int32), .int (0 : Int32)])), (q1, .inl (G.2.1 0, 64, .inl (fun _ => 0))), (q2, .inl (G.2.1 3, 9, .inr (.inr (.inr (.inr (fun _ => none)))))), (q3, .inr (2, [.int (0 : Int32), .int (0 : Int32)])), (q4, .inr (3, [.ref q5, .int (0 : Int32), .int (0 : Int32), .int (0 : Int32), .int (0 : Int32), .int (0 : Int32), .int (0 : Int32)])), (q5, .inl (G.2.1 1, 48, .inl (fun _ => 0))), (q6, .inl (G.2.1 4, 16, .inr (.inr (.inr (.inr (fun _ => none))))))] H := hP
  have hD : va_D A [(a, .inr (1, [.ref q1, .ref q2, .ref q3, .ref q4, .null, .null, .null, .null, .int (0 : Int32), .int (0 : Int32), .int (0 : Int32), .int (0 : Int32), .int (0 : Int32), .int (0 : Int32), .int (0 : Int32), .int (0 : Int32), .int (0 : Int32), .int (0 : Int32), .null, .int (0 : Int32), .int (0 : Int32)])), (q1, .inl (G.2.1 0, 64, .inl (fun _ => 0))), (q2, .inl (G.2.1 3, 9, .inr (.inr (.inr (.inr (fun _ => none)))))), (q3, .inr (2, [.int (0 : Int32), .int (0 : Int32)])), (q4, .inr (3, [.ref q5, .int (0 : Int32), .int (0 : Int32), .int (0 : Int32), .int (0 : Int32), .int (0 : Int32), .int (0 : Int32)])), (q5, .inl (G.2.1 1, 48, .inl (fun _ => 0))), (q6, .inl (G.2.1 4, 16, .inr (.inr (.inr (.inr (fun _ => none))))))] := hD
  refine dm_putF (ci := 1) (v := .ref q6) B hP hD hS 0 rfl rfl in_Ma t_Ma t_Ma_ok n_Ma 4 (by decide) k_126 rfl rfl rfl rfl (Nat.le_of_ble_eq_true rfl) d_Ma_init_49 (fun H locs hP hD hS => ?_)
  have hP : va_P G.1 dm_cl [(a, .inr (1, [.ref q1, .ref q2, .ref q3, .ref q4, .ref q6, .null, .null, .null, .int (0 : Int32), .int (0 : Int32), .int (0 : Int32), .int (0 : Int32), .int (0 : Int32), .int (0 : Int32), .int (0 : Int32), .int (0 : Int32), .int (0 : Int32), .int (0 : Int32), .null, .int (0 : Int32), .int (0 : Int32)])), (q1, .inl (G.2.1 0, 64, .inl (fun _ => 0))), (q2, .inl (G.2.1 3, 9, .inr (.inr (.inr (.inr (fun _ => none)))))), (q3, .inr (2, [.int (0 : Int32), .int (0 : Int32)])), (q4, .inr (3, [.ref q5, .int (0 : Int32), .int (0 : Int32), .int (0 : Int32), .int (0 : Int32), .int (0 : Int32), .int (0 : Int32)])), (q5, .inl (G.2.1 1, 48, .inl (fun _ => 0))), (q6, .inl (G.2.1 4, 16, .inr (.inr (.inr (.inr (fun _ => none))))))] H := hP
  have hD : va_D A [(a, .inr (1, [.ref q1, .ref q2, .ref q3, .ref q4, .ref q6, .null, .null, .null, .int (0 : Int32), .int (0 : Int32), .int (0 : Int32), .int (0 : Int32), .int (0 : Int32), .int (0 : Int32), .int (0 : Int32), .int (0 : Int32), .int (0 : Int32), .int (0 : Int32), .null, .int (0 : Int32), .int (0 : Int32)])), (q1, .inl (G.2.1 0, 64, .inl (fun _ => 0))), (q2, .inl (G.2.1 3, 9, .inr (.inr (.inr (.inr (fun _ => none)))))), (q3, .inr (2, [.int (0 : Int32), .int (0 : Int32)])), (q4, .inr (3, [.ref q5, .int (0 : Int32), .int (0 : Int32), .int (0 : Int32), .int (0 : Int32), .int (0 : Int32), .int (0 : Int32)])), (q5, .inl (G.2.1 1, 48, .inl (fun _ => 0))), (q6, .inl (G.2.1 4, 16, .inr (.inr (.inr (.inr (fun _ => none))))))] := hD
  refine lv_aload_n hx hb d_Ma_init_52 rfl (lv_at hl 0 rfl) ?_
  refine lv_bipush (v := (16 : Int32)) hx hb d_Ma_init_53 (by decide) ?_
  refine dm_newq (E := "DelayMachine$Destination") (N' := 16) B k_90 k_91 5 rfl hP hD hS (by decide) (by decide) (by decide) (by decide) (by decide) d_Ma_init_55 (fun q7 H hP hD hS => ?_)
  have hP : va_P G.1 dm_cl [(a, .inr (1, [.ref q1, .ref q2, .ref q3, .ref q4, .ref q6, .null, .null, .null, .int (0 : Int32), .int (0 : Int32), .int (0 : Int32), .int (0 : Int32), .int (0 : Int32), .int (0 : Int32), .int (0 : Int32), .int (0 : Int32), .int (0 : Int32), .int (0 : Int32), .null, .int (0 : Int32), .int (0 : Int32)])), (q1, .inl (G.2.1 0, 64, .inl (fun _ => 0))), (q2, .inl (G.2.1 3, 9, .inr (.inr (.inr (.inr (fun _ => none)))))), (q3, .inr (2, [.int (0 : Int32), .int (0 : Int32)])), (q4, .inr (3, [.ref q5, .int (0 : Int32), .int (0 : Int32), .int (0 : Int32), .int (0 : Int32), .int (0 : Int32), .int (0 : Int32)])), (q5, .inl (G.2.1 1, 48, .inl (fun _ => 0))), (q6, .inl (G.2.1 4, 16, .inr (.inr (.inr (.inr (fun _ => none)))))), (q7, .inl (G.2.1 5, 16, .inr (.inr (.inr (.inr (fun _ => none))))))] H := hP
  have hD : va_D A [(a, .inr (1, [.ref q1, .ref q2, .ref q3, .ref q4, .ref q6, .null, .null, .null, .int (0 : Int32), .int (0 : Int32), .int (0 : Int32), .int (0 : Int32), .int (0 : Int32), .int (0 : Int32), .int (0 : Int32), .int (0 : Int32), .int (0 : Int32), .int (0 : Int32), .null, .int (0 : Int32), .int (0 : Int32)])), (q1, .inl (G.2.1 0, 64, .inl (fun _ => 0))), (q2, .inl (G.2.1 3, 9, .inr (.inr (.inr (.inr (fun _ => none)))))), (q3, .inr (2, [.int (0 : Int32), .int (0 : Int32)])), (q4, .inr (3, [.ref q5, .int (0 : Int32), .int (0 : Int32), .int (0 : Int32), .int (0 : Int32), .int (0 : Int32), .int (0 : Int32)])), (q5, .inl (G.2.1 1, 48, .inl (fun _ => 0))), (q6, .inl (G.2.1 4, 16, .inr (.inr (.inr (.inr (fun _ => none)))))), (q7, .inl (G.2.1 5, 16, .inr (.inr (.inr (.inr (fun _ => none))))))] := hD
  refine dm_putF (ci := 1) (v := .ref q7) B hP hD hS 0 rfl rfl in_Ma t_Ma t_Ma_ok n_Ma 5 (by decide) k_127 rfl rfl rfl rfl (Nat.le_of_ble_eq_true rfl) d_Ma_init_58 (fun H locs hP hD hS => ?_)
  have hP : va_P G.1 dm_cl [(a, .inr (1, [.ref q1, .ref q2, .ref q3, .ref q4, .ref q6, .ref q7, .null, .null, .int (0 : Int32), .int (0 : Int32), .int (0 : Int32), .int (0 : Int32), .int (0 : Int32), .int (0 : Int32), .int (0 : Int32), .int (0 : Int32), .int (0 : Int32), .int (0 : Int32), .null, .int (0 : Int32), .int (0 : Int32)])), (q1, .inl (G.2.1 0, 64, .inl (fun _ => 0))), (q2, .inl (G.2.1 3, 9, .inr (.inr (.inr (.inr (fun _ => none)))))), (q3, .inr (2, [.int (0 : Int32), .int (0 : Int32)])), (q4, .inr (3, [.ref q5, .int (0 : Int32), .int (0 : Int32), .int (0 : Int32), .int (0 : Int32), .int (0 : Int32), .int (0 : Int32)])), (q5, .inl (G.2.1 1, 48, .inl (fun _ => 0))), (q6, .inl (G.2.1 4, 16, .inr (.inr (.inr (.inr (fun _ => none)))))), (q7, .inl (G.2.1 5, 16, .inr (.inr (.inr (.inr (fun _ => none))))))] H := hP
  have hD : va_D A [(a, .inr (1, [.ref q1, .ref q2, .ref q3, .ref q4, .ref q6, .ref q7, .null, .null, .int (0 : Int32), .int (0 : Int32), .int (0 : Int32), .int (0 : Int32), .int (0 : Int32), .int (0 : Int32), .int (0 : Int32), .int (0 : Int32), .int (0 : Int32), .int (0 : Int32), .null, .int (0 : Int32), .int (0 : Int32)])), (q1, .inl (G.2.1 0, 64, .inl (fun _ => 0))), (q2, .inl (G.2.1 3, 9, .inr (.inr (.inr (.inr (fun _ => none)))))), (q3, .inr (2, [.int (0 : Int32), .int (0 : Int32)])), (q4, .inr (3, [.ref q5, .int (0 : Int32), .int (0 : Int32), .int (0 : Int32), .int (0 : Int32), .int (0 : Int32), .int (0 : Int32)])), (q5, .inl (G.2.1 1, 48, .inl (fun _ => 0))), (q6, .inl (G.2.1 4, 16, .inr (.inr (.inr (.inr (fun _ => none)))))), (q7, .inl (G.2.1 5, 16, .inr (.inr (.inr (.inr (fun _ => none))))))] := hD
  refine lv_aload_n hx hb d_Ma_init_61 rfl (lv_at hl 0 rfl) ?_
  refine dm_new (ci := 4) (fs := [.int (0 : Int32), .int (0 : Int32), .null, .null]) B rfl in_Wi t_Wi t_Wi_ok k_92 k_93 k_5 hP hD hS (by decide +kernel) (by decide) (by decide) d_Ma_init_62 (fun q8 H hP hD hS => ?_)
  have hP : va_P G.1 dm_cl [(a, .inr (1, [.ref q1, .ref q2, .ref q3, .ref q4, .ref q6, .ref q7, .null, .null, .int (0 : Int32), .int (0 : Int32), .int (0 : Int32), .int (0 : Int32), .int (0 : Int32), .int (0 : Int32), .int (0 : Int32), .int (0 : Int32), .int (0 : Int32), .int (0 : Int32), .null, .int (0 : Int32), .int (0 : Int32)])), (q1, .inl (G.2.1 0, 64, .inl (fun _ => 0))), (q2, .inl (G.2.1 3, 9, .inr (.inr (.inr (.inr (fun _ => none)))))), (q3, .inr (2, [.int (0 : Int32), .int (0 : Int32)])), (q4, .inr (3, [.ref q5, .int (0 : Int32), .int (0 : Int32), .int (0 : Int32), .int (0 : Int32), .int (0 : Int32), .int (0 : Int32)])), (q5, .inl (G.2.1 1, 48, .inl (fun _ => 0))), (q6, .inl (G.2.1 4, 16, .inr (.inr (.inr (.inr (fun _ => none)))))), (q7, .inl (G.2.1 5, 16, .inr (.inr (.inr (.inr (fun _ => none)))))), (q8, .inr (4, [.int (0 : Int32), .int (0 : Int32), .null, .null]))] H := hP
  have hD : va_D A [(a, .inr (1, [.ref q1, .ref q2, .ref q3, .ref q4, .ref q6, .ref q7, .null, .null, .int (0 : Int32), .int (0 : Int32), .int (0 : Int32), .int (0 : Int32), .int (0 : Int32), .int (0 : Int32), .int (0 : Int32), .int (0 : Int32), .int (0 : Int32), .int (0 : Int32), .null, .int (0 : Int32), .int (0 : Int32)])), (q1, .inl (G.2.1 0, 64, .inl (fun _ => 0))), (q2, .inl (G.2.1 3, 9, .inr (.inr (.inr (.inr (fun _ => none)))))), (q3, .inr (2, [.int (0 : Int32), .int (0 : Int32)])), (q4, .inr (3, [.ref q5, .int (0 : Int32), .int (0 : Int32), .int (0 : Int32), .int (0 : Int32), .int (0 : Int32), .int (0 : Int32)])), (q5, .inl (G.2.1 1, 48, .inl (fun _ => 0))), (q6, .inl (G.2.1 4, 16, .inr (.inr (.inr (.inr (fun _ => none)))))), (q7, .inl (G.2.1 5, 16, .inr (.inr (.inr (.inr (fun _ => none)))))), (q8, .inr (4, [.int (0 : Int32), .int (0 : Int32), .null, .null]))] := hD
  refine lv_dup hx hb d_Ma_init_65 rfl ?_
  refine dm_callINp (wr := [(a, .inr (1, [.ref q1, .ref q2, .ref q3, .ref q4, .ref q6, .ref q7, .null, .null, .int (0 : Int32), .int (0 : Int32), .int (0 : Int32), .int (0 : Int32), .int (0 : Int32), .int (0 : Int32), .int (0 : Int32), .int (0 : Int32), .int (0 : Int32), .int (0 : Int32), .null, .int (0 : Int32), .int (0 : Int32)])), (q1, .inl (G.2.1 0, 64, .inl (fun _ => 0))), (q2, .inl (G.2.1 3, 9, .inr (.inr (.inr (.inr (fun _ => none)))))), (q3, .inr (2, [.int (0 : Int32), .int (0 : Int32)])), (q4, .inr (3, [.ref q5, .int (0 : Int32), .int (0 : Int32), .int (0 : Int32), .int (0 : Int32), .int (0 : Int32), .int (0 : Int32)])), (q5, .inl (G.2.1 1, 48, .inl (fun _ => 0))), (q6, .inl (G.2.1 4, 16, .inr (.inr (.inr (.inr (fun _ => none)))))), (q7, .inl (G.2.1 5, 16, .inr (.inr (.inr (.inr (fun _ => none))))))]) B [] (c_Wi_init l G q8) k_94 k_95 k_5 k_96 rfl hd_Wi_init rfl ⟨by decide, by decide⟩ hP hD hS (List.Perm.refl _) hl.1 (rest := [.ref q8, .ref a]) rfl (Nat.le_of_ble_eq_true rfl) d_Ma_init_66 ⟨by decide, by decide⟩ (fun ov w' H locs hq hP hD hS => ?_)
  obtain ⟨rfl, rfl⟩ := hq
  have hP : va_P G.1 dm_cl [(a, .inr (1, [.ref q1, .ref q2, .ref q3, .ref q4, .ref q6, .ref q7, .null, .null, .int (0 : Int32), .int (0 : Int32), .int (0 : Int32), .int (0 : Int32), .int (0 : Int32), .int (0 : Int32), .int (0 : Int32), .int (0 : Int32), .int (0 : Int32), .int (0 : Int32), .null, .int (0 : Int32), .int (0 : Int32)])), (q1, .inl (G.2.1 0, 64, .inl (fun _ => 0))), (q2, .inl (G.2.1 3, 9, .inr (.inr (.inr (.inr (fun _ => none)))))), (q3, .inr (2, [.int (0 : Int32), .int (0 : Int32)])), (q4, .inr (3, [.ref q5, .int (0 : Int32), .int (0 : Int32), .int (0 : Int32), .int (0 : Int32), .int (0 : Int32), .int (0 : Int32)])), (q5, .inl (G.2.1 1, 48, .inl (fun _ => 0))), (q6, .inl (G.2.1 4, 16, .inr (.inr (.inr (.inr (fun _ => none)))))), (q7, .inl (G.2.1 5, 16, .inr (.inr (.inr (.inr (fun _ => none)))))), (q8, .inr (4, [.int (-1 : Int32), .int (-1 : Int32), .null, .null]))] H := hP
  have hD : va_D A [(a, .inr (1, [.ref q1, .ref q2, .ref q3, .ref q4, .ref q6, .ref q7, .null, .null, .int (0 : Int32), .int (0 : Int32), .int (0 : Int32), .int (0 : Int32), .int (0 : Int32), .int (0 : Int32), .int (0 : Int32), .int (0 : Int32), .int (0 : Int32), .int (0 : Int32), .null, .int (0 : Int32), .int (0 : Int32)])), (q1, .inl (G.2.1 0, 64, .inl (fun _ => 0))), (q2, .inl (G.2.1 3, 9, .inr (.inr (.inr (.inr (fun _ => none)))))), (q3, .inr (2, [.int (0 : Int32), .int (0 : Int32)])), (q4, .inr (3, [.ref q5, .int (0 : Int32), .int (0 : Int32), .int (0 : Int32), .int (0 : Int32), .int (0 : Int32), .int (0 : Int32)])), (q5, .inl (G.2.1 1, 48, .inl (fun _ => 0))), (q6, .inl (G.2.1 4, 16, .inr (.inr (.inr (.inr (fun _ => none)))))), (q7, .inl (G.2.1 5, 16, .inr (.inr (.inr (.inr (fun _ => none)))))), (q8, .inr (4, [.int (-1 : Int32), .int (-1 : Int32), .null, .null]))] := hD
  refine W.eq (g2 := F0 m 69 ls [.ref q8, .ref a]) rfl ?_
  refine dm_put (ci := 1) (v := .ref q8) B hP hD hS 0 rfl rfl in_Ma t_Ma t_Ma_ok n_Ma 6 (by decide) k_128 rfl rfl rfl (Nat.le_of_ble_eq_true rfl) d_Ma_init_69 (fun H locs hP hD hS => ?_)
  have hP : va_P G.1 dm_cl [(a, .inr (1, [.ref q1, .ref q2, .ref q3, .ref q4, .ref q6, .ref q7, .ref q8, .null, .int (0 : Int32), .int (0 : Int32), .int (0 : Int32), .int (0 : Int32), .int (0 : Int32), .int (0 : Int32), .int (0 : Int32), .int (0 : Int32), .int (0 : Int32), .int (0 : Int32), .null, .int (0 : Int32), .int (0 : Int32)])), (q1, .inl (G.2.1 0, 64, .inl (fun _ => 0))), (q2, .inl (G.2.1 3, 9, .inr (.inr (.inr (.inr (fun _ => none)))))), (q3, .inr (2, [.int (0 : Int32), .int (0 : Int32)])), (q4, .inr (3, [.ref q5, .int (0 : Int32), .int (0 : Int32), .int (0 : Int32), .int (0 : Int32), .int (0 : Int32), .int (0 : Int32)])), (q5, .inl (G.2.1 1, 48, .inl (fun _ => 0))), (q6, .inl (G.2.1 4, 16, .inr (.inr (.inr (.inr (fun _ => none)))))), (q7, .inl (G.2.1 5, 16, .inr (.inr (.inr (.inr (fun _ => none)))))), (q8, .inr (4, [.int (-1 : Int32), .int (-1 : Int32), .null, .null]))] H := hP
  have hD : va_D A [(a, .inr (1, [.ref q1, .ref q2, .ref q3, .ref q4, .ref q6, .ref q7, .ref q8, .null, .int (0 : Int32), .int (0 : Int32), .int (0 : Int32), .int (0 : Int32), .int (0 : Int32), .int (0 : Int32), .int (0 : Int32), .int (0 : Int32), .int (0 : Int32), .int (0 : Int32), .null, .int (0 : Int32), .int (0 : Int32)])), (q1, .inl (G.2.1 0, 64, .inl (fun _ => 0))), (q2, .inl (G.2.1 3, 9, .inr (.inr (.inr (.inr (fun _ => none)))))), (q3, .inr (2, [.int (0 : Int32), .int (0 : Int32)])), (q4, .inr (3, [.ref q5, .int (0 : Int32), .int (0 : Int32), .int (0 : Int32), .int (0 : Int32), .int (0 : Int32), .int (0 : Int32)])), (q5, .inl (G.2.1 1, 48, .inl (fun _ => 0))), (q6, .inl (G.2.1 4, 16, .inr (.inr (.inr (.inr (fun _ => none)))))), (q7, .inl (G.2.1 5, 16, .inr (.inr (.inr (.inr (fun _ => none)))))), (q8, .inr (4, [.int (-1 : Int32), .int (-1 : Int32), .null, .null]))] := hD
  refine lv_aload_n hx hb d_Ma_init_72 rfl (lv_at hl 0 rfl) ?_
  refine dm_new (ci := 4) (fs := [.int (0 : Int32), .int (0 : Int32), .null, .null]) B rfl in_Wi t_Wi t_Wi_ok k_92 k_93 k_5 hP hD hS (by decide +kernel) (by decide) (by decide) d_Ma_init_73 (fun q9 H hP hD hS => ?_)
  have hP : va_P G.1 dm_cl [(a, .inr (1, [.ref q1, .ref q2, .ref q3, .ref q4, .ref q6, .ref q7, .ref q8, .null, .int (0 : Int32), .int (0 : Int32), .int (0 : Int32), .int (0 : Int32), .int (0 : Int32), .int (0 : Int32), .int (0 : Int32), .int (0 : Int32), .int (0 : Int32), .int (0 : Int32), .null, .int (0 : Int32), .int (0 : Int32)])), (q1, .inl (G.2.1 0, 64, .inl (fun _ => 0))), (q2, .inl (G.2.1 3, 9, .inr (.inr (.inr (.inr (fun _ => none)))))), (q3, .inr (2, [.int (0 : Int32), .int (0 : Int32)])), (q4, .inr (3, [.ref q5, .int (0 : Int32), .int (0 : Int32), .int (0 : Int32), .int (0 : Int32), .int (0 : Int32), .int (0 : Int32)])), (q5, .inl (G.2.1 1, 48, .inl (fun _ => 0))), (q6, .inl (G.2.1 4, 16, .inr (.inr (.inr (.inr (fun _ => none)))))), (q7, .inl (G.2.1 5, 16, .inr (.inr (.inr (.inr (fun _ => none)))))), (q8, .inr (4, [.int (-1 : Int32), .int (-1 : Int32), .null, .null])), (q9, .inr (4, [.int (0 : Int32), .int (0 : Int32), .null, .null]))] H := hP
  have hD : va_D A [(a, .inr (1, [.ref q1, .ref q2, .ref q3, .ref q4, .ref q6, .ref q7, .ref q8, .null, .int (0 : Int32), .int (0 : Int32), .int (0 : Int32), .int (0 : Int32), .int (0 : Int32), .int (0 : Int32), .int (0 : Int32), .int (0 : Int32), .int (0 : Int32), .int (0 : Int32), .null, .int (0 : Int32), .int (0 : Int32)])), (q1, .inl (G.2.1 0, 64, .inl (fun _ => 0))), (q2, .inl (G.2.1 3, 9, .inr (.inr (.inr (.inr (fun _ => none)))))), (q3, .inr (2, [.int (0 : Int32), .int (0 : Int32)])), (q4, .inr (3, [.ref q5, .int (0 : Int32), .int (0 : Int32), .int (0 : Int32), .int (0 : Int32), .int (0 : Int32), .int (0 : Int32)])), (q5, .inl (G.2.1 1, 48, .inl (fun _ => 0))), (q6, .inl (G.2.1 4, 16, .inr (.inr (.inr (.inr (fun _ => none)))))), (q7, .inl (G.2.1 5, 16, .inr (.inr (.inr (.inr (fun _ => none)))))), (q8, .inr (4, [.int (-1 : Int32), .int (-1 : Int32), .null, .null])), (q9, .inr (4, [.int (0 : Int32), .int (0 : Int32), .null, .null]))] := hD
  refine lv_dup hx hb d_Ma_init_76 rfl ?_
  refine dm_callINp (wr := [(a, .inr (1, [.ref q1, .ref q2, .ref q3, .ref q4, .ref q6, .ref q7, .ref q8, .null, .int (0 : Int32), .int (0 : Int32), .int (0 : Int32), .int (0 : Int32), .int (0 : Int32), .int (0 : Int32), .int (0 : Int32), .int (0 : Int32), .int (0 : Int32), .int (0 : Int32), .null, .int (0 : Int32), .int (0 : Int32)])), (q1, .inl (G.2.1 0, 64, .inl (fun _ => 0))), (q2, .inl (G.2.1 3, 9, .inr (.inr (.inr (.inr (fun _ => none)))))), (q3, .inr (2, [.int (0 : Int32), .int (0 : Int32)])), (q4, .inr (3, [.ref q5, .int (0 : Int32), .int (0 : Int32), .int (0 : Int32), .int (0 : Int32), .int (0 : Int32), .int (0 : Int32)])), (q5, .inl (G.2.1 1, 48, .inl (fun _ => 0))), (q6, .inl (G.2.1 4, 16, .inr (.inr (.inr (.inr (fun _ => none)))))), (q7, .inl (G.2.1 5, 16, .inr (.inr (.inr (.inr (fun _ => none)))))), (q8, .inr (4, [.int (-1 : Int32), .int (-1 : Int32), .null, .null]))]) B [] (c_Wi_init l G q9) k_94 k_95 k_5 k_96 rfl hd_Wi_init rfl ⟨by decide, by decide⟩ hP hD hS (List.Perm.refl _) hl.1 (rest := [.ref q9, .ref a]) rfl (Nat.le_of_ble_eq_true rfl) d_Ma_init_77 ⟨by decide, by decide⟩ (fun ov w' H locs hq hP hD hS => ?_)
  obtain ⟨rfl, rfl⟩ := hq
  have hP : va_P G.1 dm_cl [(a, .inr (1, [.ref q1, .ref q2, .ref q3, .ref q4, .ref q6, .ref q7, .ref q8, .null, .int (0 : Int32), .int (0 : Int32), .int (0 : Int32), .int (0 : Int32), .int (0 : Int32), .int (0 : Int32), .int (0 : Int32), .int (0 : Int32), .int (0 : Int32), .int (0 : Int32), .null, .int (0 : Int32), .int (0 : Int32)])), (q1, .inl (G.2.1 0, 64, .inl (fun _ => 0))), (q2, .inl (G.2.1 3, 9, .inr (.inr (.inr (.inr (fun _ => none)))))), (q3, .inr (2, [.int (0 : Int32), .int (0 : Int32)])), (q4, .inr (3, [.ref q5, .int (0 : Int32), .int (0 : Int32), .int (0 : Int32), .int (0 : Int32), .int (0 : Int32), .int (0 : Int32)])), (q5, .inl (G.2.1 1, 48, .inl (fun _ => 0))), (q6, .inl (G.2.1 4, 16, .inr (.inr (.inr (.inr (fun _ => none)))))), (q7, .inl (G.2.1 5, 16, .inr (.inr (.inr (.inr (fun _ => none)))))), (q8, .inr (4, [.int (-1 : Int32), .int (-1 : Int32), .null, .null])), (q9, .inr (4, [.int (-1 : Int32), .int (-1 : Int32), .null, .null]))] H := hP
  have hD : va_D A [(a, .inr (1, [.ref q1, .ref q2, .ref q3, .ref q4, .ref q6, .ref q7, .ref q8, .null, .int (0 : Int32), .int (0 : Int32), .int (0 : Int32), .int (0 : Int32), .int (0 : Int32), .int (0 : Int32), .int (0 : Int32), .int (0 : Int32), .int (0 : Int32), .int (0 : Int32), .null, .int (0 : Int32), .int (0 : Int32)])), (q1, .inl (G.2.1 0, 64, .inl (fun _ => 0))), (q2, .inl (G.2.1 3, 9, .inr (.inr (.inr (.inr (fun _ => none)))))), (q3, .inr (2, [.int (0 : Int32), .int (0 : Int32)])), (q4, .inr (3, [.ref q5, .int (0 : Int32), .int (0 : Int32), .int (0 : Int32), .int (0 : Int32), .int (0 : Int32), .int (0 : Int32)])), (q5, .inl (G.2.1 1, 48, .inl (fun _ => 0))), (q6, .inl (G.2.1 4, 16, .inr (.inr (.inr (.inr (fun _ => none)))))), (q7, .inl (G.2.1 5, 16, .inr (.inr (.inr (.inr (fun _ => none)))))), (q8, .inr (4, [.int (-1 : Int32), .int (-1 : Int32), .null, .null])), (q9, .inr (4, [.int (-1 : Int32), .int (-1 : Int32), .null, .null]))] := hD
  refine W.eq (g2 := F0 m 80 ls [.ref q9, .ref a]) rfl ?_
  refine dm_put (ci := 1) (v := .ref q9) B hP hD hS 0 rfl rfl in_Ma t_Ma t_Ma_ok n_Ma 7 (by decide) k_129 rfl rfl rfl (Nat.le_of_ble_eq_true rfl) d_Ma_init_80 (fun H locs hP hD hS => ?_)
  have hP : va_P G.1 dm_cl [(a, .inr (1, [.ref q1, .ref q2, .ref q3, .ref q4, .ref q6, .ref q7, .ref q8, .ref q9, .int (0 : Int32), .int (0 : Int32), .int (0 : Int32), .int (0 : Int32), .int (0 : Int32), .int (0 : Int32), .int (0 : Int32), .int (0 : Int32), .int (0 : Int32), .int (0 : Int32), .null, .int (0 : Int32), .int (0 : Int32)])), (q1, .inl (G.2.1 0, 64, .inl (fun _ => 0))), (q2, .inl (G.2.1 3, 9, .inr (.inr (.inr (.inr (fun _ => none)))))), (q3, .inr (2, [.int (0 : Int32), .int (0 : Int32)])), (q4, .inr (3, [.ref q5, .int (0 : Int32), .int (0 : Int32), .int (0 : Int32), .int (0 : Int32), .int (0 : Int32), .int (0 : Int32)])), (q5, .inl (G.2.1 1, 48, .inl (fun _ => 0))), (q6, .inl (G.2.1 4, 16, .inr (.inr (.inr (.inr (fun _ => none)))))), (q7, .inl (G.2.1 5, 16, .inr (.inr (.inr (.inr (fun _ => none)))))), (q8, .inr (4, [.int (-1 : Int32), .int (-1 : Int32), .null, .null])), (q9, .inr (4, [.int (-1 : Int32), .int (-1 : Int32), .null, .null]))] H := hP
  have hD : va_D A [(a, .inr (1, [.ref q1, .ref q2, .ref q3, .ref q4, .ref q6, .ref q7, .ref q8, .ref q9, .int (0 : Int32), .int (0 : Int32), .int (0 : Int32), .int (0 : Int32), .int (0 : Int32), .int (0 : Int32), .int (0 : Int32), .int (0 : Int32), .int (0 : Int32), .int (0 : Int32), .null, .int (0 : Int32), .int (0 : Int32)])), (q1, .inl (G.2.1 0, 64, .inl (fun _ => 0))), (q2, .inl (G.2.1 3, 9, .inr (.inr (.inr (.inr (fun _ => none)))))), (q3, .inr (2, [.int (0 : Int32), .int (0 : Int32)])), (q4, .inr (3, [.ref q5, .int (0 : Int32), .int (0 : Int32), .int (0 : Int32), .int (0 : Int32), .int (0 : Int32), .int (0 : Int32)])), (q5, .inl (G.2.1 1, 48, .inl (fun _ => 0))), (q6, .inl (G.2.1 4, 16, .inr (.inr (.inr (.inr (fun _ => none)))))), (q7, .inl (G.2.1 5, 16, .inr (.inr (.inr (.inr (fun _ => none)))))), (q8, .inr (4, [.int (-1 : Int32), .int (-1 : Int32), .null, .null])), (q9, .inr (4, [.int (-1 : Int32), .int (-1 : Int32), .null, .null]))] := hD
  refine lv_aload_n hx hb d_Ma_init_83 rfl (lv_at hl 0 rfl) ?_
  refine lv_iconst (v := (-1 : Int32)) hx hb d_Ma_init_84 (by decide) ?_
  refine dm_put (ci := 1) (v := .int (-1 : Int32)) B hP hD hS 0 rfl rfl in_Ma t_Ma t_Ma_ok n_Ma 15 (by decide) k_143 rfl rfl rfl (Nat.le_of_ble_eq_true rfl) d_Ma_init_85 (fun H locs hP hD hS => ?_)
  have hP : va_P G.1 dm_cl [(a, .inr (1, [.ref q1, .ref q2, .ref q3, .ref q4, .ref q6, .ref q7, .ref q8, .ref q9, .int (0 : Int32), .int (0 : Int32), .int (0 : Int32), .int (0 : Int32), .int (0 : Int32), .int (0 : Int32), .int (0 : Int32), .int (-1 : Int32), .int (0 : Int32), .int (0 : Int32), .null, .int (0 : Int32), .int (0 : Int32)])), (q1, .inl (G.2.1 0, 64, .inl (fun _ => 0))), (q2, .inl (G.2.1 3, 9, .inr (.inr (.inr (.inr (fun _ => none)))))), (q3, .inr (2, [.int (0 : Int32), .int (0 : Int32)])), (q4, .inr (3, [.ref q5, .int (0 : Int32), .int (0 : Int32), .int (0 : Int32), .int (0 : Int32), .int (0 : Int32), .int (0 : Int32)])), (q5, .inl (G.2.1 1, 48, .inl (fun _ => 0))), (q6, .inl (G.2.1 4, 16, .inr (.inr (.inr (.inr (fun _ => none)))))), (q7, .inl (G.2.1 5, 16, .inr (.inr (.inr (.inr (fun _ => none)))))), (q8, .inr (4, [.int (-1 : Int32), .int (-1 : Int32), .null, .null])), (q9, .inr (4, [.int (-1 : Int32), .int (-1 : Int32), .null, .null]))] H := hP
  have hD : va_D A [(a, .inr (1, [.ref q1, .ref q2, .ref q3, .ref q4, .ref q6, .ref q7, .ref q8, .ref q9, .int (0 : Int32), .int (0 : Int32), .int (0 : Int32), .int (0 : Int32), .int (0 : Int32), .int (0 : Int32), .int (0 : Int32), .int (-1 : Int32), .int (0 : Int32), .int (0 : Int32), .null, .int (0 : Int32), .int (0 : Int32)])), (q1, .inl (G.2.1 0, 64, .inl (fun _ => 0))), (q2, .inl (G.2.1 3, 9, .inr (.inr (.inr (.inr (fun _ => none)))))), (q3, .inr (2, [.int (0 : Int32), .int (0 : Int32)])), (q4, .inr (3, [.ref q5, .int (0 : Int32), .int (0 : Int32), .int (0 : Int32), .int (0 : Int32), .int (0 : Int32), .int (0 : Int32)])), (q5, .inl (G.2.1 1, 48, .inl (fun _ => 0))), (q6, .inl (G.2.1 4, 16, .inr (.inr (.inr (.inr (fun _ => none)))))), (q7, .inl (G.2.1 5, 16, .inr (.inr (.inr (.inr (fun _ => none)))))), (q8, .inr (4, [.int (-1 : Int32), .int (-1 : Int32), .null, .null])), (q9, .inr (4, [.int (-1 : Int32), .int (-1 : Int32), .null, .null]))] := hD
  refine lv_aload_n hx hb d_Ma_init_88 rfl (lv_at hl 0 rfl) ?_
  refine lv_iconst (v := (-1 : Int32)) hx hb d_Ma_init_89 (by decide) ?_
  refine dm_put (ci := 1) (v := .int (-1 : Int32)) B hP hD hS 0 rfl rfl in_Ma t_Ma t_Ma_ok n_Ma 16 (by decide) k_145 rfl rfl rfl (Nat.le_of_ble_eq_true rfl) d_Ma_init_90 (fun H locs hP hD hS => ?_)
  have hP : va_P G.1 dm_cl [(a, .inr (1, [.ref q1, .ref q2, .ref q3, .ref q4, .ref q6, .ref q7, .ref q8, .ref q9, .int (0 : Int32), .int (0 : Int32), .int (0 : Int32), .int (0 : Int32), .int (0 : Int32), .int (0 : Int32), .int (0 : Int32), .int (-1 : Int32), .int (-1 : Int32), .int (0 : Int32), .null, .int (0 : Int32), .int (0 : Int32)])), (q1, .inl (G.2.1 0, 64, .inl (fun _ => 0))), (q2, .inl (G.2.1 3, 9, .inr (.inr (.inr (.inr (fun _ => none)))))), (q3, .inr (2, [.int (0 : Int32), .int (0 : Int32)])), (q4, .inr (3, [.ref q5, .int (0 : Int32), .int (0 : Int32), .int (0 : Int32), .int (0 : Int32), .int (0 : Int32), .int (0 : Int32)])), (q5, .inl (G.2.1 1, 48, .inl (fun _ => 0))), (q6, .inl (G.2.1 4, 16, .inr (.inr (.inr (.inr (fun _ => none)))))), (q7, .inl (G.2.1 5, 16, .inr (.inr (.inr (.inr (fun _ => none)))))), (q8, .inr (4, [.int (-1 : Int32), .int (-1 : Int32), .null, .null])), (q9, .inr (4, [.int (-1 : Int32), .int (-1 : Int32), .null, .null]))] H := hP
  have hD : va_D A [(a, .inr (1, [.ref q1, .ref q2, .ref q3, .ref q4, .ref q6, .ref q7, .ref q8, .ref q9, .int (0 : Int32), .int (0 : Int32), .int (0 : Int32), .int (0 : Int32), .int (0 : Int32), .int (0 : Int32), .int (0 : Int32), .int (-1 : Int32), .int (-1 : Int32), .int (0 : Int32), .null, .int (0 : Int32), .int (0 : Int32)])), (q1, .inl (G.2.1 0, 64, .inl (fun _ => 0))), (q2, .inl (G.2.1 3, 9, .inr (.inr (.inr (.inr (fun _ => none)))))), (q3, .inr (2, [.int (0 : Int32), .int (0 : Int32)])), (q4, .inr (3, [.ref q5, .int (0 : Int32), .int (0 : Int32), .int (0 : Int32), .int (0 : Int32), .int (0 : Int32), .int (0 : Int32)])), (q5, .inl (G.2.1 1, 48, .inl (fun _ => 0))), (q6, .inl (G.2.1 4, 16, .inr (.inr (.inr (.inr (fun _ => none)))))), (q7, .inl (G.2.1 5, 16, .inr (.inr (.inr (.inr (fun _ => none)))))), (q8, .inr (4, [.int (-1 : Int32), .int (-1 : Int32), .null, .null])), (q9, .inr (4, [.int (-1 : Int32), .int (-1 : Int32), .null, .null]))] := hD
  refine lv_aload_n hx hb d_Ma_init_93 rfl (lv_at hl 0 rfl) ?_
  refine lv_bipush (v := (60 : Int32)) hx hb d_Ma_init_94 (by decide) ?_
  refine dm_newa (atype := .short) (a0 := (60, .inl (fun _ => 0))) B k_87 rfl 1 rfl hP hD hS (fun _ => rfl) (by decide) (by decide) (by decide) (by decide) (by decide) d_Ma_init_96 (fun q10 H hP hD hS => ?_)
  have hP : va_P G.1 dm_cl [(a, .inr (1, [.ref q1, .ref q2, .ref q3, .ref q4, .ref q6, .ref q7, .ref q8, .ref q9, .int (0 : Int32), .int (0 : Int32), .int (0 : Int32), .int (0 : Int32), .int (0 : Int32), .int (0 : Int32), .int (0 : Int32), .int (-1 : Int32), .int (-1 : Int32), .int (0 : Int32), .null, .int (0 : Int32), .int (0 : Int32)])), (q1, .inl (G.2.1 0, 64, .inl (fun _ => 0))), (q2, .inl (G.2.1 3, 9, .inr (.inr (.inr (.inr (fun _ => none)))))), (q3, .inr (2, [.int (0 : Int32), .int (0 : Int32)])), (q4, .inr (3, [.ref q5, .int (0 : Int32), .int (0 : Int32), .int (0 : Int32), .int (0 : Int32), .int (0 : Int32), .int (0 : Int32)])), (q5, .inl (G.2.1 1, 48, .inl (fun _ => 0))), (q6, .inl (G.2.1 4, 16, .inr (.inr (.inr (.inr (fun _ => none)))))), (q7, .inl (G.2.1 5, 16, .inr (.inr (.inr (.inr (fun _ => none)))))), (q8, .inr (4, [.int (-1 : Int32), .int (-1 : Int32), .null, .null])), (q9, .inr (4, [.int (-1 : Int32), .int (-1 : Int32), .null, .null])), (q10, .inl (G.2.1 1, 60, .inl (fun _ => 0)))] H := hP
  have hD : va_D A [(a, .inr (1, [.ref q1, .ref q2, .ref q3, .ref q4, .ref q6, .ref q7, .ref q8, .ref q9, .int (0 : Int32), .int (0 : Int32), .int (0 : Int32), .int (0 : Int32), .int (0 : Int32), .int (0 : Int32), .int (0 : Int32), .int (-1 : Int32), .int (-1 : Int32), .int (0 : Int32), .null, .int (0 : Int32), .int (0 : Int32)])), (q1, .inl (G.2.1 0, 64, .inl (fun _ => 0))), (q2, .inl (G.2.1 3, 9, .inr (.inr (.inr (.inr (fun _ => none)))))), (q3, .inr (2, [.int (0 : Int32), .int (0 : Int32)])), (q4, .inr (3, [.ref q5, .int (0 : Int32), .int (0 : Int32), .int (0 : Int32), .int (0 : Int32), .int (0 : Int32), .int (0 : Int32)])), (q5, .inl (G.2.1 1, 48, .inl (fun _ => 0))), (q6, .inl (G.2.1 4, 16, .inr (.inr (.inr (.inr (fun _ => none)))))), (q7, .inl (G.2.1 5, 16, .inr (.inr (.inr (.inr (fun _ => none)))))), (q8, .inr (4, [.int (-1 : Int32), .int (-1 : Int32), .null, .null])), (q9, .inr (4, [.int (-1 : Int32), .int (-1 : Int32), .null, .null])), (q10, .inl (G.2.1 1, 60, .inl (fun _ => 0)))] := hD
  refine dm_putF (ci := 1) (v := .ref q10) B hP hD hS 0 rfl rfl in_Ma t_Ma t_Ma_ok n_Ma 18 (by decide) k_149 rfl rfl rfl rfl (Nat.le_of_ble_eq_true rfl) d_Ma_init_98 (fun H locs hP hD hS => ?_)
  have hP : va_P G.1 dm_cl [(a, .inr (1, [.ref q1, .ref q2, .ref q3, .ref q4, .ref q6, .ref q7, .ref q8, .ref q9, .int (0 : Int32), .int (0 : Int32), .int (0 : Int32), .int (0 : Int32), .int (0 : Int32), .int (0 : Int32), .int (0 : Int32), .int (-1 : Int32), .int (-1 : Int32), .int (0 : Int32), .ref q10, .int (0 : Int32), .int (0 : Int32)])), (q1, .inl (G.2.1 0, 64, .inl (fun _ => 0))), (q2, .inl (G.2.1 3, 9, .inr (.inr (.inr (.inr (fun _ => none)))))), (q3, .inr (2, [.int (0 : Int32), .int (0 : Int32)])), (q4, .inr (3, [.ref q5, .int (0 : Int32), .int (0 : Int32), .int (0 : Int32), .int (0 : Int32), .int (0 : Int32), .int (0 : Int32)])), (q5, .inl (G.2.1 1, 48, .inl (fun _ => 0))), (q6, .inl (G.2.1 4, 16, .inr (.inr (.inr (.inr (fun _ => none)))))), (q7, .inl (G.2.1 5, 16, .inr (.inr (.inr (.inr (fun _ => none)))))), (q8, .inr (4, [.int (-1 : Int32), .int (-1 : Int32), .null, .null])), (q9, .inr (4, [.int (-1 : Int32), .int (-1 : Int32), .null, .null])), (q10, .inl (G.2.1 1, 60, .inl (fun _ => 0)))] H := hP
  have hD : va_D A [(a, .inr (1, [.ref q1, .ref q2, .ref q3, .ref q4, .ref q6, .ref q7, .ref q8, .ref q9, .int (0 : Int32), .int (0 : Int32), .int (0 : Int32), .int (0 : Int32), .int (0 : Int32), .int (0 : Int32), .int (0 : Int32), .int (-1 : Int32), .int (-1 : Int32), .int (0 : Int32), .ref q10, .int (0 : Int32), .int (0 : Int32)])), (q1, .inl (G.2.1 0, 64, .inl (fun _ => 0))), (q2, .inl (G.2.1 3, 9, .inr (.inr (.inr (.inr (fun _ => none)))))), (q3, .inr (2, [.int (0 : Int32), .int (0 : Int32)])), (q4, .inr (3, [.ref q5, .int (0 : Int32), .int (0 : Int32), .int (0 : Int32), .int (0 : Int32), .int (0 : Int32), .int (0 : Int32)])), (q5, .inl (G.2.1 1, 48, .inl (fun _ => 0))), (q6, .inl (G.2.1 4, 16, .inr (.inr (.inr (.inr (fun _ => none)))))), (q7, .inl (G.2.1 5, 16, .inr (.inr (.inr (.inr (fun _ => none)))))), (q8, .inr (4, [.int (-1 : Int32), .int (-1 : Int32), .null, .null])), (q9, .inr (4, [.int (-1 : Int32), .int (-1 : Int32), .null, .null])), (q10, .inl (G.2.1 1, 60, .inl (fun _ => 0)))] := hD
  refine lv_aload_n hx hb d_Ma_init_101 rfl (lv_at hl 0 rfl) ?_
  refine lv_bipush (v := (-6 : Int32)) hx hb d_Ma_init_102 (by decide) ?_
  refine dm_put (ci := 1) (v := .int (-6 : Int32)) B hP hD hS 0 rfl rfl in_Ma t_Ma t_Ma_ok n_Ma 20 (by decide) k_153 rfl rfl rfl (Nat.le_of_ble_eq_true rfl) d_Ma_init_104 (fun H locs hP hD hS => ?_)
  have hP : va_P G.1 dm_cl [(a, .inr (1, [.ref q1, .ref q2, .ref q3, .ref q4, .ref q6, .ref q7, .ref q8, .ref q9, .int (0 : Int32), .int (0 : Int32), .int (0 : Int32), .int (0 : Int32), .int (0 : Int32), .int (0 : Int32), .int (0 : Int32), .int (-1 : Int32), .int (-1 : Int32), .int (0 : Int32), .ref q10, .int (0 : Int32), .int (-6 : Int32)])), (q1, .inl (G.2.1 0, 64, .inl (fun _ => 0))), (q2, .inl (G.2.1 3, 9, .inr (.inr (.inr (.inr (fun _ => none)))))), (q3, .inr (2, [.int (0 : Int32), .int (0 : Int32)])), (q4, .inr (3, [.ref q5, .int (0 : Int32), .int (0 : Int32), .int (0 : Int32), .int (0 : Int32), .int (0 : Int32), .int (0 : Int32)])), (q5, .inl (G.2.1 1, 48, .inl (fun _ => 0))), (q6, .inl (G.2.1 4, 16, .inr (.inr (.inr (.inr (fun _ => none)))))), (q7, .inl (G.2.1 5, 16, .inr (.inr (.inr (.inr (fun _ => none)))))), (q8, .inr (4, [.int (-1 : Int32), .int (-1 : Int32), .null, .null])), (q9, .inr (4, [.int (-1 : Int32), .int (-1 : Int32), .null, .null])), (q10, .inl (G.2.1 1, 60, .inl (fun _ => 0)))] H := hP
  have hD : va_D A [(a, .inr (1, [.ref q1, .ref q2, .ref q3, .ref q4, .ref q6, .ref q7, .ref q8, .ref q9, .int (0 : Int32), .int (0 : Int32), .int (0 : Int32), .int (0 : Int32), .int (0 : Int32), .int (0 : Int32), .int (0 : Int32), .int (-1 : Int32), .int (-1 : Int32), .int (0 : Int32), .ref q10, .int (0 : Int32), .int (-6 : Int32)])), (q1, .inl (G.2.1 0, 64, .inl (fun _ => 0))), (q2, .inl (G.2.1 3, 9, .inr (.inr (.inr (.inr (fun _ => none)))))), (q3, .inr (2, [.int (0 : Int32), .int (0 : Int32)])), (q4, .inr (3, [.ref q5, .int (0 : Int32), .int (0 : Int32), .int (0 : Int32), .int (0 : Int32), .int (0 : Int32), .int (0 : Int32)])), (q5, .inl (G.2.1 1, 48, .inl (fun _ => 0))), (q6, .inl (G.2.1 4, 16, .inr (.inr (.inr (.inr (fun _ => none)))))), (q7, .inl (G.2.1 5, 16, .inr (.inr (.inr (.inr (fun _ => none)))))), (q8, .inr (4, [.int (-1 : Int32), .int (-1 : Int32), .null, .null])), (q9, .inr (4, [.int (-1 : Int32), .int (-1 : Int32), .null, .null])), (q10, .inl (G.2.1 1, 60, .inl (fun _ => 0)))] := hD
  exact dm_retv B d_Ma_init_107 (by decide) (by decide) hP hD hS ⟨q1, q2, q3, q4, q5, q6, q7, q8, q9, q10, rfl, rfl⟩
