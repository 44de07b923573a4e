abbrev b_Li_at_2 : ByteArray := prog_5_method_2_code
abbrev y_Li_at_2 : MethodName := { cls := "DelayMachine$Line", name := "at", desc := "(I)S" }
theorem d_Li_at_2_0 : decode b_Li_at_2 0 = .ok (.aload_n 0, 1) := by decide +kernel
theorem d_Li_at_2_1 : decode b_Li_at_2 1 = .ok (.getfield 7, 3) := by decide +kernel
theorem d_Li_at_2_4 : decode b_Li_at_2 4 = .ok (.iload_n 1, 1) := by decide +kernel
theorem d_Li_at_2_5 : decode b_Li_at_2 5 = .ok (.aload_n 0, 1) := by decide +kernel
theorem d_Li_at_2_6 : decode b_Li_at_2 6 = .ok (.getfield 7, 3) := by decide +kernel
theorem d_Li_at_2_9 : decode b_Li_at_2 9 = .ok (.arraylength, 1) := by decide +kernel
theorem d_Li_at_2_10 : decode b_Li_at_2 10 = .ok (.irem, 1) := by decide +kernel
theorem d_Li_at_2_11 : decode b_Li_at_2 11 = .ok (.saload, 1) := by decide +kernel
theorem d_Li_at_2_12 : decode b_Li_at_2 12 = .ok (.ireturn, 1) := by decide +kernel
theorem hd_Li_at_2 : y_Li_at_2.cls ≠ "java/lang/invoke/MethodHandle" ∧ y_Li_at_2.cls ≠ "java/lang/invoke/VarHandle" ∧ (parseMethodDescriptor y_Li_at_2.desc).map (fun d => d.parameters.length) = some 1 := by decide +kernel
abbrev rm_Li_at_2 : Room := { frames := 0, cells := 0, slots := 0, locals := 0 }
def F_Li_at_2 (x1 : Int32) (v : Nat → Int32) (f : Nat → Nat → Int32) (w : Nat → Nat)  : Option (Int32) := (if (x1 - x1 / (32 : Int32) * (32 : Int32)) < 0 ∨ 32 ≤ (x1 - x1 / (32 : Int32) * (32 : Int32)).toNatClampNeg then none else (if ((f 2) (x1 - x1 / (32 : Int32) * (32 : Int32)).toNatClampNeg).toInt16.toInt32 = ((f 2) (x1 - x1 / (32 : Int32) * (32 : Int32)).toNatClampNeg) then (some ((f 2) (x1 - x1 / (32 : Int32) * (32 : Int32)).toNatClampNeg)) else none))
set_option maxHeartbeats 4000000 in
set_option maxRecDepth 100000 in
theorem c_Li_at_2 (l : Launch) (G : dm_G) (g h : Nat → Nat) (x1 : Int32) (v : Nat → Int32) (f : Nat → Nat → Int32) (w : Nat → Nat) (RES : Int32) (hF : F_Li_at_2 x1 v f w = some RES) : dm_Ct l y_Li_at_2 b_Li_at_2 2 (some .short) rm_Li_at_2 G (mw G g h v f w) [.ref (g 12), .int x1] (fun ov w' => ov = some (.int RES) ∧ w' = (mw G g h v f w)) := by
  refine dm_Ct.of (by decide +kernel) (Nat.le_of_ble_eq_true rfl) ?_
  intro p e s m below meth c A ls B hl hP hD hS
  have hx := B.1
  have hb := B.2.1
  have hl : lv_has ls 2 [(0, .ref (g 12)), (1, .int x1)] := hl
  have hF : (if (x1 - x1 / (32 : Int32) * (32 : Int32)) < 0 ∨ 32 ≤ (x1 - x1 / (32 : Int32) * (32 : Int32)).toNatClampNeg then none else (if ((f 2) (x1 - x1 / (32 : Int32) * (32 : Int32)).toNatClampNeg).toInt16.toInt32 = ((f 2) (x1 - x1 / (32 : Int32) * (32 : Int32)).toNatClampNeg) then (some ((f 2) (x1 - x1 / (32 : Int32) * (32 : Int32)).toNatClampNeg)) else none)) = some RES := hF
  refine lv_aload_n hx hb d_Li_at_2_0 rfl (lv_at hl 0 rfl) ?_
  refine mw_g_11_0 B hP k_206 d_Li_at_2_1 ?_
  refine lv_iload_n hx hb d_Li_at_2_4 rfl (lv_at hl 1 rfl) ?_
  refine lv_aload_n hx hb d_Li_at_2_5 rfl (lv_at hl 0 rfl) ?_
  refine mw_g_11_0 B hP k_206 d_Li_at_2_6 ?_
  refine dm_alen (v := (32 : Int32)) B hP 12 1 rfl rfl rfl d_Li_at_2_9 ?_
  refine lv_irem hx hb d_Li_at_2_10 (by decide) ?_
  obtain ⟨hi, hF⟩ := dm_chk hF
  refine mw_a_12 (F := (f 2)) B hP rfl hi d_Li_at_2_11 ?_
  obtain ⟨hz, hF⟩ := dm_ck1 hF
  have hF := Option.some.inj hF
  subst hF
  exact dm_ret B (dm_nsh hz) d_Li_at_2_12 (by decide) (by decide) hP hD hS ⟨rfl, rfl⟩
abbrev b_Li_put_2 : ByteArray := prog_5_method_3_code
abbrev y_Li_put_2 : MethodName := { cls := "DelayMachine$Line", name := "put", desc := "(IS)V" }
theorem d_Li_put_2_0 : decode b_Li_put_2 0 = .ok (.aload_n 0, 1) := by decide +kernel
theorem d_Li_put_2_1 : decode b_Li_put_2 1 = .ok (.getfield 7, 3) := by decide +kernel
theorem d_Li_put_2_4 : decode b_Li_put_2 4 = .ok (.iload_n 1, 1) := by decide +kernel
theorem d_Li_put_2_5 : decode b_Li_put_2 5 = .ok (.aload_n 0, 1) := by decide +kernel
theorem d_Li_put_2_6 : decode b_Li_put_2 6 = .ok (.getfield 7, 3) := by decide +kernel
theorem d_Li_put_2_9 : decode b_Li_put_2 9 = .ok (.arraylength, 1) := by decide +kernel
theorem d_Li_put_2_10 : decode b_Li_put_2 10 = .ok (.irem, 1) := by decide +kernel
theorem d_Li_put_2_11 : decode b_Li_put_2 11 = .ok (.iload_n 2, 1) := by decide +kernel
theorem d_Li_put_2_12 : decode b_Li_put_2 12 = .ok (.sastore, 1) := by decide +kernel
theorem d_Li_put_2_13 : decode b_Li_put_2 13 = .ok (.return_, 1) := by decide +kernel
theorem hd_Li_put_2 : y_Li_put_2.cls ≠ "java/lang/invoke/MethodHandle" ∧ y_Li_put_2.cls ≠ "java/lang/invoke/VarHandle" ∧ (parseMethodDescriptor y_Li_put_2.desc).map (fun d => d.parameters.length) = some 2 := by decide +kernel
abbrev rm_Li_put_2 : Room := { frames := 0, cells := 0, slots := 0, locals := 0 }
def F_Li_put_2 (x1 x2 : Int32)  (v : Nat → Int32) (f : Nat → Nat → Int32) (w : Nat → Nat) : Option ((Nat → Int32) × (Nat → Nat → Int32) × (Nat → Nat)) := (if (x1 - x1 / (32 : Int32) * (32 : Int32)) < 0 ∨ 32 ≤ (x1 - x1 / (32 : Int32) * (32 : Int32)).toNatClampNeg then none else (some (v, (va_up f 2 (upd (f 2) (x1 - x1 / (32 : Int32) * (32 : Int32)).toNatClampNeg x2.toInt16.toInt32)), w)))
set_option maxHeartbeats 4000000 in
set_option maxRecDepth 100000 in
theorem c_Li_put_2 (l : Launch) (G : dm_G) (g h : Nat → Nat) (x1 x2 : Int32) (v : Nat → Int32) (f : Nat → Nat → Int32) (w : Nat → Nat) (RES : (Nat → Int32) × (Nat → Nat → Int32) × (Nat → Nat)) (hF : F_Li_put_2 x1 x2 v f w = some RES) : dm_Ct l y_Li_put_2 b_Li_put_2 3 none rm_Li_put_2 G (mw G g h v f w) [.ref (g 12), .int x1, .int x2] (fun ov w' => ov = none ∧ w' = (mw G g h RES.1 RES.2.1 RES.2.2)) := by
  refine dm_Ct.of (by decide +kernel) (Nat.le_of_ble_eq_true rfl) ?_
  intro p e s m below meth c A ls B hl hP hD hS
  have hx := B.1
  have hb := B.2.1
  have hl : lv_has ls 3 [(0, .ref (g 12)), (1, .int x1), (2, .int x2)] := hl
  have hF : (if (x1 - x1 / (32 : Int32) * (32 : Int32)) < 0 ∨ 32 ≤ (x1 - x1 / (32 : Int32) * (32 : Int32)).toNatClampNeg then none else (some (v, (va_up f 2 (upd (f 2) (x1 - x1 / (32 : Int32) * (32 : Int32)).toNatClampNeg x2.toInt16.toInt32)), w))) = some RES := hF
  refine lv_aload_n hx hb d_Li_put_2_0 rfl (lv_at hl 0 rfl) ?_
  refine mw_g_11_0 B hP k_206 d_Li_put_2_1 ?_
  refine lv_iload_n hx hb d_Li_put_2_4 rfl (lv_at hl 1 rfl) ?_
  refine lv_aload_n hx hb d_Li_put_2_5 rfl (lv_at hl 0 rfl) ?_
  refine mw_g_11_0 B hP k_206 d_Li_put_2_6 ?_
  refine dm_alen (v := (32 : Int32)) B hP 12 1 rfl rfl rfl d_Li_put_2_9 ?_
  refine lv_irem hx hb d_Li_put_2_10 (by decide) ?_
  refine lv_iload_n hx hb d_Li_put_2_11 rfl (lv_at hl 2 rfl) ?_
  obtain ⟨hi, hF⟩ := dm_chk hF
  refine mw_s_12 (F := (f 2)) B hP hD hS rfl hi d_Li_put_2_12 (fun H locs hP hD hS => ?_)
  have hF := Option.some.inj hF
  subst hF
  exact dm_retv B d_Li_put_2_13 (by decide) (by decide) hP hD hS ⟨rfl, rfl⟩
abbrev b_Li_has_2 : ByteArray := prog_5_method_4_code
abbrev y_Li_has_2 : MethodName := { cls := "DelayMachine$Line", name := "has", desc := "(I)Z" }
theorem d_Li_has_2_0 : decode b_Li_has_2 0 = .ok (.iload_n 1, 1) := by decide +kernel
theorem d_Li_has_2_1 : decode b_Li_has_2 1 = .ok (.ifCond .lt (16), 3) := by decide +kernel
theorem d_Li_has_2_4 : decode b_Li_has_2 4 = .ok (.iload_n 1, 1) := by decide +kernel
theorem d_Li_has_2_5 : decode b_Li_has_2 5 = .ok (.aload_n 0, 1) := by decide +kernel
theorem d_Li_has_2_6 : decode b_Li_has_2 6 = .ok (.getfield 7, 3) := by decide +kernel
theorem d_Li_has_2_9 : decode b_Li_has_2 9 = .ok (.arraylength, 1) := by decide +kernel
theorem d_Li_has_2_10 : decode b_Li_has_2 10 = .ok (.if_icmp .ge (7), 3) := by decide +kernel
theorem d_Li_has_2_13 : decode b_Li_has_2 13 = .ok (.iconst 1, 1) := by decide +kernel
theorem d_Li_has_2_14 : decode b_Li_has_2 14 = .ok (.goto (4), 3) := by decide +kernel
theorem d_Li_has_2_17 : decode b_Li_has_2 17 = .ok (.iconst 0, 1) := by decide +kernel
theorem d_Li_has_2_18 : decode b_Li_has_2 18 = .ok (.ireturn, 1) := by decide +kernel
theorem hd_Li_has_2 : y_Li_has_2.cls ≠ "java/lang/invoke/MethodHandle" ∧ y_Li_has_2.cls ≠ "java/lang/invoke/VarHandle" ∧ (parseMethodDescriptor y_Li_has_2.desc).map (fun d => d.parameters.length) = some 1 := by decide +kernel
abbrev rm_Li_has_2 : Room := { frames := 0, cells := 0, slots := 0, locals := 0 }
def F_Li_has_2_17 (x1 : Int32) (v : Nat → Int32) (f : Nat → Nat → Int32) (w : Nat → Nat)    : Option (Int32) := (some (0 : Int32))
def F_Li_has_2 (x1 : Int32) (v : Nat → Int32) (f : Nat → Nat → Int32) (w : Nat → Nat)  : Option (Int32) := (if x1 < (0 : Int32) then (F_Li_has_2_17 x1 v f w) else (if (32 : Int32) ≤ x1 then (F_Li_has_2_17 x1 v f w) else (some (1 : Int32))))
set_option maxHeartbeats 4000000 in
set_option maxRecDepth 100000 in
theorem c_Li_has_2 (l : Launch) (G : dm_G) (g h : Nat → Nat) (x1 : Int32) (v : Nat → Int32) (f : Nat → Nat → Int32) (w : Nat → Nat) (RES : Int32) (hF : F_Li_has_2 x1 v f w = some RES) : dm_Ct l y_Li_has_2 b_Li_has_2 2 (some .boolean) rm_Li_has_2 G (mw G g h v f w) [.ref (g 12), .int x1] (fun ov w' => ov = some (.int RES) ∧ w' = (mw G g h v f w)) := by
  refine dm_Ct.of (by decide +kernel) (Nat.le_of_ble_eq_true rfl) ?_
  intro p e s m below meth c A ls B hl hP hD hS
  have hx := B.1
  have hb := B.2.1
  have hl : lv_has ls 2 [(0, .ref (g 12)), (1, .int x1)] := hl
  have K17 : ∀ (ls : Array Slot) (H : Heap) (locs : List Loc)  , lv_has ls 2 [] → va_P G.1 dm_cl (mw G g h v f w) H → va_D A (mw G g h v f w) → va_S A s.heap H locs → F_Li_has_2_17 x1 v f w   = some RES → W p l e rm_Li_has_2 s m ([.ref (g 12), .int x1] : List Value).toArray below meth c H locs 0 0 (dm_Z below G s ([.ref (g 12), .int x1] : List Value).toArray A rm_Li_has_2.cells rm_Li_has_2.slots (fun ov w' => ov = some (.int RES) ∧ w' = (mw G g h v f w))) (F0 m 17 ls []) := by
    intro ls H locs  hl hP hD hS hF
    have hF : (some (0 : Int32)) = some RES := hF
    refine lv_iconst (v := (0 : Int32)) hx hb d_Li_has_2_17 (by decide) ?_
    have hF := Option.some.inj hF
    subst hF
    exact dm_ret B (by decide) d_Li_has_2_18 (by decide) (by decide) hP hD hS ⟨rfl, rfl⟩
  have hF : (if x1 < (0 : Int32) then (F_Li_has_2_17 x1 v f w) else (if (32 : Int32) ≤ x1 then (F_Li_has_2_17 x1 v f w) else (some (1 : Int32)))) = some RES := hF
  refine lv_iload_n hx hb d_Li_has_2_0 rfl (lv_at hl 1 rfl) ?_
  refine lv_if_lt (tgt := 17) hx hb d_Li_has_2_1 (by decide) (fun (hh : x1 < (0 : Int32)) => ?_) (fun (hh : ¬ x1 < (0 : Int32)) => ?_)
  · rw [if_pos hh] at hF
    exact K17 ls _ _  (lv_sub hl [] rfl) hP hD hS hF
  · rw [if_neg hh] at hF
    refine lv_iload_n hx hb d_Li_has_2_4 rfl (lv_at hl 1 rfl) ?_
    refine lv_aload_n hx hb d_Li_has_2_5 rfl (lv_at hl 0 rfl) ?_
    refine mw_g_11_0 B hP k_206 d_Li_has_2_6 ?_
    refine dm_alen (v := (32 : Int32)) B hP 12 1 rfl rfl rfl d_Li_has_2_9 ?_
    refine lv_icmp_ge (tgt := 17) hx hb d_Li_has_2_10 (by decide) (fun (hh : (32 : Int32) ≤ x1) => ?_) (fun (hh : ¬ (32 : Int32) ≤ x1) => ?_)
    · rw [if_pos hh] at hF
      exact K17 ls _ _  (lv_sub hl [] rfl) hP hD hS hF
    · rw [if_neg hh] at hF
      refine lv_iconst (v := (1 : Int32)) hx hb d_Li_has_2_13 (by decide) ?_
      refine lv_goto (tgt := 18) hx hb d_Li_has_2_14 (by decide) ?_
      have hF := Option.some.inj hF
      subst hF
      exact dm_ret B (by decide) d_Li_has_2_18 (by decide) (by decide) hP hD hS ⟨rfl, rfl⟩
abbrev b_Li_at_3 : ByteArray := prog_5_method_2_code
abbrev y_Li_at_3 : MethodName := { cls := "DelayMachine$Line", name := "at", desc := "(I)S" }
theorem hd_Li_at_3 : y_Li_at_3.cls ≠ "java/lang/invoke/MethodHandle" ∧ y_Li_at_3.cls ≠ "java/lang/invoke/VarHandle" ∧ (parseMethodDescriptor y_Li_at_3.desc).map (fun d => d.parameters.length) = some 1 := by decide +kernel
abbrev rm_Li_at_3 : Room := { frames := 0, cells := 0, slots := 0, locals := 0 }
def F_Li_at_3 (x1 : Int32) (v : Nat → Int32) (f : Nat → Nat → Int32) (w : Nat → Nat)  : Option (Int32) := (if (x1 - x1 / (32 : Int32) * (32 : Int32)) < 0 ∨ 32 ≤ (x1 - x1 / (32 : Int32) * (32 : Int32)).toNatClampNeg then none else (if ((f 3) (x1 - x1 / (32 : Int32) * (32 : Int32)).toNatClampNeg).toInt16.toInt32 = ((f 3) (x1 - x1 / (32 : Int32) * (32 : Int32)).toNatClampNeg) then (some ((f 3) (x1 - x1 / (32 : Int32) * (32 : Int32)).toNatClampNeg)) else none))
set_option maxHeartbeats 4000000 in
set_option maxRecDepth 100000 in
theorem c_Li_at_3 (l : Launch) (G : dm_G) (g h : Nat → Nat) (x1 : Int32) (v : Nat → Int32) (f : Nat → Nat → Int32) (w : Nat → Nat) (RES : Int32) (hF : F_Li_at_3 x1 v f w = some RES) : dm_Ct l y_Li_at_3 b_Li_at_3 2 (some .short) rm_Li_at_3 G (mw G g h v f w) [.ref (g 13), .int x1] (fun ov w' => ov = some (.int RES) ∧ w' = (mw G g h v f w)) := by
  refine dm_Ct.of (by decide +kernel) (Nat.le_of_ble_eq_true rfl) ?_
  intro p e s m below meth c A ls B hl hP hD hS
  have hx := B.1
  have hb := B.2.1
  have hl : lv_has ls 2 [(0, .ref (g 13)), (1, .int x1)] := hl
  have hF : (if (x1 - x1 / (32 : Int32) * (32 : Int32)) < 0 ∨ 32 ≤ (x1 - x1 / (32 : Int32) * (32 : Int32)).toNatClampNeg then none else (if ((f 3) (x1 - x1 / (32 : Int32) * (32 : Int32)).toNatClampNeg).toInt16.toInt32 = ((f 3) (x1 - x1 / (32 : Int32) * (32 : Int32)).toNatClampNeg) then (some ((f 3) (x1 - x1 / (32 : Int32) * (32 : Int32)).toNatClampNeg)) else none)) = some RES := hF
  refine lv_aload_n hx hb d_Li_at_2_0 rfl (lv_at hl 0 rfl) ?_
  refine mw_g_13_0 B hP k_206 d_Li_at_2_1 ?_
  refine lv_iload_n hx hb d_Li_at_2_4 rfl (lv_at hl 1 rfl) ?_
  refine lv_aload_n hx hb d_Li_at_2_5 rfl (lv_at hl 0 rfl) ?_
  refine mw_g_13_0 B hP k_206 d_Li_at_2_6 ?_
  refine dm_alen (v := (32 : Int32)) B hP 14 1 rfl rfl rfl d_Li_at_2_9 ?_
  refine lv_irem hx hb d_Li_at_2_10 (by decide) ?_
  obtain ⟨hi, hF⟩ := dm_chk hF
  refine mw_a_14 (F := (f 3)) B hP rfl hi d_Li_at_2_11 ?_
  obtain ⟨hz, hF⟩ := dm_ck1 hF
  have hF := Option.some.inj hF
  subst hF
  exact dm_ret B (dm_nsh hz) d_Li_at_2_12 (by decide) (by decide) hP hD hS ⟨rfl, rfl⟩
abbrev b_Li_put_3 : ByteArray := prog_5_method_3_code
abbrev y_Li_put_3 : MethodName := { cls := "DelayMachine$Line", name := "put", desc := "(IS)V" }
theorem hd_Li_put_3 : y_Li_put_3.cls ≠ "java/lang/invoke/MethodHandle" ∧ y_Li_put_3.cls ≠ "java/lang/invoke/VarHandle" ∧ (parseMethodDescriptor y_Li_put_3.desc).map (fun d => d.parameters.length) = some 2 := by decide +kernel
abbrev rm_Li_put_3 : Room := { frames := 0, cells := 0, slots := 0, locals := 0 }
def F_Li_put_3 (x1 x2 : Int32)  (v : Nat → Int32) (f : Nat → Nat → Int32) (w : Nat → Nat) : Option ((Nat → Int32) × (Nat → Nat → Int32) × (Nat → Nat)) := (if (x1 - x1 / (32 : Int32) * (32 : Int32)) < 0 ∨ 32 ≤ (x1 - x1 / (32 : Int32) * (32 : Int32)).toNatClampNeg then none else (some (v, (va_up f 3 (upd (f 3) (x1 - x1 / (32 : Int32) * (32 : Int32)).toNatClampNeg x2.toInt16.toInt32)), w)))
set_option maxHeartbeats 4000000 in
set_option maxRecDepth 100000 in
theorem c_Li_put_3 (l : Launch) (G : dm_G) (g h : Nat → Nat) (x1 x2 : Int32) (v : Nat → Int32) (f : Nat → Nat → Int32) (w : Nat → Nat) (RES : (Nat → Int32) × (Nat → Nat → Int32) × (Nat → Nat)) (hF : F_Li_put_3 x1 x2 v f w = some RES) : dm_Ct l y_Li_put_3 b_Li_put_3 3 none rm_Li_put_3 G (mw G g h v f w) [.ref (g 13), .int x1, .int x2] (fun ov w' => ov = none ∧ w' = (mw G g h RES.1 RES.2.1 RES.2.2)) := by
  refine dm_Ct.of (by decide +kernel) (Nat.le_of_ble_eq_true rfl) ?_
  intro p e s m below meth c A ls B hl hP hD hS
  have hx := B.1
  have hb := B.2.1
  have hl : lv_has ls 3 [(0, .ref (g 13)), (1, .int x1), (2, .int x2)] := hl
  have hF : (if (x1 - x1 / (32 : Int32) * (32 : Int32)) < 0 ∨ 32 ≤ (x1 - x1 / (32 : Int32) * (32 : Int32)).toNatClampNeg then none else (some (v, (va_up f 3 (upd (f 3) (x1 - x1 / (32 : Int32) * (32 : Int32)).toNatClampNeg x2.toInt16.toInt32)), w))) = some RES := hF
  refine lv_aload_n hx hb d_Li_put_2_0 rfl (lv_at hl 0 rfl) ?_
  refine mw_g_13_0 B hP k_206 d_Li_put_2_1 ?_
  refine lv_iload_n hx hb d_Li_put_2_4 rfl (lv_at hl 1 rfl) ?_
  refine lv_aload_n hx hb d_Li_put_2_5 rfl (lv_at hl 0 rfl) ?_
  refine mw_g_13_0 B hP k_206 d_Li_put_2_6 ?_
  refine dm_alen (v := (32 : Int32)) B hP 14 1 rfl rfl rfl d_Li_put_2_9 ?_
  refine lv_irem hx hb d_Li_put_2_10 (by decide) ?_
  refine lv_iload_n hx hb d_Li_put_2_11 rfl (lv_at hl 2 rfl) ?_
  obtain ⟨hi, hF⟩ := dm_chk hF
  refine mw_s_14 (F := (f 3)) B hP hD hS rfl hi d_Li_put_2_12 (fun H locs hP hD hS => ?_)
  have hF := Option.some.inj hF
  subst hF
  exact dm_retv B d_Li_put_2_13 (by decide) (by decide) hP hD hS ⟨rfl, rfl⟩
abbrev b_Li_has_3 : ByteArray := prog_5_method_4_code
abbrev y_Li_has_3 : MethodName := { cls := "DelayMachine$Line", name := "has", desc := "(I)Z" }
theorem hd_Li_has_3 : y_Li_has_3.cls ≠ "java/lang/invoke/MethodHandle" ∧ y_Li_has_3.cls ≠ "java/lang/invoke/VarHandle" ∧ (parseMethodDescriptor y_Li_has_3.desc).map (fun d => d.parameters.length) = some 1 := by decide +kernel
abbrev rm_Li_has_3 : Room := { frames := 0, cells := 0, slots := 0, locals := 0 }
def F_Li_has_3_17 (x1 : Int32) (v : Nat → Int32) (f : Nat → Nat → Int32) (w : Nat → Nat)    : Option (Int32) := (some (0 : Int32))
def F_Li_has_3 (x1 : Int32) (v : Nat → Int32) (f : Nat → Nat → Int32) (w : Nat → Nat)  : Option (Int32) := (if x1 < (0 : Int32) then (F_Li_has_3_17 x1 v f w) else (if (32 : Int32) ≤ x1 then (F_Li_has_3_17 x1 v f w) else (some (1 : Int32))))
set_option maxHeartbeats 4000000 in
set_option maxRecDepth 100000 in
theorem c_Li_has_3 (l : Launch) (G : dm_G) (g h : Nat → Nat) (x1 : Int32) (v : Nat → Int32) (f : Nat → Nat → Int32) (w : Nat → Nat) (RES : Int32) (hF : F_Li_has_3 x1 v f w = some RES) : dm_Ct l y_Li_has_3 b_Li_has_3 2 (some .boolean) rm_Li_has_3 G (mw G g h v f w) [.ref (g 13), .int x1] (fun ov w' => ov = some (.int RES) ∧ w' = (mw G g h v f w)) := by
  refine dm_Ct.of (by decide +kernel) (Nat.le_of_ble_eq_true rfl) ?_
  intro p e s m below meth c A ls B hl hP hD hS
  have hx := B.1
  have hb := B.2.1
  have hl : lv_has ls 2 [(0, .ref (g 13)), (1, .int x1)] := hl
  have K17 : ∀ (ls : Array Slot) (H : Heap) (locs : List Loc)  , lv_has ls 2 [] → va_P G.1 dm_cl (mw G g h v f w) H → va_D A (mw G g h v f w) → va_S A s.heap H locs → F_Li_has_3_17 x1 v f w   = some RES → W p l e rm_Li_has_3 s m ([.ref (g 13), .int x1] : List Value).toArray below meth c H locs 0 0 (dm_Z below G s ([.ref (g 13), .int x1] : List Value).toArray A rm_Li_has_3.cells rm_Li_has_3.slots (fun ov w' => ov = some (.int RES) ∧ w' = (mw G g h v f w))) (F0 m 17 ls []) := by
    intro ls H locs  hl hP hD hS hF
    have hF : (some (0 : Int32)) = some RES := hF
    refine lv_iconst (v := (0 : Int32)) hx hb d_Li_has_2_17 (by decide) ?_
    have hF := Option.some.inj hF
    subst hF
    exact dm_ret B (by decide) d_Li_has_2_18 (by decide) (by decide) hP hD hS ⟨rfl, rfl⟩
  have hF : (if x1 < (0 : Int32) then (F_Li_has_3_17 x1 v f w) else (if (32 : Int32) ≤ x1 then (F_Li_has_3_17 x1 v f w) else (some (1 : Int32)))) = some RES := hF
  refine lv_iload_n hx hb d_Li_has_2_0 rfl (lv_at hl 1 rfl) ?_
  refine lv_if_lt (tgt := 17) hx hb d_Li_has_2_1 (by decide) (fun (hh : x1 < (0 : Int32)) => ?_) (fun (hh : ¬ x1 < (0 : Int32)) => ?_)
  · rw [if_pos hh] at hF
    exact K17 ls _ _  (lv_sub hl [] rfl) hP hD hS hF
  · rw [if_neg hh] at hF
    refine lv_iload_n hx hb d_Li_has_2_4 rfl (lv_at hl 1 rfl) ?_
    refine lv_aload_n hx hb d_Li_has_2_5 rfl (lv_at hl 0 rfl) ?_
    refine mw_g_13_0 B hP k_206 d_Li_has_2_6 ?_
    refine dm_alen (v := (32 : Int32)) B hP 14 1 rfl rfl rfl d_Li_has_2_9 ?_
    refine lv_icmp_ge (tgt := 17) hx hb d_Li_has_2_10 (by decide) (fun (hh : (32 : Int32) ≤ x1) => ?_) (fun (hh : ¬ (32 : Int32) ≤ x1) => ?_)
    · rw [if_pos hh] at hF
      exact K17 ls _ _  (lv_sub hl [] rfl) hP hD hS hF
    · rw [if_neg hh] at hF
      refine lv_iconst (v := (1 : Int32)) hx hb d_Li_has_2_13 (by decide) ?_
      refine lv_goto (tgt := 18) hx hb d_Li_has_2_14 (by decide) ?_
      have hF := Option.some.inj hF
      subst hF
      exact dm_ret B (by decide) d_Li_has_2_18 (by decide) (by decide) hP hD hS ⟨rfl, rfl⟩
abbrev b_Li_at_4 : ByteArray := prog_5_method_2_code
abbrev y_Li_at_4 : MethodName := { cls := "DelayMachine$Line", name := "at", desc := "(I)S" }
theorem hd_Li_at_4 : y_Li_at_4.cls ≠ "java/lang/invoke/MethodHandle" ∧ y_Li_at_4.cls ≠ "java/lang/invoke/VarHandle" ∧ (parseMethodDescriptor y_Li_at_4.desc).map (fun d => d.parameters.length) = some 1 := by decide +kernel
abbrev rm_Li_at_4 : Room := { frames := 0, cells := 0, slots := 0, locals := 0 }
def F_Li_at_4 (x1 : Int32) (v : Nat → Int32) (f : Nat → Nat → Int32) (w : Nat → Nat)  : Option (Int32) := (if (x1 - x1 / (32 : Int32) * (32 : Int32)) < 0 ∨ 32 ≤ (x1 - x1 / (32 : Int32) * (32 : Int32)).toNatClampNeg then none else (if ((f 4) (x1 - x1 / (32 : Int32) * (32 : Int32)).toNatClampNeg).toInt16.toInt32 = ((f 4) (x1 - x1 / (32 : Int32) * (32 : Int32)).toNatClampNeg) then (some ((f 4) (x1 - x1 / (32 : Int32) * (32 : Int32)).toNatClampNeg)) else none))
set_option maxHeartbeats 4000000 in
set_option maxRecDepth 100000 in
theorem c_Li_at_4 (l : Launch) (G : dm_G) (g h : Nat → Nat) (x1 : Int32) (v : Nat → Int32) (f : Nat → Nat → Int32) (w : Nat → Nat) (RES : Int32) (hF : F_Li_at_4 x1 v f w = some RES) : dm_Ct l y_Li_at_4 b_Li_at_4 2 (some .short) rm_Li_at_4 G (mw G g h v f w) [.ref (g 14), .int x1] (fun ov w' => ov = some (.int RES) ∧ w' = (mw G g h v f w)) := by
  refine dm_Ct.of (by decide +kernel) (Nat.le_of_ble_eq_true rfl) ?_
  intro p e s m below meth c A ls B hl hP hD hS
  have hx := B.1
  have hb := B.2.1
  have hl : lv_has ls 2 [(0, .ref (g 14)), (1, .int x1)] := hl
  have hF : (if (x1 - x1 / (32 : Int32) * (32 : Int32)) < 0 ∨ 32 ≤ (x1 - x1 / (32 : Int32) * (32 : Int32)).toNatClampNeg then none else (if ((f 4) (x1 - x1 / (32 : Int32) * (32 : Int32)).toNatClampNeg).toInt16.toInt32 = ((f 4) (x1 - x1 / (32 : Int32) * (32 : Int32)).toNatClampNeg) then (some ((f 4) (x1 - x1 / (32 : Int32) * (32 : Int32)).toNatClampNeg)) else none)) = some RES := hF
  refine lv_aload_n hx hb d_Li_at_2_0 rfl (lv_at hl 0 rfl) ?_
  refine mw_g_15_0 B hP k_206 d_Li_at_2_1 ?_
  refine lv_iload_n hx hb d_Li_at_2_4 rfl (lv_at hl 1 rfl) ?_
  refine lv_aload_n hx hb d_Li_at_2_5 rfl (lv_at hl 0 rfl) ?_
  refine mw_g_15_0 B hP k_206 d_Li_at_2_6 ?_
  refine dm_alen (v := (32 : Int32)) B hP 16 1 rfl rfl rfl d_Li_at_2_9 ?_
  refine lv_irem hx hb d_Li_at_2_10 (by decide) ?_
  obtain ⟨hi, hF⟩ := dm_chk hF
  refine mw_a_16 (F := (f 4)) B hP rfl hi d_Li_at_2_11 ?_
  obtain ⟨hz, hF⟩ := dm_ck1 hF
  have hF := Option.some.inj hF
  subst hF
  exact dm_ret B (dm_nsh hz) d_Li_at_2_12 (by decide) (by decide) hP hD hS ⟨rfl, rfl⟩
abbrev b_Li_put_4 : ByteArray := prog_5_method_3_code
abbrev y_Li_put_4 : MethodName := { cls := "DelayMachine$Line", name := "put", desc := "(IS)V" }
theorem hd_Li_put_4 : y_Li_put_4.cls ≠ "java/lang/invoke/MethodHandle" ∧ y_Li_put_4.cls ≠ "java/lang/invoke/VarHandle" ∧ (parseMethodDescriptor y_Li_put_4.desc).map (fun d => d.parameters.length) = some 2 := by decide +kernel
abbrev rm_Li_put_4 : Room := { frames := 0, cells := 0, slots := 0, locals := 0 }
def F_Li_put_4 (x1 x2 : Int32)  (v : Nat → Int32) (f : Nat → Nat → Int32) (w : Nat → Nat) : Option ((Nat → Int32) × (Nat → Nat → Int32) × (Nat → Nat)) := (if (x1 - x1 / (32 : Int32) * (32 : Int32)) < 0 ∨ 32 ≤ (x1 - x1 / (32 : Int32) * (32 : Int32)).toNatClampNeg then none else (some (v, (va_up f 4 (upd (f 4) (x1 - x1 / (32 : Int32) * (32 : Int32)).toNatClampNeg x2.toInt16.toInt32)), w)))
set_option maxHeartbeats 4000000 in
set_option maxRecDepth 100000 in
theorem c_Li_put_4 (l : Launch) (G : dm_G) (g h : Nat → Nat) (x1 x2 : Int32) (v : Nat → Int32) (f : Nat → Nat → Int32) (w : Nat → Nat) (RES : (Nat → Int32) × (Nat → Nat → Int32) × (Nat → Nat)) (hF : F_Li_put_4 x1 x2 v f w = some RES) : dm_Ct l y_Li_put_4 b_Li_put_4 3 none rm_Li_put_4 G (mw G g h v f w) [.ref (g 14), .int x1, .int x2] (fun ov w' => ov = none ∧ w' = (mw G g h RES.1 RES.2.1 RES.2.2)) := by
  refine dm_Ct.of (by decide +kernel) (Nat.le_of_ble_eq_true rfl) ?_
  intro p e s m below meth c A ls B hl hP hD hS
  have hx := B.1
  have hb := B.2.1
  have hl : lv_has ls 3 [(0, .ref (g 14)), (1, .int x1), (2, .int x2)] := hl
  have hF : (if (x1 - x1 / (32 : Int32) * (32 : Int32)) < 0 ∨ 32 ≤ (x1 - x1 / (32 : Int32) * (32 : Int32)).toNatClampNeg then none else (some (v, (va_up f 4 (upd (f 4) (x1 - x1 / (32 : Int32) * (32 : Int32)).toNatClampNeg x2.toInt16.toInt32)), w))) = some RES := hF
  refine lv_aload_n hx hb d_Li_put_2_0 rfl (lv_at hl 0 rfl) ?_
  refine mw_g_15_0 B hP k_206 d_Li_put_2_1 ?_
  refine lv_iload_n hx hb d_Li_put_2_4 rfl (lv_at hl 1 rfl) ?_
  refine lv_aload_n hx hb d_Li_put_2_5 rfl (lv_at hl 0 rfl) ?_
  refine mw_g_15_0 B hP k_206 d_Li_put_2_6 ?_
  refine dm_alen (v := (32 : Int32)) B hP 16 1 rfl rfl rfl d_Li_put_2_9 ?_
  refine lv_irem hx hb d_Li_put_2_10 (by decide) ?_
  refine lv_iload_n hx hb d_Li_put_2_11 rfl (lv_at hl 2 rfl) ?_
  obtain ⟨hi, hF⟩ := dm_chk hF
  refine mw_s_16 (F := (f 4)) B hP hD hS rfl hi d_Li_put_2_12 (fun H locs hP hD hS => ?_)
  have hF := Option.some.inj hF
  subst hF
  exact dm_retv B d_Li_put_2_13 (by decide) (by decide) hP hD hS ⟨rfl, rfl⟩
abbrev b_Li_has_4 : ByteArray := prog_5_method_4_code
abbrev y_Li_has_4 : MethodName := { cls := "DelayMachine$Line", name := "has", desc := "(I)Z" }
theorem hd_Li_has_4 : y_Li_has_4.cls ≠ "java/lang/invoke/MethodHandle" ∧ y_Li_has_4.cls ≠ "java/lang/invoke/VarHandle" ∧ (parseMethodDescriptor y_Li_has_4.desc).map (fun d => d.parameters.length) = some 1 := by decide +kernel
abbrev rm_Li_has_4 : Room := { frames := 0, cells := 0, slots := 0, locals := 0 }
def F_Li_has_4_17 (x1 : Int32) (v : Nat → Int32) (f : Nat → Nat → Int32) (w : Nat → Nat)    : Option (Int32) := (some (0 : Int32))
def F_Li_has_4 (x1 : Int32) (v : Nat → Int32) (f : Nat → Nat → Int32) (w : Nat → Nat)  : Option (Int32) := (if x1 < (0 : Int32) then (F_Li_has_4_17 x1 v f w) else (if (32 : Int32) ≤ x1 then (F_Li_has_4_17 x1 v f w) else (some (1 : Int32))))
set_option maxHeartbeats 4000000 in
set_option maxRecDepth 100000 in
theorem c_Li_has_4 (l : Launch) (G : dm_G) (g h : Nat → Nat) (x1 : Int32) (v : Nat → Int32) (f : Nat → Nat → Int32) (w : Nat → Nat) (RES : Int32) (hF : F_Li_has_4 x1 v f w = some RES) : dm_Ct l y_Li_has_4 b_Li_has_4 2 (some .boolean) rm_Li_has_4 G (mw G g h v f w) [.ref (g 14), .int x1] (fun ov w' => ov = some (.int RES) ∧ w' = (mw G g h v f w)) := by
  refine dm_Ct.of (by decide +kernel) (Nat.le_of_ble_eq_true rfl) ?_
  intro p e s m below meth c A ls B hl hP hD hS
  have hx := B.1
  have hb := B.2.1
  have hl : lv_has ls 2 [(0, .ref (g 14)), (1, .int x1)] := hl
  have K17 : ∀ (ls : Array Slot) (H : Heap) (locs : List Loc)  , lv_has ls 2 [] → va_P G.1 dm_cl (mw G g h v f w) H → va_D A (mw G g h v f w) → va_S A s.heap H locs → F_Li_has_4_17 x1 v f w   = some RES → W p l e rm_Li_has_4 s m ([.ref (g 14), .int x1] : List Value).toArray below meth c H locs 0 0 (dm_Z below G s ([.ref (g 14), .int x1] : List Value).toArray A rm_Li_has_4.cells rm_Li_has_4.slots (fun ov w' => ov = some (.int RES) ∧ w' = (mw G g h v f w))) (F0 m 17 ls []) := by
    intro ls H locs  hl hP hD hS hF
    have hF : (some (0 : Int32)) = some RES := hF
    refine lv_iconst (v := (0 : Int32)) hx hb d_Li_has_2_17 (by decide) ?_
    have hF := Option.some.inj hF
    subst hF
    exact dm_ret B (by decide) d_Li_has_2_18 (by decide) (by decide) hP hD hS ⟨rfl, rfl⟩
  have hF : (if x1 < (0 : Int32) then (F_Li_has_4_17 x1 v f w) else (if (32 : Int32) ≤ x1 then (F_Li_has_4_17 x1 v f w) else (some (1 : Int32)))) = some RES := hF
  refine lv_iload_n hx hb d_Li_has_2_0 rfl (lv_at hl 1 rfl) ?_
  refine lv_if_lt (tgt := 17) hx hb d_Li_has_2_1 (by decide) (fun (hh : x1 < (0 : Int32)) => ?_) (fun (hh : ¬ x1 < (0 : Int32)) => ?_)
  · rw [if_pos hh] at hF
    exact K17 ls _ _  (lv_sub hl [] rfl) hP hD hS hF
  · rw [if_neg hh] at hF
    refine lv_iload_n hx hb d_Li_has_2_4 rfl (lv_at hl 1 rfl) ?_
    refine lv_aload_n hx hb d_Li_has_2_5 rfl (lv_at hl 0 rfl) ?_
    refine mw_g_15_0 B hP k_206 d_Li_has_2_6 ?_
    refine dm_alen (v := (32 : Int32)) B hP 16 1 rfl rfl rfl d_Li_has_2_9 ?_
    refine lv_icmp_ge (tgt := 17) hx hb d_Li_has_2_10 (by decide) (fun (hh : (32 : Int32) ≤ x1) => ?_) (fun (hh : ¬ (32 : Int32) ≤ x1) => ?_)
    · rw [if_pos hh] at hF
      exact K17 ls _ _  (lv_sub hl [] rfl) hP hD hS hF
    · rw [if_neg hh] at hF
      refine lv_iconst (v := (1 : Int32)) hx hb d_Li_has_2_13 (by decide) ?_
      refine lv_goto (tgt := 18) hx hb d_Li_has_2_14 (by decide) ?_
      have hF := Option.some.inj hF
      subst hF
      exact dm_ret B (by decide) d_Li_has_2_18 (by decide) (by decide) hP hD hS ⟨rfl, rfl⟩
abbrev b_Li_at_5 : ByteArray := prog_5_method_2_code
abbrev y_Li_at_5 : MethodName := { cls := "DelayMachine$Line", name := "at", desc := "(I)S" }
theorem hd_Li_at_5 : y_Li_at_5.cls ≠ "java/lang/invoke/MethodHandle" ∧ y_Li_at_5.cls ≠ "java/lang/invoke/VarHandle" ∧ (parseMethodDescriptor y_Li_at_5.desc).map (fun d => d.parameters.length) = some 1 := by decide +kernel
abbrev rm_Li_at_5 : Room := { frames := 0, cells := 0, slots := 0, locals := 0 }
def F_Li_at_5 (x1 : Int32) (v : Nat → Int32) (f : Nat → Nat → Int32) (w : Nat → Nat)  : Option (Int32) := (if (x1 - x1 / (32 : Int32) * (32 : Int32)) < 0 ∨ 32 ≤ (x1 - x1 / (32 : Int32) * (32 : Int32)).toNatClampNeg then none else (if ((f 5) (x1 - x1 / (32 : Int32) * (32 : Int32)).toNatClampNeg).toInt16.toInt32 = ((f 5) (x1 - x1 / (32 : Int32) * (32 : Int32)).toNatClampNeg) then (some ((f 5) (x1 - x1 / (32 : Int32) * (32 : Int32)).toNatClampNeg)) else none))
set_option maxHeartbeats 4000000 in
set_option maxRecDepth 100000 in
theorem c_Li_at_5 (l : Launch) (G : dm_G) (g h : Nat → Nat) (x1 : Int32) (v : Nat → Int32) (f : Nat → Nat → Int32) (w : Nat → Nat) (RES : Int32) (hF : F_Li_at_5 x1 v f w = some RES) : dm_Ct l y_Li_at_5 b_Li_at_5 2 (some .short) rm_Li_at_5 G (mw G g h v f w) [.ref (g 15), .int x1] (fun ov w' => ov = some (.int RES) ∧ w' = (mw G g h v f w)) := by
  refine dm_Ct.of (by decide +kernel) (Nat.le_of_ble_eq_true rfl) ?_
  intro p e s m below meth c A ls B hl hP hD hS
  have hx := B.1
  have hb := B.2.1
  have hl : lv_has ls 2 [(0, .ref (g 15)), (1, .int x1)] := hl
  have hF : (if (x1 - x1 / (32 : Int32) * (32 : Int32)) < 0 ∨ 32 ≤ (x1 - x1 / (32 : Int32) * (32 : Int32)).toNatClampNeg then none else (if ((f 5) (x1 - x1 / (32 : Int32) * (32 : Int32)).toNatClampNeg).toInt16.toInt32 = ((f 5) (x1 - x1 / (32 : Int32) * (32 : Int32)).toNatClampNeg) then (some ((f 5) (x1 - x1 / (32 : Int32) * (32 : Int32)).toNatClampNeg)) else none)) = some RES := hF
  refine lv_aload_n hx hb d_Li_at_2_0 rfl (lv_at hl 0 rfl) ?_
  refine mw_g_17_0 B hP k_206 d_Li_at_2_1 ?_
  refine lv_iload_n hx hb d_Li_at_2_4 rfl (lv_at hl 1 rfl) ?_
  refine lv_aload_n hx hb d_Li_at_2_5 rfl (lv_at hl 0 rfl) ?_
  refine mw_g_17_0 B hP k_206 d_Li_at_2_6 ?_
  refine dm_alen (v := (32 : Int32)) B hP 18 1 rfl rfl rfl d_Li_at_2_9 ?_
  refine lv_irem hx hb d_Li_at_2_10 (by decide) ?_
  obtain ⟨hi, hF⟩ := dm_chk hF
  refine mw_a_18 (F := (f 5)) B hP rfl hi d_Li_at_2_11 ?_
  obtain ⟨hz, hF⟩ := dm_ck1 hF
  have hF := Option.some.inj hF
  subst hF
  exact dm_ret B (dm_nsh hz) d_Li_at_2_12 (by decide) (by decide) hP hD hS ⟨rfl, rfl⟩
abbrev b_Li_put_5 : ByteArray := prog_5_method_3_code
abbrev y_Li_put_5 : MethodName := { cls := "DelayMachine$Line", name := "put", desc := "(IS)V" }
theorem hd_Li_put_5 : y_Li_put_5.cls ≠ "java/lang/invoke/MethodHandle" ∧ y_Li_put_5.cls ≠ "java/lang/invoke/VarHandle" ∧ (parseMethodDescriptor y_Li_put_5.desc).map (fun d => d.parameters.length) = some 2 := by decide +kernel
abbrev rm_Li_put_5 : Room := { frames := 0, cells := 0, slots := 0, locals := 0 }
def F_Li_put_5 (x1 x2 : Int32)  (v : Nat → Int32) (f : Nat → Nat → Int32) (w : Nat → Nat) : Option ((Nat → Int32) × (Nat → Nat → Int32) × (Nat → Nat)) := (if (x1 - x1 / (32 : Int32) * (32 : Int32)) < 0 ∨ 32 ≤ (x1 - x1 / (32 : Int32) * (32 : Int32)).toNatClampNeg then none else (some (v, (va_up f 5 (upd (f 5) (x1 - x1 / (32 : Int32) * (32 : Int32)).toNatClampNeg x2.toInt16.toInt32)), w)))
set_option maxHeartbeats 4000000 in
set_option maxRecDepth 100000 in
theorem c_Li_put_5 (l : Launch) (G : dm_G) (g h : Nat → Nat) (x1 x2 : Int32) (v : Nat → Int32) (f : Nat → Nat → Int32) (w : Nat → Nat) (RES : (Nat → Int32) × (Nat → Nat → Int32) × (Nat → Nat)) (hF : F_Li_put_5 x1 x2 v f w = some RES) : dm_Ct l y_Li_put_5 b_Li_put_5 3 none rm_Li_put_5 G (mw G g h v f w) [.ref (g 15), .int x1, .int x2] (fun ov w' => ov = none ∧ w' = (mw G g h RES.1 RES.2.1 RES.2.2)) := by
  refine dm_Ct.of (by decide +kernel) (Nat.le_of_ble_eq_true rfl) ?_
  intro p e s m below meth c A ls B hl hP hD hS
  have hx := B.1
  have hb := B.2.1
  have hl : lv_has ls 3 [(0, .ref (g 15)), (1, .int x1), (2, .int x2)] := hl
  have hF : (if (x1 - x1 / (32 : Int32) * (32 : Int32)) < 0 ∨ 32 ≤ (x1 - x1 / (32 : Int32) * (32 : Int32)).toNatClampNeg then none else (some (v, (va_up f 5 (upd (f 5) (x1 - x1 / (32 : Int32) * (32 : Int32)).toNatClampNeg x2.toInt16.toInt32)), w))) = some RES := hF
  refine lv_aload_n hx hb d_Li_put_2_0 rfl (lv_at hl 0 rfl) ?_
  refine mw_g_17_0 B hP k_206 d_Li_put_2_1 ?_
  refine lv_iload_n hx hb d_Li_put_2_4 rfl (lv_at hl 1 rfl) ?_
  refine lv_aload_n hx hb d_Li_put_2_5 rfl (lv_at hl 0 rfl) ?_
  refine mw_g_17_0 B hP k_206 d_Li_put_2_6 ?_
  refine dm_alen (v := (32 : Int32)) B hP 18 1 rfl rfl rfl d_Li_put_2_9 ?_
  refine lv_irem hx hb d_Li_put_2_10 (by decide) ?_
  refine lv_iload_n hx hb d_Li_put_2_11 rfl (lv_at hl 2 rfl) ?_
  obtain ⟨hi, hF⟩ := dm_chk hF
  refine mw_s_18 (F := (f 5)) B hP hD hS rfl hi d_Li_put_2_12 (fun H locs hP hD hS => ?_)
  have hF := Option.some.inj hF
  subst hF
  exact dm_retv B d_Li_put_2_13 (by decide) (by decide) hP hD hS ⟨rfl, rfl⟩
abbrev b_Li_has_5 : ByteArray := prog_5_method_4_code
abbrev y_Li_has_5 : MethodName := { cls := "DelayMachine$Line", name := "has", desc := "(I)Z" }
theorem hd_Li_has_5 : y_Li_has_5.cls ≠ "java/lang/invoke/MethodHandle" ∧ y_Li_has_5.cls ≠ "java/lang/invoke/VarHandle" ∧ (parseMethodDescriptor y_Li_has_5.desc).map (fun d => d.parameters.length) = some 1 := by decide +kernel
abbrev rm_Li_has_5 : Room := { frames := 0, cells := 0, slots := 0, locals := 0 }
def F_Li_has_5_17 (x1 : Int32) (v : Nat → Int32) (f : Nat → Nat → Int32) (w : Nat → Nat)    : Option (Int32) := (some (0 : Int32))
def F_Li_has_5 (x1 : Int32) (v : Nat → Int32) (f : Nat → Nat → Int32) (w : Nat → Nat)  : Option (Int32) := (if x1 < (0 : Int32) then (F_Li_has_5_17 x1 v f w) else (if (32 : Int32) ≤ x1 then (F_Li_has_5_17 x1 v f w) else (some (1 : Int32))))
set_option maxHeartbeats 4000000 in
set_option maxRecDepth 100000 in
theorem c_Li_has_5 (l : Launch) (G : dm_G) (g h : Nat → Nat) (x1 : Int32) (v : Nat → Int32) (f : Nat → Nat → Int32) (w : Nat → Nat) (RES : Int32) (hF : F_Li_has_5 x1 v f w = some RES) : dm_Ct l y_Li_has_5 b_Li_has_5 2 (some .boolean) rm_Li_has_5 G (mw G g h v f w) [.ref (g 15), .int x1] (fun ov w' => ov = some (.int RES) ∧ w' = (mw G g h v f w)) := by
  refine dm_Ct.of (by decide +kernel) (Nat.le_of_ble_eq_true rfl) ?_
  intro p e s m below meth c A ls B hl hP hD hS
  have hx := B.1
  have hb := B.2.1
  have hl : lv_has ls 2 [(0, .ref (g 15)), (1, .int x1)] := hl
  have K17 : ∀ (ls : Array Slot) (H : Heap) (locs : List Loc)  , lv_has ls 2 [] → va_P G.1 dm_cl (mw G g h v f w) H → va_D A (mw G g h v f w) → va_S A s.heap H locs → F_Li_has_5_17 x1 v f w   = some RES → W p l e rm_Li_has_5 s m ([.ref (g 15), .int x1] : List Value).toArray below meth c H locs 0 0 (dm_Z below G s ([.ref (g 15), .int x1] : List Value).toArray A rm_Li_has_5.cells rm_Li_has_5.slots (fun ov w' => ov = some (.int RES) ∧ w' = (mw G g h v f w))) (F0 m 17 ls []) := by
    intro ls H locs  hl hP hD hS hF
    have hF : (some (0 : Int32)) = some RES := hF
    refine lv_iconst (v := (0 : Int32)) hx hb d_Li_has_2_17 (by decide) ?_
    have hF := Option.some.inj hF
    subst hF
    exact dm_ret B (by decide) d_Li_has_2_18 (by decide) (by decide) hP hD hS ⟨rfl, rfl⟩
  have hF : (if x1 < (0 : Int32) then (F_Li_has_5_17 x1 v f w) else (if (32 : Int32) ≤ x1 then (F_Li_has_5_17 x1 v f w) else (some (1 : Int32)))) = some RES := hF
  refine lv_iload_n hx hb d_Li_has_2_0 rfl (lv_at hl 1 rfl) ?_
  refine lv_if_lt (tgt := 17) hx hb d_Li_has_2_1 (by decide) (fun (hh : x1 < (0 : Int32)) => ?_) (fun (hh : ¬ x1 < (0 : Int32)) => ?_)
  · rw [if_pos hh] at hF
    exact K17 ls _ _  (lv_sub hl [] rfl) hP hD hS hF
  · rw [if_neg hh] at hF
    refine lv_iload_n hx hb d_Li_has_2_4 rfl (lv_at hl 1 rfl) ?_
    refine lv_aload_n hx hb d_Li_has_2_5 rfl (lv_at hl 0 rfl) ?_
    refine mw_g_17_0 B hP k_206 d_Li_has_2_6 ?_
    refine dm_alen (v := (32 : Int32)) B hP 18 1 rfl rfl rfl d_Li_has_2_9 ?_
    refine lv_icmp_ge (tgt := 17) hx hb d_Li_has_2_10 (by decide) (fun (hh : (32 : Int32) ≤ x1) => ?_) (fun (hh : ¬ (32 : Int32) ≤ x1) => ?_)
    · rw [if_pos hh] at hF
      exact K17 ls _ _  (lv_sub hl [] rfl) hP hD hS hF
    · rw [if_neg hh] at hF
      refine lv_iconst (v := (1 : Int32)) hx hb d_Li_has_2_13 (by decide) ?_
      refine lv_goto (tgt := 18) hx hb d_Li_has_2_14 (by decide) ?_
      have hF := Option.some.inj hF
      subst hF
      exact dm_ret B (by decide) d_Li_has_2_18 (by decide) (by decide) hP hD hS ⟨rfl, rfl⟩
abbrev b_Li_at_6 : ByteArray := prog_5_method_2_code
abbrev y_Li_at_6 : MethodName := { cls := "DelayMachine$Line", name := "at", desc := "(I)S" }
theorem hd_Li_at_6 : y_Li_at_6.cls ≠ "java/lang/invoke/MethodHandle" ∧ y_Li_at_6.cls ≠ "java/lang/invoke/VarHandle" ∧ (parseMethodDescriptor y_Li_at_6.desc).map (fun d => d.parameters.length) = some 1 := by decide +kernel
abbrev rm_Li_at_6 : Room := { frames := 0, cells := 0, slots := 0, locals := 0 }
def F_Li_at_6 (x1 : Int32) (v : Nat → Int32) (f : Nat → Nat → Int32) (w : Nat → Nat)  : Option (Int32) := (if (x1 - x1 / (1 : Int32) * (1 : Int32)) < 0 ∨ 1 ≤ (x1 - x1 / (1 : Int32) * (1 : Int32)).toNatClampNeg then none else (if ((f 6) (x1 - x1 / (1 : Int32) * (1 : Int32)).toNatClampNeg).toInt16.toInt32 = ((f 6) (x1 - x1 / (1 : Int32) * (1 : Int32)).toNatClampNeg) then (some ((f 6) (x1 - x1 / (1 : Int32) * (1 : Int32)).toNatClampNeg)) else none))
set_option maxHeartbeats 4000000 in
set_option maxRecDepth 100000 in
theorem c_Li_at_6 (l : Launch) (G : dm_G) (g h : Nat → Nat) (x1 : Int32) (v : Nat → Int32) (f : Nat → Nat → Int32) (w : Nat → Nat) (RES : Int32) (hF : F_Li_at_6 x1 v f w = some RES) : dm_Ct l y_Li_at_6 b_Li_at_6 2 (some .short) rm_Li_at_6 G (mw G g h v f w) [.ref (g 16), .int x1] (fun ov w' => ov = some (.int RES) ∧ w' = (mw G g h v f w)) := by
  refine dm_Ct.of (by decide +kernel) (Nat.le_of_ble_eq_true rfl) ?_
  intro p e s m below meth c A ls B hl hP hD hS
  have hx := B.1
  have hb := B.2.1
  have hl : lv_has ls 2 [(0, .ref (g 16)), (1, .int x1)] := hl
  have hF : (if (x1 - x1 / (1 : Int32) * (1 : Int32)) < 0 ∨ 1 ≤ (x1 - x1 / (1 : Int32) * (1 : Int32)).toNatClampNeg then none else (if ((f 6) (x1 - x1 / (1 : Int32) * (1 : Int32)).toNatClampNeg).toInt16.toInt32 = ((f 6) (x1 - x1 / (1 : Int32) * (1 : Int32)).toNatClampNeg) then (some ((f 6) (x1 - x1 / (1 : Int32) * (1 : Int32)).toNatClampNeg)) else none)) = some RES := hF
  refine lv_aload_n hx hb d_Li_at_2_0 rfl (lv_at hl 0 rfl) ?_
  refine mw_g_19_0 B hP k_206 d_Li_at_2_1 ?_
  refine lv_iload_n hx hb d_Li_at_2_4 rfl (lv_at hl 1 rfl) ?_
  refine lv_aload_n hx hb d_Li_at_2_5 rfl (lv_at hl 0 rfl) ?_
  refine mw_g_19_0 B hP k_206 d_Li_at_2_6 ?_
  refine dm_alen (v := (1 : Int32)) B hP 20 1 rfl rfl rfl d_Li_at_2_9 ?_
  refine lv_irem hx hb d_Li_at_2_10 (by decide) ?_
  obtain ⟨hi, hF⟩ := dm_chk hF
  refine mw_a_20 (F := (f 6)) B hP rfl hi d_Li_at_2_11 ?_
  obtain ⟨hz, hF⟩ := dm_ck1 hF
  have hF := Option.some.inj hF
  subst hF
  exact dm_ret B (dm_nsh hz) d_Li_at_2_12 (by decide) (by decide) hP hD hS ⟨rfl, rfl⟩
abbrev b_Li_put_6 : ByteArray := prog_5_method_3_code
abbrev y_Li_put_6 : MethodName := { cls := "DelayMachine$Line", name := "put", desc := "(IS)V" }
theorem hd_Li_put_6 : y_Li_put_6.cls ≠ "java/lang/invoke/MethodHandle" ∧ y_Li_put_6.cls ≠ "java/lang/invoke/VarHandle" ∧ (parseMethodDescriptor y_Li_put_6.desc).map (fun d => d.parameters.length) = some 2 := by decide +kernel
abbrev rm_Li_put_6 : Room := { frames := 0, cells := 0, slots := 0, locals := 0 }
def F_Li_put_6 (x1 x2 : Int32)  (v : Nat → Int32) (f : Nat → Nat → Int32) (w : Nat → Nat) : Option ((Nat → Int32) × (Nat → Nat → Int32) × (Nat → Nat)) := (if (x1 - x1 / (1 : Int32) * (1 : Int32)) < 0 ∨ 1 ≤ (x1 - x1 / (1 : Int32) * (1 : Int32)).toNatClampNeg then none else (some (v, (va_up f 6 (upd (f 6) (x1 - x1 / (1 : Int32) * (1 : Int32)).toNatClampNeg x2.toInt16.toInt32)), w)))
set_option maxHeartbeats 4000000 in
set_option maxRecDepth 100000 in
theorem c_Li_put_6 (l : Launch) (G : dm_G) (g h : Nat → Nat) (x1 x2 : Int32) (v : Nat → Int32) (f : Nat → Nat → Int32) (w : Nat → Nat) (RES : (Nat → Int32) × (Nat → Nat → Int32) × (Nat → Nat)) (hF : F_Li_put_6 x1 x2 v f w = some RES) : dm_Ct l y_Li_put_6 b_Li_put_6 3 none rm_Li_put_6 G (mw G g h v f w) [.ref (g 16), .int x1, .int x2] (fun ov w' => ov = none ∧ w' = (mw G g h RES.1 RES.2.1 RES.2.2)) := by
  refine dm_Ct.of (by decide +kernel) (Nat.le_of_ble_eq_true rfl) ?_
  intro p e s m below meth c A ls B hl hP hD hS
  have hx := B.1
  have hb := B.2.1
  have hl : lv_has ls 3 [(0, .ref (g 16)), (1, .int x1), (2, .int x2)] := hl
  have hF : (if (x1 - x1 / (1 : Int32) * (1 : Int32)) < 0 ∨ 1 ≤ (x1 - x1 / (1 : Int32) * (1 : Int32)).toNatClampNeg then none else (some (v, (va_up f 6 (upd (f 6) (x1 - x1 / (1 : Int32) * (1 : Int32)).toNatClampNeg x2.toInt16.toInt32)), w))) = some RES := hF
  refine lv_aload_n hx hb d_Li_put_2_0 rfl (lv_at hl 0 rfl) ?_
  refine mw_g_19_0 B hP k_206 d_Li_put_2_1 ?_
  refine lv_iload_n hx hb d_Li_put_2_4 rfl (lv_at hl 1 rfl) ?_
  refine lv_aload_n hx hb d_Li_put_2_5 rfl (lv_at hl 0 rfl) ?_
  refine mw_g_19_0 B hP k_206 d_Li_put_2_6 ?_
  refine dm_alen (v := (1 : Int32)) B hP 20 1 rfl rfl rfl d_Li_put_2_9 ?_
  refine lv_irem hx hb d_Li_put_2_10 (by decide) ?_
  refine lv_iload_n hx hb d_Li_put_2_11 rfl (lv_at hl 2 rfl) ?_
  obtain ⟨hi, hF⟩ := dm_chk hF
  refine mw_s_20 (F := (f 6)) B hP hD hS rfl hi d_Li_put_2_12 (fun H locs hP hD hS => ?_)
  have hF := Option.some.inj hF
  subst hF
  exact dm_retv B d_Li_put_2_13 (by decide) (by decide) hP hD hS ⟨rfl, rfl⟩
abbrev b_Li_has_6 : ByteArray := prog_5_method_4_code
abbrev y_Li_has_6 : MethodName := { cls := "DelayMachine$Line", name := "has", desc := "(I)Z" }
theorem hd_Li_has_6 : y_Li_has_6.cls ≠ "java/lang/invoke/MethodHandle" ∧ y_Li_has_6.cls ≠ "java/lang/invoke/VarHandle" ∧ (parseMethodDescriptor y_Li_has_6.desc).map (fun d => d.parameters.length) = some 1 := by decide +kernel
abbrev rm_Li_has_6 : Room := { frames := 0, cells := 0, slots := 0, locals := 0 }
def F_Li_has_6_17 (x1 : Int32) (v : Nat → Int32) (f : Nat → Nat → Int32) (w : Nat → Nat)    : Option (Int32) := (some (0 : Int32))
def F_Li_has_6 (x1 : Int32) (v : Nat → Int32) (f : Nat → Nat → Int32) (w : Nat → Nat)  : Option (Int32) := (if x1 < (0 : Int32) then (F_Li_has_6_17 x1 v f w) else (if (1 : Int32) ≤ x1 then (F_Li_has_6_17 x1 v f w) else (some (1 : Int32))))
set_option maxHeartbeats 4000000 in
set_option maxRecDepth 100000 in
theorem c_Li_has_6 (l : Launch) (G : dm_G) (g h : Nat → Nat) (x1 : Int32) (v : Nat → Int32) (f : Nat → Nat → Int32) (w : Nat → Nat) (RES : Int32) (hF : F_Li_has_6 x1 v f w = some RES) : dm_Ct l y_Li_has_6 b_Li_has_6 2 (some .boolean) rm_Li_has_6 G (mw G g h v f w) [.ref (g 16), .int x1] (fun ov w' => ov = some (.int RES) ∧ w' = (mw G g h v f w)) := by
  refine dm_Ct.of (by decide +kernel) (Nat.le_of_ble_eq_true rfl) ?_
  intro p e s m below meth c A ls B hl hP hD hS
  have hx := B.1
  have hb := B.2.1
  have hl : lv_has ls 2 [(0, .ref (g 16)), (1, .int x1)] := hl
  have K17 : ∀ (ls : Array Slot) (H : Heap) (locs : List Loc)  , lv_has ls 2 [] → va_P G.1 dm_cl (mw G g h v f w) H → va_D A (mw G g h v f w) → va_S A s.heap H locs → F_Li_has_6_17 x1 v f w   = some RES → W p l e rm_Li_has_6 s m ([.ref (g 16), .int x1] : List Value).toArray below meth c H locs 0 0 (dm_Z below G s ([.ref (g 16), .int x1] : List Value).toArray A rm_Li_has_6.cells rm_Li_has_6.slots (fun ov w' => ov = some (.int RES) ∧ w' = (mw G g h v f w))) (F0 m 17 ls []) := by
    intro ls H locs  hl hP hD hS hF
    have hF : (some (0 : Int32)) = some RES := hF
    refine lv_iconst (v := (0 : Int32)) hx hb d_Li_has_2_17 (by decide) ?_
    have hF := Option.some.inj hF
    subst hF
    exact dm_ret B (by decide) d_Li_has_2_18 (by decide) (by decide) hP hD hS ⟨rfl, rfl⟩
  have hF : (if x1 < (0 : Int32) then (F_Li_has_6_17 x1 v f w) else (if (1 : Int32) ≤ x1 then (F_Li_has_6_17 x1 v f w) else (some (1 : Int32)))) = some RES := hF
  refine lv_iload_n hx hb d_Li_has_2_0 rfl (lv_at hl 1 rfl) ?_
  refine lv_if_lt (tgt := 17) hx hb d_Li_has_2_1 (by decide) (fun (hh : x1 < (0 : Int32)) => ?_) (fun (hh : ¬ x1 < (0 : Int32)) => ?_)
  · rw [if_pos hh] at hF
    exact K17 ls _ _  (lv_sub hl [] rfl) hP hD hS hF
  · rw [if_neg hh] at hF
    refine lv_iload_n hx hb d_Li_has_2_4 rfl (lv_at hl 1 rfl) ?_
    refine lv_aload_n hx hb d_Li_has_2_5 rfl (lv_at hl 0 rfl) ?_
    refine mw_g_19_0 B hP k_206 d_Li_has_2_6 ?_
    refine dm_alen (v := (1 : Int32)) B hP 20 1 rfl rfl rfl d_Li_has_2_9 ?_
    refine lv_icmp_ge (tgt := 17) hx hb d_Li_has_2_10 (by decide) (fun (hh : (1 : Int32) ≤ x1) => ?_) (fun (hh : ¬ (1 : Int32) ≤ x1) => ?_)
    · rw [if_pos hh] at hF
      exact K17 ls _ _  (lv_sub hl [] rfl) hP hD hS hF
    · rw [if_neg hh] at hF
      refine lv_iconst (v := (1 : Int32)) hx hb d_Li_has_2_13 (by decide) ?_
      refine lv_goto (tgt := 18) hx hb d_Li_has_2_14 (by decide) ?_
      have hF := Option.some.inj hF
      subst hF
      exact dm_ret B (by decide) d_Li_has_2_18 (by decide) (by decide) hP hD hS ⟨rfl, rfl⟩
abbrev b_Li_at_7 : ByteArray := prog_5_method_2_code
abbrev y_Li_at_7 : MethodName := { cls := "DelayMachine$Line", name := "at", desc := "(I)S" }
theorem hd_Li_at_7 : y_Li_at_7.cls ≠ "java/lang/invoke/MethodHandle" ∧ y_Li_at_7.cls ≠ "java/lang/invoke/VarHandle" ∧ (parseMethodDescriptor y_Li_at_7.desc).map (fun d => d.parameters.length) = some 1 := by decide +kernel
abbrev rm_Li_at_7 : Room := { frames := 0, cells := 0, slots := 0, locals := 0 }
def F_Li_at_7 (x1 : Int32) (v : Nat → Int32) (f : Nat → Nat → Int32) (w : Nat → Nat)  : Option (Int32) := (if (x1 - x1 / (1 : Int32) * (1 : Int32)) < 0 ∨ 1 ≤ (x1 - x1 / (1 : Int32) * (1 : Int32)).toNatClampNeg then none else (if ((f 7) (x1 - x1 / (1 : Int32) * (1 : Int32)).toNatClampNeg).toInt16.toInt32 = ((f 7) (x1 - x1 / (1 : Int32) * (1 : Int32)).toNatClampNeg) then (some ((f 7) (x1 - x1 / (1 : Int32) * (1 : Int32)).toNatClampNeg)) else none))
set_option maxHeartbeats 4000000 in
set_option maxRecDepth 100000 in
theorem c_Li_at_7 (l : Launch) (G : dm_G) (g h : Nat → Nat) (x1 : Int32) (v : Nat → Int32) (f : Nat → Nat → Int32) (w : Nat → Nat) (RES : Int32) (hF : F_Li_at_7 x1 v f w = some RES) : dm_Ct l y_Li_at_7 b_Li_at_7 2 (some .short) rm_Li_at_7 G (mw G g h v f w) [.ref (g 17), .int x1] (fun ov w' => ov = some (.int RES) ∧ w' = (mw G g h v f w)) := by
  refine dm_Ct.of (by decide +kernel) (Nat.le_of_ble_eq_true rfl) ?_
  intro p e s m below meth c A ls B hl hP hD hS
  have hx := B.1
  have hb := B.2.1
  have hl : lv_has ls 2 [(0, .ref (g 17)), (1, .int x1)] := hl
  have hF : (if (x1 - x1 / (1 : Int32) * (1 : Int32)) < 0 ∨ 1 ≤ (x1 - x1 / (1 : Int32) * (1 : Int32)).toNatClampNeg then none else (if ((f 7) (x1 - x1 / (1 : Int32) * (1 : Int32)).toNatClampNeg).toInt16.toInt32 = ((f 7) (x1 - x1 / (1 : Int32) * (1 : Int32)).toNatClampNeg) then (some ((f 7) (x1 - x1 / (1 : Int32) * (1 : Int32)).toNatClampNeg)) else none)) = some RES := hF
  refine lv_aload_n hx hb d_Li_at_2_0 rfl (lv_at hl 0 rfl) ?_
  refine mw_g_21_0 B hP k_206 d_Li_at_2_1 ?_
  refine lv_iload_n hx hb d_Li_at_2_4 rfl (lv_at hl 1 rfl) ?_
  refine lv_aload_n hx hb d_Li_at_2_5 rfl (lv_at hl 0 rfl) ?_
  refine mw_g_21_0 B hP k_206 d_Li_at_2_6 ?_
  refine dm_alen (v := (1 : Int32)) B hP 22 1 rfl rfl rfl d_Li_at_2_9 ?_
  refine lv_irem hx hb d_Li_at_2_10 (by decide) ?_
  obtain ⟨hi, hF⟩ := dm_chk hF
  refine mw_a_22 (F := (f 7)) B hP rfl hi d_Li_at_2_11 ?_
  obtain ⟨hz, hF⟩ := dm_ck1 hF
  have hF := Option.some.inj hF
  subst hF
  exact dm_ret B (dm_nsh hz) d_Li_at_2_12 (by decide) (by decide) hP hD hS ⟨rfl, rfl⟩
abbrev b_Li_put_7 : ByteArray := prog_5_method_3_code
abbrev y_Li_put_7 : MethodName := { cls := "DelayMachine$Line", name := "put", desc := "(IS)V" }
theorem hd_Li_put_7 : y_Li_put_7.cls ≠ "java/lang/invoke/MethodHandle" ∧ y_Li_put_7.cls ≠ "java/lang/invoke/VarHandle" ∧ (parseMethodDescriptor y_Li_put_7.desc).map (fun d => d.parameters.length) = some 2 := by decide +kernel
abbrev rm_Li_put_7 : Room := { frames := 0, cells := 0, slots := 0, locals := 0 }
def F_Li_put_7 (x1 x2 : Int32)  (v : Nat → Int32) (f : Nat → Nat → Int32) (w : Nat → Nat) : Option ((Nat → Int32) × (Nat → Nat → Int32) × (Nat → Nat)) := (if (x1 - x1 / (1 : Int32) * (1 : Int32)) < 0 ∨ 1 ≤ (x1 - x1 / (1 : Int32) * (1 : Int32)).toNatClampNeg then none else (some (v, (va_up f 7 (upd (f 7) (x1 - x1 / (1 : Int32) * (1 : Int32)).toNatClampNeg x2.toInt16.toInt32)), w)))
set_option maxHeartbeats 4000000 in
set_option maxRecDepth 100000 in
theorem c_Li_put_7 (l : Launch) (G : dm_G) (g h : Nat → Nat) (x1 x2 : Int32) (v : Nat → Int32) (f : Nat → Nat → Int32) (w : Nat → Nat) (RES : (Nat → Int32) × (Nat → Nat → Int32) × (Nat → Nat)) (hF : F_Li_put_7 x1 x2 v f w = some RES) : dm_Ct l y_Li_put_7 b_Li_put_7 3 none rm_Li_put_7 G (mw G g h v f w) [.ref (g 17), .int x1, .int x2] (fun ov w' => ov = none ∧ w' = (mw G g h RES.1 RES.2.1 RES.2.2)) := by
  refine dm_Ct.of (by decide +kernel) (Nat.le_of_ble_eq_true rfl) ?_
  intro p e s m below meth c A ls B hl hP hD hS
  have hx := B.1
  have hb := B.2.1
  have hl : lv_has ls 3 [(0, .ref (g 17)), (1, .int x1), (2, .int x2)] := hl
  have hF : (if (x1 - x1 / (1 : Int32) * (1 : Int32)) < 0 ∨ 1 ≤ (x1 - x1 / (1 : Int32) * (1 : Int32)).toNatClampNeg then none else (some (v, (va_up f 7 (upd (f 7) (x1 - x1 / (1 : Int32) * (1 : Int32)).toNatClampNeg x2.toInt16.toInt32)), w))) = some RES := hF
  refine lv_aload_n hx hb d_Li_put_2_0 rfl (lv_at hl 0 rfl) ?_
  refine mw_g_21_0 B hP k_206 d_Li_put_2_1 ?_
  refine lv_iload_n hx hb d_Li_put_2_4 rfl (lv_at hl 1 rfl) ?_
  refine lv_aload_n hx hb d_Li_put_2_5 rfl (lv_at hl 0 rfl) ?_
  refine mw_g_21_0 B hP k_206 d_Li_put_2_6 ?_
  refine dm_alen (v := (1 : Int32)) B hP 22 1 rfl rfl rfl d_Li_put_2_9 ?_
  refine lv_irem hx hb d_Li_put_2_10 (by decide) ?_
  refine lv_iload_n hx hb d_Li_put_2_11 rfl (lv_at hl 2 rfl) ?_
  obtain ⟨hi, hF⟩ := dm_chk hF
  refine mw_s_22 (F := (f 7)) B hP hD hS rfl hi d_Li_put_2_12 (fun H locs hP hD hS => ?_)
  have hF := Option.some.inj hF
  subst hF
  exact dm_retv B d_Li_put_2_13 (by decide) (by decide) hP hD hS ⟨rfl, rfl⟩
abbrev b_Li_has_7 : ByteArray := prog_5_method_4_code
abbrev y_Li_has_7 : MethodName := { cls := "DelayMachine$Line", name := "has", desc := "(I)Z" }
theorem hd_Li_has_7 : y_Li_has_7.cls ≠ "java/lang/invoke/MethodHandle" ∧ y_Li_has_7.cls ≠ "java/lang/invoke/VarHandle" ∧ (parseMethodDescriptor y_Li_has_7.desc).map (fun d => d.parameters.length) = some 1 := by decide +kernel
abbrev rm_Li_has_7 : Room := { frames := 0, cells := 0, slots := 0, locals := 0 }
def F_Li_has_7_17 (x1 : Int32) (v : Nat → Int32) (f : Nat → Nat → Int32) (w : Nat → Nat)    : Option (Int32) := (some (0 : Int32))
def F_Li_has_7 (x1 : Int32) (v : Nat → Int32) (f : Nat → Nat → Int32) (w : Nat → Nat)  : Option (Int32) := (if x1 < (0 : Int32) then (F_Li_has_7_17 x1 v f w) else (if (1 : Int32) ≤ x1 then (F_Li_has_7_17 x1 v f w) else (some (1 : Int32))))
set_option maxHeartbeats 4000000 in
set_option maxRecDepth 100000 in
theorem c_Li_has_7 (l : Launch) (G : dm_G) (g h : Nat → Nat) (x1 : Int32) (v : Nat → Int32) (f : Nat → Nat → Int32) (w : Nat → Nat) (RES : Int32) (hF : F_Li_has_7 x1 v f w = some RES) : dm_Ct l y_Li_has_7 b_Li_has_7 2 (some .boolean) rm_Li_has_7 G (mw G g h v f w) [.ref (g 17), .int x1] (fun ov w' => ov = some (.int RES) ∧ w' = (mw G g h v f w)) := by
  refine dm_Ct.of (by decide +kernel) (Nat.le_of_ble_eq_true rfl) ?_
  intro p e s m below meth c A ls B hl hP hD hS
  have hx := B.1
  have hb := B.2.1
  have hl : lv_has ls 2 [(0, .ref (g 17)), (1, .int x1)] := hl
  have K17 : ∀ (ls : Array Slot) (H : Heap) (locs : List Loc)  , lv_has ls 2 [] → va_P G.1 dm_cl (mw G g h v f w) H → va_D A (mw G g h v f w) → va_S A s.heap H locs → F_Li_has_7_17 x1 v f w   = some RES → W p l e rm_Li_has_7 s m ([.ref (g 17), .int x1] : List Value).toArray below meth c H locs 0 0 (dm_Z below G s ([.ref (g 17), .int x1] : List Value).toArray A rm_Li_has_7.cells rm_Li_has_7.slots (fun ov w' => ov = some (.int RES) ∧ w' = (mw G g h v f w))) (F0 m 17 ls []) := by
    intro ls H locs  hl hP hD hS hF
    have hF : (some (0 : Int32)) = some RES := hF
    refine lv_iconst (v := (0 : Int32)) hx hb d_Li_has_2_17 (by decide) ?_
    have hF := Option.some.inj hF
    subst hF
    exact dm_ret B (by decide) d_Li_has_2_18 (by decide) (by decide) hP hD hS ⟨rfl, rfl⟩
  have hF : (if x1 < (0 : Int32) then (F_Li_has_7_17 x1 v f w) else (if (1 : Int32) ≤ x1 then (F_Li_has_7_17 x1 v f w) else (some (1 : Int32)))) = some RES := hF
  refine lv_iload_n hx hb d_Li_has_2_0 rfl (lv_at hl 1 rfl) ?_
  refine lv_if_lt (tgt := 17) hx hb d_Li_has_2_1 (by decide) (fun (hh : x1 < (0 : Int32)) => ?_) (fun (hh : ¬ x1 < (0 : Int32)) => ?_)
  · rw [if_pos hh] at hF
    exact K17 ls _ _  (lv_sub hl [] rfl) hP hD hS hF
  · rw [if_neg hh] at hF
    refine lv_iload_n hx hb d_Li_has_2_4 rfl (lv_at hl 1 rfl) ?_
    refine lv_aload_n hx hb d_Li_has_2_5 rfl (lv_at hl 0 rfl) ?_
    refine mw_g_21_0 B hP k_206 d_Li_has_2_6 ?_
    refine dm_alen (v := (1 : Int32)) B hP 22 1 rfl rfl rfl d_Li_has_2_9 ?_
    refine lv_icmp_ge (tgt := 17) hx hb d_Li_has_2_10 (by decide) (fun (hh : (1 : Int32) ≤ x1) => ?_) (fun (hh : ¬ (1 : Int32) ≤ x1) => ?_)
    · rw [if_pos hh] at hF
      exact K17 ls _ _  (lv_sub hl [] rfl) hP hD hS hF
    · rw [if_neg hh] at hF
      refine lv_iconst (v := (1 : Int32)) hx hb d_Li_has_2_13 (by decide) ?_
      refine lv_goto (tgt := 18) hx hb d_Li_has_2_14 (by decide) ?_
      have hF := Option.some.inj hF
      subst hF
      exact dm_ret B (by decide) d_Li_has_2_18 (by decide) (by decide) hP hD hS ⟨rfl, rfl⟩
abbrev b_Li_at_8 : ByteArray := prog_5_method_2_code
abbrev y_Li_at_8 : MethodName := { cls := "DelayMachine$Line", name := "at", desc := "(I)S" }
theorem hd_Li_at_8 : y_Li_at_8.cls ≠ "java/lang/invoke/MethodHandle" ∧ y_Li_at_8.cls ≠ "java/lang/invoke/VarHandle" ∧ (parseMethodDescriptor y_Li_at_8.desc).map (fun d => d.parameters.length) = some 1 := by decide +kernel
abbrev rm_Li_at_8 : Room := { frames := 0, cells := 0, slots := 0, locals := 0 }
def F_Li_at_8 (x1 : Int32) (v : Nat → Int32) (f : Nat → Nat → Int32) (w : Nat → Nat)  : Option (Int32) := (if (x1 - x1 / (2 : Int32) * (2 : Int32)) < 0 ∨ 2 ≤ (x1 - x1 / (2 : Int32) * (2 : Int32)).toNatClampNeg then none else (if ((f 8) (x1 - x1 / (2 : Int32) * (2 : Int32)).toNatClampNeg).toInt16.toInt32 = ((f 8) (x1 - x1 / (2 : Int32) * (2 : Int32)).toNatClampNeg) then (some ((f 8) (x1 - x1 / (2 : Int32) * (2 : Int32)).toNatClampNeg)) else none))
set_option maxHeartbeats 4000000 in
set_option maxRecDepth 100000 in
theorem c_Li_at_8 (l : Launch) (G : dm_G) (g h : Nat → Nat) (x1 : Int32) (v : Nat → Int32) (f : Nat → Nat → Int32) (w : Nat → Nat) (RES : Int32) (hF : F_Li_at_8 x1 v f w = some RES) : dm_Ct l y_Li_at_8 b_Li_at_8 2 (some .short) rm_Li_at_8 G (mw G g h v f w) [.ref (g 18), .int x1] (fun ov w' => ov = some (.int RES) ∧ w' = (mw G g h v f w)) := by
  refine dm_Ct.of (by decide +kernel) (Nat.le_of_ble_eq_true rfl) ?_
  intro p e s m below meth c A ls B hl hP hD hS
  have hx := B.1
  have hb := B.2.1
  have hl : lv_has ls 2 [(0, .ref (g 18)), (1, .int x1)] := hl
  have hF : (if (x1 - x1 / (2 : Int32) * (2 : Int32)) < 0 ∨ 2 ≤ (x1 - x1 / (2 : Int32) * (2 : Int32)).toNatClampNeg then none else (if ((f 8) (x1 - x1 / (2 : Int32) * (2 : Int32)).toNatClampNeg).toInt16.toInt32 = ((f 8) (x1 - x1 / (2 : Int32) * (2 : Int32)).toNatClampNeg) then (some ((f 8) (x1 - x1 / (2 : Int32) * (2 : Int32)).toNatClampNeg)) else none)) = some RES := hF
  refine lv_aload_n hx hb d_Li_at_2_0 rfl (lv_at hl 0 rfl) ?_
  refine mw_g_23_0 B hP k_206 d_Li_at_2_1 ?_
  refine lv_iload_n hx hb d_Li_at_2_4 rfl (lv_at hl 1 rfl) ?_
  refine lv_aload_n hx hb d_Li_at_2_5 rfl (lv_at hl 0 rfl) ?_
  refine mw_g_23_0 B hP k_206 d_Li_at_2_6 ?_
  refine dm_alen (v := (2 : Int32)) B hP 24 1 rfl rfl rfl d_Li_at_2_9 ?_
  refine lv_irem hx hb d_Li_at_2_10 (by decide) ?_
  obtain ⟨hi, hF⟩ := dm_chk hF
  refine mw_a_24 (F := (f 8)) B hP rfl hi d_Li_at_2_11 ?_
  obtain ⟨hz, hF⟩ := dm_ck1 hF
  have hF := Option.some.inj hF
  subst hF
  exact dm_ret B (dm_nsh hz) d_Li_at_2_12 (by decide) (by decide) hP hD hS ⟨rfl, rfl⟩
abbrev b_Li_put_8 : ByteArray := prog_5_method_3_code
abbrev y_Li_put_8 : MethodName := { cls := "DelayMachine$Line", name := "put", desc := "(IS)V" }
theorem hd_Li_put_8 : y_Li_put_8.cls ≠ "java/lang/invoke/MethodHandle" ∧ y_Li_put_8.cls ≠ "java/lang/invoke/VarHandle" ∧ (parseMethodDescriptor y_Li_put_8.desc).map (fun d => d.parameters.length) = some 2 := by decide +kernel
abbrev rm_Li_put_8 : Room := { frames := 0, cells := 0, slots := 0, locals := 0 }
def F_Li_put_8 (x1 x2 : Int32)  (v : Nat → Int32) (f : Nat → Nat → Int32) (w : Nat → Nat) : Option ((Nat → Int32) × (Nat → Nat → Int32) × (Nat → Nat)) := (if (x1 - x1 / (2 : Int32) * (2 : Int32)) < 0 ∨ 2 ≤ (x1 - x1 / (2 : Int32) * (2 : Int32)).toNatClampNeg then none else (some (v, (va_up f 8 (upd (f 8) (x1 - x1 / (2 : Int32) * (2 : Int32)).toNatClampNeg x2.toInt16.toInt32)), w)))
set_option maxHeartbeats 4000000 in
set_option maxRecDepth 100000 in
theorem c_Li_put_8 (l : Launch) (G : dm_G) (g h : Nat → Nat) (x1 x2 : Int32) (v : Nat → Int32) (f : Nat → Nat → Int32) (w : Nat → Nat) (RES : (Nat → Int32) × (Nat → Nat → Int32) × (Nat → Nat)) (hF : F_Li_put_8 x1 x2 v f w = some RES) : dm_Ct l y_Li_put_8 b_Li_put_8 3 none rm_Li_put_8 G (mw G g h v f w) [.ref (g 18), .int x1, .int x2] (fun ov w' => ov = none ∧ w' = (mw G g h RES.1 RES.2.1 RES.2.2)) := by
  refine dm_Ct.of (by decide +kernel) (Nat.le_of_ble_eq_true rfl) ?_
  intro p e s m below meth c A ls B hl hP hD hS
  have hx := B.1
  have hb := B.2.1
  have hl : lv_has ls 3 [(0, .ref (g 18)), (1, .int x1), (2, .int x2)] := hl
  have hF : (if (x1 - x1 / (2 : Int32) * (2 : Int32)) < 0 ∨ 2 ≤ (x1 - x1 / (2 : Int32) * (2 : Int32)).toNatClampNeg then none else (some (v, (va_up f 8 (upd (f 8) (x1 - x1 / (2 : Int32) * (2 : Int32)).toNatClampNeg x2.toInt16.toInt32)), w))) = some RES := hF
  refine lv_aload_n hx hb d_Li_put_2_0 rfl (lv_at hl 0 rfl) ?_
  refine mw_g_23_0 B hP k_206 d_Li_put_2_1 ?_
  refine lv_iload_n hx hb d_Li_put_2_4 rfl (lv_at hl 1 rfl) ?_
  refine lv_aload_n hx hb d_Li_put_2_5 rfl (lv_at hl 0 rfl) ?_
  refine mw_g_23_0 B hP k_206 d_Li_put_2_6 ?_
  refine dm_alen (v := (2 : Int32)) B hP 24 1 rfl rfl rfl d_Li_put_2_9 ?_
  refine lv_irem hx hb d_Li_put_2_10 (by decide) ?_
  refine lv_iload_n hx hb d_Li_put_2_11 rfl (lv_at hl 2 rfl) ?_
  obtain ⟨hi, hF⟩ := dm_chk hF
  refine mw_s_24 (F := (f 8)) B hP hD hS rfl hi d_Li_put_2_12 (fun H locs hP hD hS => ?_)
  have hF := Option.some.inj hF
  subst hF
  exact dm_retv B d_Li_put_2_13 (by decide) (by decide) hP hD hS ⟨rfl, rfl⟩
abbrev b_Li_has_8 : ByteArray := prog_5_method_4_code
abbrev y_Li_has_8 : MethodName := { cls := "DelayMachine$Line", name := "has", desc := "(I)Z" }
theorem hd_Li_has_8 : y_Li_has_8.cls ≠ "java/lang/invoke/MethodHandle" ∧ y_Li_has_8.cls ≠ "java/lang/invoke/VarHandle" ∧ (parseMethodDescriptor y_Li_has_8.desc).map (fun d => d.parameters.length) = some 1 := by decide +kernel
abbrev rm_Li_has_8 : Room := { frames := 0, cells := 0, slots := 0, locals := 0 }
def F_Li_has_8_17 (x1 : Int32) (v : Nat → Int32) (f : Nat → Nat → Int32) (w : Nat → Nat)    : Option (Int32) := (some (0 : Int32))
def F_Li_has_8 (x1 : Int32) (v : Nat → Int32) (f : Nat → Nat → Int32) (w : Nat → Nat)  : Option (Int32) := (if x1 < (0 : Int32) then (F_Li_has_8_17 x1 v f w) else (if (2 : Int32) ≤ x1 then (F_Li_has_8_17 x1 v f w) else (some (1 : Int32))))
set_option maxHeartbeats 4000000 in
set_option maxRecDepth 100000 in
theorem c_Li_has_8 (l : Launch) (G : dm_G) (g h : Nat → Nat) (x1 : Int32) (v : Nat → Int32) (f : Nat → Nat → Int32) (w : Nat → Nat) (RES : Int32) (hF : F_Li_has_8 x1 v f w = some RES) : dm_Ct l y_Li_has_8 b_Li_has_8 2 (some .boolean) rm_Li_has_8 G (mw G g h v f w) [.ref (g 18), .int x1] (fun ov w' => ov = some (.int RES) ∧ w' = (mw G g h v f w)) := by
  refine dm_Ct.of (by decide +kernel) (Nat.le_of_ble_eq_true rfl) ?_
  intro p e s m below meth c A ls B hl hP hD hS
  have hx := B.1
  have hb := B.2.1
  have hl : lv_has ls 2 [(0, .ref (g 18)), (1, .int x1)] := hl
  have K17 : ∀ (ls : Array Slot) (H : Heap) (locs : List Loc)  , lv_has ls 2 [] → va_P G.1 dm_cl (mw G g h v f w) H → va_D A (mw G g h v f w) → va_S A s.heap H locs → F_Li_has_8_17 x1 v f w   = some RES → W p l e rm_Li_has_8 s m ([.ref (g 18), .int x1] : List Value).toArray below meth c H locs 0 0 (dm_Z below G s ([.ref (g 18), .int x1] : List Value).toArray A rm_Li_has_8.cells rm_Li_has_8.slots (fun ov w' => ov = some (.int RES) ∧ w' = (mw G g h v f w))) (F0 m 17 ls []) := by
    intro ls H locs  hl hP hD hS hF
    have hF : (some (0 : Int32)) = some RES := hF
    refine lv_iconst (v := (0 : Int32)) hx hb d_Li_has_2_17 (by decide) ?_
    have hF := Option.some.inj hF
    subst hF
    exact dm_ret B (by decide) d_Li_has_2_18 (by decide) (by decide) hP hD hS ⟨rfl, rfl⟩
  have hF : (if x1 < (0 : Int32) then (F_Li_has_8_17 x1 v f w) else (if (2 : Int32) ≤ x1 then (F_Li_has_8_17 x1 v f w) else (some (1 : Int32)))) = some RES := hF
  refine lv_iload_n hx hb d_Li_has_2_0 rfl (lv_at hl 1 rfl) ?_
  refine lv_if_lt (tgt := 17) hx hb d_Li_has_2_1 (by decide) (fun (hh : x1 < (0 : Int32)) => ?_) (fun (hh : ¬ x1 < (0 : Int32)) => ?_)
  · rw [if_pos hh] at hF
    exact K17 ls _ _  (lv_sub hl [] rfl) hP hD hS hF
  · rw [if_neg hh] at hF
    refine lv_iload_n hx hb d_Li_has_2_4 rfl (lv_at hl 1 rfl) ?_
    refine lv_aload_n hx hb d_Li_has_2_5 rfl (lv_at hl 0 rfl) ?_
    refine mw_g_23_0 B hP k_206 d_Li_has_2_6 ?_
    refine dm_alen (v := (2 : Int32)) B hP 24 1 rfl rfl rfl d_Li_has_2_9 ?_
    refine lv_icmp_ge (tgt := 17) hx hb d_Li_has_2_10 (by decide) (fun (hh : (2 : Int32) ≤ x1) => ?_) (fun (hh : ¬ (2 : Int32) ≤ x1) => ?_)
    · rw [if_pos hh] at hF
      exact K17 ls _ _  (lv_sub hl [] rfl) hP hD hS hF
    · rw [if_neg hh] at hF
      refine lv_iconst (v := (1 : Int32)) hx hb d_Li_has_2_13 (by decide) ?_
      refine lv_goto (tgt := 18) hx hb d_Li_has_2_14 (by decide) ?_
      have hF := Option.some.inj hF
      subst hF
      exact dm_ret B (by decide) d_Li_has_2_18 (by decide) (by decide) hP hD hS ⟨rfl, rfl⟩
abbrev b_Mu_begin : ByteArray := prog_7_method_2_code
abbrev y_Mu_begin : MethodName := { cls := "DelayMachine$Multiplier", name := "begin", desc := "(S)V" }
theorem d_Mu_begin_0 : decode b_Mu_begin 0 = .ok (.aload_n 0, 1) := by decide +kernel
theorem d_Mu_begin_1 : decode b_Mu_begin 1 = .ok (.bipush (16), 2) := by decide +kernel
theorem d_Mu_begin_3 : decode b_Mu_begin 3 = .ok (.putfield 9, 3) := by decide +kernel
theorem d_Mu_begin_6 : decode b_Mu_begin 6 = .ok (.aload_n 0, 1) := by decide +kernel
theorem d_Mu_begin_7 : decode b_Mu_begin 7 = .ok (.iload_n 1, 1) := by decide +kernel
theorem d_Mu_begin_8 : decode b_Mu_begin 8 = .ok (.ldc 15, 2) := by decide +kernel
theorem d_Mu_begin_10 : decode b_Mu_begin 10 = .ok (.iand, 1) := by decide +kernel
theorem d_Mu_begin_11 : decode b_Mu_begin 11 = .ok (.putfield 16, 3) := by decide +kernel
theorem d_Mu_begin_14 : decode b_Mu_begin 14 = .ok (.return_, 1) := by decide +kernel
theorem hd_Mu_begin : y_Mu_begin.cls ≠ "java/lang/invoke/MethodHandle" ∧ y_Mu_begin.cls ≠ "java/lang/invoke/VarHandle" ∧ (parseMethodDescriptor y_Mu_begin.desc).map (fun d => d.parameters.length) = some 1 := by decide +kernel
abbrev rm_Mu_begin : Room := { frames := 0, cells := 0, slots := 0, locals := 0 }
def F_Mu_begin (x1 : Int32)  (v : Nat → Int32) (f : Nat → Nat → Int32) (w : Nat → Nat) : Option ((Nat → Int32) × (Nat → Nat → Int32) × (Nat → Nat)) := (some ((va_up (va_up v 30 (16 : Int32)) 31 (x1 &&& (65535 : Int32))), f, w))
set_option maxHeartbeats 4000000 in
set_option maxRecDepth 100000 in
theorem c_Mu_begin (l : Launch) (G : dm_G) (g h : Nat → Nat) (x1 : Int32) (v : Nat → Int32) (f : Nat → Nat → Int32) (w : Nat → Nat) (RES : (Nat → Int32) × (Nat → Nat → Int32) × (Nat → Nat)) (hF : F_Mu_begin x1 v f w = some RES) : dm_Ct l y_Mu_begin b_Mu_begin 2 none rm_Mu_begin G (mw G g h v f w) [.ref (g 3), .int x1] (fun ov w' => ov = none ∧ w' = (mw G g h RES.1 RES.2.1 RES.2.2)) := by
  refine dm_Ct.of (by decide +kernel) (Nat.le_of_ble_eq_true rfl) ?_
  intro p e s m below meth c A ls B hl hP hD hS
  have hx := B.1
  have hb := B.2.1
  have hl : lv_has ls 2 [(0, .ref (g 3)), (1, .int x1)] := hl
  have hF : (some ((va_up (va_up v 30 (16 : Int32)) 31 (x1 &&& (65535 : Int32))), f, w)) = some RES := hF
  refine lv_aload_n hx hb d_Mu_begin_0 rfl (lv_at hl 0 rfl) ?_
  refine lv_bipush (v := (16 : Int32)) hx hb d_Mu_begin_1 (by decide) ?_
  refine mw_p_3_0 (x := (16 : Int32)) B hP hD hS k_46 d_Mu_begin_3 (fun H locs hP hD hS => ?_)
  refine lv_aload_n hx hb d_Mu_begin_6 rfl (lv_at hl 0 rfl) ?_
  refine lv_iload_n hx hb d_Mu_begin_7 rfl (lv_at hl 1 rfl) ?_
  refine dm_ldc B k_438 d_Mu_begin_8 ?_
  refine lv_iand hx hb d_Mu_begin_10 ?_
  refine mw_p_3_1 (x := (x1 &&& (65535 : Int32))) B hP hD hS k_49 d_Mu_begin_11 (fun H locs hP hD hS => ?_)
  have hF := Option.some.inj hF
  subst hF
  exact dm_retv B d_Mu_begin_14 (by decide) (by decide) hP hD hS ⟨rfl, rfl⟩
abbrev b_Mu_work : ByteArray := prog_7_method_3_code
abbrev y_Mu_work : MethodName := { cls := "DelayMachine$Multiplier", name := "work", desc := "(LDelayMachine$Line;S)V" }
theorem d_Mu_work_0 : decode b_Mu_work 0 = .ok (.aload_n 0, 1) := by decide +kernel
theorem d_Mu_work_1 : decode b_Mu_work 1 = .ok (.getfield 9, 3) := by decide +kernel
theorem d_Mu_work_4 : decode b_Mu_work 4 = .ok (.ifCond .ne (4), 3) := by decide +kernel
theorem d_Mu_work_7 : decode b_Mu_work 7 = .ok (.return_, 1) := by decide +kernel
theorem d_Mu_work_8 : decode b_Mu_work 8 = .ok (.aload_n 0, 1) := by decide +kernel
theorem d_Mu_work_9 : decode b_Mu_work 9 = .ok (.dup, 1) := by decide +kernel
theorem d_Mu_work_10 : decode b_Mu_work 10 = .ok (.getfield 9, 3) := by decide +kernel
theorem d_Mu_work_13 : decode b_Mu_work 13 = .ok (.iconst 1, 1) := by decide +kernel
theorem d_Mu_work_14 : decode b_Mu_work 14 = .ok (.isub, 1) := by decide +kernel
theorem d_Mu_work_15 : decode b_Mu_work 15 = .ok (.putfield 9, 3) := by decide +kernel
theorem d_Mu_work_18 : decode b_Mu_work 18 = .ok (.aload_n 0, 1) := by decide +kernel
theorem d_Mu_work_19 : decode b_Mu_work 19 = .ok (.dup, 1) := by decide +kernel
theorem d_Mu_work_20 : decode b_Mu_work 20 = .ok (.getfield 16, 3) := by decide +kernel
theorem d_Mu_work_23 : decode b_Mu_work 23 = .ok (.iconst 1, 1) := by decide +kernel
theorem d_Mu_work_24 : decode b_Mu_work 24 = .ok (.ishl, 1) := by decide +kernel
theorem d_Mu_work_25 : decode b_Mu_work 25 = .ok (.putfield 16, 3) := by decide +kernel
theorem d_Mu_work_28 : decode b_Mu_work 28 = .ok (.aload_n 1, 1) := by decide +kernel
theorem d_Mu_work_29 : decode b_Mu_work 29 = .ok (.getfield 19, 3) := by decide +kernel
theorem d_Mu_work_32 : decode b_Mu_work 32 = .ok (.iconst 1, 1) := by decide +kernel
theorem d_Mu_work_33 : decode b_Mu_work 33 = .ok (.saload, 1) := by decide +kernel
theorem d_Mu_work_34 : decode b_Mu_work 34 = .ok (.bipush (16), 2) := by decide +kernel
theorem d_Mu_work_36 : decode b_Mu_work 36 = .ok (.ishl, 1) := by decide +kernel
theorem d_Mu_work_37 : decode b_Mu_work 37 = .ok (.aload_n 1, 1) := by decide +kernel
theorem d_Mu_work_38 : decode b_Mu_work 38 = .ok (.getfield 19, 3) := by decide +kernel
theorem d_Mu_work_41 : decode b_Mu_work 41 = .ok (.iconst 0, 1) := by decide +kernel
theorem d_Mu_work_42 : decode b_Mu_work 42 = .ok (.saload, 1) := by decide +kernel
theorem d_Mu_work_43 : decode b_Mu_work 43 = .ok (.ldc 15, 2) := by decide +kernel
theorem d_Mu_work_45 : decode b_Mu_work 45 = .ok (.iand, 1) := by decide +kernel
theorem d_Mu_work_46 : decode b_Mu_work 46 = .ok (.ior, 1) := by decide +kernel
theorem d_Mu_work_47 : decode b_Mu_work 47 = .ok (.istore_n 3, 1) := by decide +kernel
theorem d_Mu_work_48 : decode b_Mu_work 48 = .ok (.iconst 2, 1) := by decide +kernel
theorem d_Mu_work_49 : decode b_Mu_work 49 = .ok (.iload_n 3, 1) := by decide +kernel
theorem d_Mu_work_50 : decode b_Mu_work 50 = .ok (.imul, 1) := by decide +kernel
theorem d_Mu_work_51 : decode b_Mu_work 51 = .ok (.aload_n 0, 1) := by decide +kernel
theorem d_Mu_work_52 : decode b_Mu_work 52 = .ok (.getfield 16, 3) := by decide +kernel
theorem d_Mu_work_55 : decode b_Mu_work 55 = .ok (.bipush (16), 2) := by decide +kernel
theorem d_Mu_work_57 : decode b_Mu_work 57 = .ok (.ishr, 1) := by decide +kernel
theorem d_Mu_work_58 : decode b_Mu_work 58 = .ok (.iconst 1, 1) := by decide +kernel
theorem d_Mu_work_59 : decode b_Mu_work 59 = .ok (.iand, 1) := by decide +kernel
theorem d_Mu_work_60 : decode b_Mu_work 60 = .ok (.iload_n 2, 1) := by decide +kernel
theorem d_Mu_work_61 : decode b_Mu_work 61 = .ok (.imul, 1) := by decide +kernel
theorem d_Mu_work_62 : decode b_Mu_work 62 = .ok (.iadd, 1) := by decide +kernel
theorem d_Mu_work_63 : decode b_Mu_work 63 = .ok (.istore_n 3, 1) := by decide +kernel
theorem d_Mu_work_64 : decode b_Mu_work 64 = .ok (.aload_n 1, 1) := by decide +kernel
theorem d_Mu_work_65 : decode b_Mu_work 65 = .ok (.getfield 19, 3) := by decide +kernel
theorem d_Mu_work_68 : decode b_Mu_work 68 = .ok (.iconst 0, 1) := by decide +kernel
theorem d_Mu_work_69 : decode b_Mu_work 69 = .ok (.iload_n 3, 1) := by decide +kernel
theorem d_Mu_work_70 : decode b_Mu_work 70 = .ok (.i2s, 1) := by decide +kernel
theorem d_Mu_work_71 : decode b_Mu_work 71 = .ok (.sastore, 1) := by decide +kernel
theorem d_Mu_work_72 : decode b_Mu_work 72 = .ok (.aload_n 1, 1) := by decide +kernel
theorem d_Mu_work_73 : decode b_Mu_work 73 = .ok (.getfield 19, 3) := by decide +kernel
theorem d_Mu_work_76 : decode b_Mu_work 76 = .ok (.iconst 1, 1) := by decide +kernel
theorem d_Mu_work_77 : decode b_Mu_work 77 = .ok (.iload_n 3, 1) := by decide +kernel
theorem d_Mu_work_78 : decode b_Mu_work 78 = .ok (.bipush (16), 2) := by decide +kernel
theorem d_Mu_work_80 : decode b_Mu_work 80 = .ok (.ishr, 1) := by decide +kernel
theorem d_Mu_work_81 : decode b_Mu_work 81 = .ok (.i2s, 1) := by decide +kernel
theorem d_Mu_work_82 : decode b_Mu_work 82 = .ok (.sastore, 1) := by decide +kernel
theorem d_Mu_work_83 : decode b_Mu_work 83 = .ok (.return_, 1) := by decide +kernel
theorem hd_Mu_work : y_Mu_work.cls ≠ "java/lang/invoke/MethodHandle" ∧ y_Mu_work.cls ≠ "java/lang/invoke/VarHandle" ∧ (parseMethodDescriptor y_Mu_work.desc).map (fun d => d.parameters.length) = some 2 := by decide +kernel
abbrev rm_Mu_work : Room := { frames := 0, cells := 0, slots := 0, locals := 0 }
def F_Mu_work (x2 : Int32)  (v : Nat → Int32) (f : Nat → Nat → Int32) (w : Nat → Nat) : Option ((Nat → Int32) × (Nat → Nat → Int32) × (Nat → Nat)) := (if (v 30) = (0 : Int32) then (some (v, f, w)) else (some ((va_up (va_up v 30 ((v 30) - (1 : Int32))) 31 ((v 31) <<< ((1 : Int32) &&& 31))), (va_up (va_up f 8 (upd (f 8) (0 : Int32).toNatClampNeg (((2 : Int32) * ((((f 8) (1 : Int32).toNatClampNeg) <<< ((16 : Int32) &&& 31)) ||| (((f 8) (0 : Int32).toNatClampNeg) &&& (65535 : Int32)))) + (((((v 31) <<< ((1 : Int32) &&& 31)) >>> ((16 : Int32) &&& 31)) &&& (1 : Int32)) * x2)).toInt16.toInt32.toInt16.toInt32)) 8 (upd (upd (f 8) (0 : Int32).toNatClampNeg (((2 : Int32) * ((((f 8) (1 : Int32).toNatClampNeg) <<< ((16 : Int32) &&& 31)) ||| (((f 8) (0 : Int32).toNatClampNeg) &&& (65535 : Int32)))) + (((((v 31) <<< ((1 : Int32) &&& 31)) >>> ((16 : Int32) &&& 31)) &&& (1 : Int32)) * x2)).toInt16.toInt32.toInt16.toInt32) (1 : Int32).toNatClampNeg ((((2 : Int32) * ((((f 8) (1 : Int32).toNatClampNeg) <<< ((16 : Int32) &&& 31)) ||| (((f 8) (0 : Int32).toNatClampNeg) &&& (65535 : Int32)))) + (((((v 31) <<< ((1 : Int32) &&& 31)) >>> ((16 : Int32) &&& 31)) &&& (1 : Int32)) * x2)) >>> ((16 : Int32) &&& 31)).toInt16.toInt32.toInt16.toInt32)), w)))
set_option maxHeartbeats 4000000 in
set_option maxRecDepth 100000 in
theorem c_Mu_work (l : Launch) (G : dm_G) (g h : Nat → Nat) (x2 : Int32) (v : Nat → Int32) (f : Nat → Nat → Int32) (w : Nat → Nat) (RES : (Nat → Int32) × (Nat → Nat → Int32) × (Nat → Nat)) (hF : F_Mu_work x2 v f w = some RES) : dm_Ct l y_Mu_work b_Mu_work 4 none rm_Mu_work G (mw G g h v f w) [.ref (g 3), .ref (g 18), .int x2] (fun ov w' => ov = none ∧ w' = (mw G g h RES.1 RES.2.1 RES.2.2)) := by
  refine dm_Ct.of (by decide +kernel) (Nat.le_of_ble_eq_true rfl) ?_
  intro p e s m below meth c A ls B hl hP hD hS
  have hx := B.1
  have hb := B.2.1
  have hl : lv_has ls 4 [(0, .ref (g 3)), (1, .ref (g 18)), (2, .int x2)] := hl
  have hF : (if (v 30) = (0 : Int32) then (some (v, f, w)) else (some ((va_up (va_up v 30 ((v 30) - (1 : Int32))) 31 ((v 31) <<< ((1 : Int32) &&& 31))), (va_up (va_up f 8 (upd (f 8) (0 : Int32).toNatClampNeg (((2 : Int32) * ((((f 8) (1 : Int32).toNatClampNeg) <<< ((16 : Int32) &&& 31)) ||| (((f 8) (0 : Int32).toNatClampNeg) &&& (65535 : Int32)))) + (((((v 31) <<< ((1 : Int32) &&& 31)) >>> ((16 : Int32) &&& 31)) &&& (1 : Int32)) * x2)).toInt16.toInt32.toInt16.toInt32)) 8 (upd (upd (f 8) (0 : Int32).toNatClampNeg (((2 : Int32) * ((((f 8) (1 : Int32).toNatClampNeg) <<< ((16 : Int32) &&& 31)) ||| (((f 8) (0 : Int32).toNatClampNeg) &&& (65535 : Int32)))) + (((((v 31) <<< ((1 : Int32) &&& 31)) >>> ((16 : Int32) &&& 31)) &&& (1 : Int32)) * x2)).toInt16.toInt32.toInt16.toInt32) (1 : Int32).toNatClampNeg ((((2 : Int32) * ((((f 8) (1 : Int32).toNatClampNeg) <<< ((16 : Int32) &&& 31)) ||| (((f 8) (0 : Int32).toNatClampNeg) &&& (65535 : Int32)))) + (((((v 31) <<< ((1 : Int32) &&& 31)) >>> ((16 : Int32) &&& 31)) &&& (1 : Int32)) * x2)) >>> ((16 : Int32) &&& 31)).toInt16.toInt32.toInt16.toInt32)), w))) = some RES := hF
  refine lv_aload_n hx hb d_Mu_work_0 rfl (lv_at hl 0 rfl) ?_
  refine mw_g_3_0 (x := (v 30)) B hP rfl k_46 d_Mu_work_1 ?_
  refine lv_if_ne (tgt := 8) hx hb d_Mu_work_4 (by decide) (fun (hh : ¬ (v 30) = (0 : Int32)) => ?_) (fun (hh : (v 30) = (0 : Int32)) => ?_)
  · rw [if_neg hh] at hF
    refine lv_aload_n hx hb d_Mu_work_8 rfl (lv_at hl 0 rfl) ?_
    refine lv_dup hx hb d_Mu_work_9 rfl ?_
    refine mw_g_3_0 (x := (v 30)) B hP rfl k_46 d_Mu_work_10 ?_
    refine lv_iconst (v := (1 : Int32)) hx hb d_Mu_work_13 (by decide) ?_
    refine lv_isub hx hb d_Mu_work_14 ?_
    refine mw_p_3_0 (x := ((v 30) - (1 : Int32))) B hP hD hS k_46 d_Mu_work_15 (fun H locs hP hD hS => ?_)
    refine lv_aload_n hx hb d_Mu_work_18 rfl (lv_at hl 0 rfl) ?_
    refine lv_dup hx hb d_Mu_work_19 rfl ?_
    refine mw_g_3_1 (x := (v 31)) B hP rfl k_49 d_Mu_work_20 ?_
    refine lv_iconst (v := (1 : Int32)) hx hb d_Mu_work_23 (by decide) ?_
    refine lv_ishl hx hb d_Mu_work_24 ?_
    refine mw_p_3_1 (x := ((v 31) <<< ((1 : Int32) &&& 31))) B hP hD hS k_49 d_Mu_work_25 (fun H locs hP hD hS => ?_)
    refine lv_aload_n hx hb d_Mu_work_28 rfl (lv_at hl 1 rfl) ?_
    refine mw_gn_23_0 B hP k_208 d_Mu_work_29 ?_
    refine lv_iconst (v := (1 : Int32)) hx hb d_Mu_work_32 (by decide) ?_
    refine mw_a_24 (F := (f 8)) B hP rfl (by unfold vp_in; decide) d_Mu_work_33 ?_
    refine lv_bipush (v := (16 : Int32)) hx hb d_Mu_work_34 (by decide) ?_
    refine lv_ishl hx hb d_Mu_work_36 ?_
    refine lv_aload_n hx hb d_Mu_work_37 rfl (lv_at hl 1 rfl) ?_
    refine mw_gn_23_0 B hP k_208 d_Mu_work_38 ?_
    refine lv_iconst (v := (0 : Int32)) hx hb d_Mu_work_41 (by decide) ?_
    refine mw_a_24 (F := (f 8)) B hP rfl (by unfold vp_in; decide) d_Mu_work_42 ?_
    refine dm_ldc B k_438 d_Mu_work_43 ?_
    refine lv_iand hx hb d_Mu_work_45 ?_
    refine lv_ior hx hb d_Mu_work_46 ?_
    refine lv_istore_n (lv' := [(3, .int ((((f 8) (1 : Int32).toNatClampNeg) <<< ((16 : Int32) &&& 31)) ||| (((f 8) (0 : Int32).toNatClampNeg) &&& (65535 : Int32)))), (0, .ref (g 3)), (1, .ref (g 18)), (2, .int x2)]) hx hb d_Mu_work_47 rfl hl (Nat.le_of_ble_eq_true rfl) rfl (fun ls hl => ?_)
    have hl : lv_has ls 4 [(0, .ref (g 3)), (1, .ref (g 18)), (2, .int x2), (3, .int ((((f 8) (1 : Int32).toNatClampNeg) <<< ((16 : Int32) &&& 31)) ||| (((f 8) (0 : Int32).toNatClampNeg) &&& (65535 : Int32))))] := lv_sub hl [1, 2, 3, 0] rfl
    refine lv_iconst (v := (2 : Int32)) hx hb d_Mu_work_48 (by decide) ?_
    refine lv_iload_n hx hb d_Mu_work_49 rfl (lv_at hl 3 rfl) ?_
    refine lv_imul hx hb d_Mu_work_50 ?_
    refine lv_aload_n hx hb d_Mu_work_51 rfl (lv_at hl 0 rfl) ?_
    refine mw_g_3_1 (x := ((v 31) <<< ((1 : Int32) &&& 31))) B hP rfl k_49 d_Mu_work_52 ?_
    refine lv_bipush (v := (16 : Int32)) hx hb d_Mu_work_55 (by decide) ?_
    refine lv_ishr hx hb d_Mu_work_57 ?_
    refine lv_iconst (v := (1 : Int32)) hx hb d_Mu_work_58 (by decide) ?_
    refine lv_iand hx hb d_Mu_work_59 ?_
    refine lv_iload_n hx hb d_Mu_work_60 rfl (lv_at hl 2 rfl) ?_
    refine lv_imul hx hb d_Mu_work_61 ?_
    refine lv_iadd hx hb d_Mu_work_62 ?_
    refine lv_istore_n (lv' := [(3, .int (((2 : Int32) * ((((f 8) (1 : Int32).toNatClampNeg) <<< ((16 : Int32) &&& 31)) ||| (((f 8) (0 : Int32).toNatClampNeg) &&& (65535 : Int32)))) + (((((v 31) <<< ((1 : Int32) &&& 31)) >>> ((16 : Int32) &&& 31)) &&& (1 : Int32)) * x2))), (0, .ref (g 3)), (1, .ref (g 18)), (2, .int x2)]) hx hb d_Mu_work_63 rfl hl (Nat.le_of_ble_eq_true rfl) rfl (fun ls hl => ?_)
    have hl : lv_has ls 4 [(0, .ref (g 3)), (1, .ref (g 18)), (2, .int x2), (3, .int (((2 : Int32) * ((((f 8) (1 : Int32).toNatClampNeg) <<< ((16 : Int32) &&& 31)) ||| (((f 8) (0 : Int32).toNatClampNeg) &&& (65535 : Int32)))) + (((((v 31) <<< ((1 : Int32) &&& 31)) >>> ((16 : Int32) &&& 31)) &&& (1 : Int32)) * x2)))] := lv_sub hl [1, 2, 3, 0] rfl
    refine lv_aload_n hx hb d_Mu_work_64 rfl (lv_at hl 1 rfl) ?_
    refine mw_gn_23_0 B hP k_208 d_Mu_work_65 ?_
    refine lv_iconst (v := (0 : Int32)) hx hb d_Mu_work_68 (by decide) ?_
    refine lv_iload_n hx hb d_Mu_work_69 rfl (lv_at hl 3 rfl) ?_
    refine lv_i2s (v := (((2 : Int32) * ((((f 8) (1 : Int32).toNatClampNeg) <<< ((16 : Int32) &&& 31)) ||| (((f 8) (0 : Int32).toNatClampNeg) &&& (65535 : Int32)))) + (((((v 31) <<< ((1 : Int32) &&& 31)) >>> ((16 : Int32) &&& 31)) &&& (1 : Int32)) * x2)).toInt16.toInt32) hx hb d_Mu_work_70 rfl ?_
    refine mw_s_24 (F := (f 8)) B hP hD hS rfl (by unfold vp_in; decide) d_Mu_work_71 (fun H locs hP hD hS => ?_)
    refine lv_aload_n hx hb d_Mu_work_72 rfl (lv_at hl 1 rfl) ?_
    refine mw_gn_23_0 B hP k_208 d_Mu_work_73 ?_
    refine lv_iconst (v := (1 : Int32)) hx hb d_Mu_work_76 (by decide) ?_
    refine lv_iload_n hx hb d_Mu_work_77 rfl (lv_at hl 3 rfl) ?_
    refine lv_bipush (v := (16 : Int32)) hx hb d_Mu_work_78 (by decide) ?_
    refine lv_ishr hx hb d_Mu_work_80 ?_
    refine lv_i2s (v := ((((2 : Int32) * ((((f 8) (1 : Int32).toNatClampNeg) <<< ((16 : Int32) &&& 31)) ||| (((f 8) (0 : Int32).toNatClampNeg) &&& (65535 : Int32)))) + (((((v 31) <<< ((1 : Int32) &&& 31)) >>> ((16 : Int32) &&& 31)) &&& (1 : Int32)) * x2)) >>> ((16 : Int32) &&& 31)).toInt16.toInt32) hx hb d_Mu_work_81 rfl ?_
    refine mw_s_24 (F := (upd (f 8) (0 : Int32).toNatClampNeg (((2 : Int32) * ((((f 8) (1 : Int32).toNatClampNeg) <<< ((16 : Int32) &&& 31)) ||| (((f 8) (0 : Int32).toNatClampNeg) &&& (65535 : Int32)))) + (((((v 31) <<< ((1 : Int32) &&& 31)) >>> ((16 : Int32) &&& 31)) &&& (1 : Int32)) * x2)).toInt16.toInt32.toInt16.toInt32)) B hP hD hS rfl (by unfold vp_in; decide) d_Mu_work_82 (fun H locs hP hD hS => ?_)
    have hF := Option.some.inj hF
    subst hF
    exact dm_retv B d_Mu_work_83 (by decide) (by decide) hP hD hS ⟨rfl, rfl⟩
  · rw [if_pos hh] at hF
    have hF := Option.some.inj hF
    subst hF
    exact dm_retv B d_Mu_work_7 (by decide) (by decide) hP hD hS ⟨rfl, rfl⟩
abbrev b_Re_add : ByteArray := prog_10_method_2_code
abbrev y_Re_add : MethodName := { cls := "DelayMachine$Reader", name := "add", desc := "(S)Z" }
theorem d_Re_add_0 : decode b_Re_add 0 = .ok (.aload_n 0, 1) := by decide +kernel
theorem d_Re_add_1 : decode b_Re_add 1 = .ok (.getfield 15, 3) := by decide +kernel
theorem d_Re_add_4 : decode b_Re_add 4 = .ok (.bipush (48), 2) := by decide +kernel
theorem d_Re_add_6 : decode b_Re_add 6 = .ok (.if_icmp .ne (5), 3) := by decide +kernel
theorem d_Re_add_9 : decode b_Re_add 9 = .ok (.iconst 0, 1) := by decide +kernel
theorem d_Re_add_10 : decode b_Re_add 10 = .ok (.ireturn, 1) := by decide +kernel
theorem d_Re_add_11 : decode b_Re_add 11 = .ok (.aload_n 0, 1) := by decide +kernel
theorem d_Re_add_12 : decode b_Re_add 12 = .ok (.getfield 9, 3) := by decide +kernel
theorem d_Re_add_15 : decode b_Re_add 15 = .ok (.aload_n 0, 1) := by decide +kernel
theorem d_Re_add_16 : decode b_Re_add 16 = .ok (.getfield 15, 3) := by decide +kernel
theorem d_Re_add_19 : decode b_Re_add 19 = .ok (.iload_n 1, 1) := by decide +kernel
theorem d_Re_add_20 : decode b_Re_add 20 = .ok (.sastore, 1) := by decide +kernel
theorem d_Re_add_21 : decode b_Re_add 21 = .ok (.aload_n 0, 1) := by decide +kernel
theorem d_Re_add_22 : decode b_Re_add 22 = .ok (.dup, 1) := by decide +kernel
theorem d_Re_add_23 : decode b_Re_add 23 = .ok (.getfield 15, 3) := by decide +kernel
theorem d_Re_add_26 : decode b_Re_add 26 = .ok (.iconst 1, 1) := by decide +kernel
theorem d_Re_add_27 : decode b_Re_add 27 = .ok (.iadd, 1) := by decide +kernel
theorem d_Re_add_28 : decode b_Re_add 28 = .ok (.putfield 15, 3) := by decide +kernel
theorem d_Re_add_31 : decode b_Re_add 31 = .ok (.iconst 1, 1) := by decide +kernel
theorem d_Re_add_32 : decode b_Re_add 32 = .ok (.ireturn, 1) := by decide +kernel
theorem hd_Re_add : y_Re_add.cls ≠ "java/lang/invoke/MethodHandle" ∧ y_Re_add.cls ≠ "java/lang/invoke/VarHandle" ∧ (parseMethodDescriptor y_Re_add.desc).map (fun d => d.parameters.length) = some 1 := by decide +kernel
abbrev rm_Re_add : Room := { frames := 0, cells := 0, slots := 0, locals := 0 }
def F_Re_add (x1 : Int32)  (v : Nat → Int32) (f : Nat → Nat → Int32) (w : Nat → Nat) : Option (Int32 × (Nat → Int32) × (Nat → Nat → Int32) × (Nat → Nat)) := (if (v 41) = (48 : Int32) then (some ((0 : Int32), v, f, w)) else (if (v 41) < 0 ∨ 48 ≤ (v 41).toNatClampNeg then none else (some ((1 : Int32), (va_up v 41 ((v 41) + (1 : Int32))), (va_up f 9 (upd (f 9) (v 41).toNatClampNeg x1.toInt16.toInt32)), w))))
set_option maxHeartbeats 4000000 in
set_option maxRecDepth 100000 in
theorem c_Re_add (l : Launch) (G : dm_G) (g h : Nat → Nat) (x1 : Int32) (v : Nat → Int32) (f : Nat → Nat → Int32) (w : Nat → Nat) (RES : Int32 × (Nat → Int32) × (Nat → Nat → Int32) × (Nat → Nat)) (hF : F_Re_add x1 v f w = some RES) : dm_Ct l y_Re_add b_Re_add 2 (some .boolean) rm_Re_add G (mw G g h v f w) [.ref (g 4), .int x1] (fun ov w' => ov = some (.int RES.1) ∧ w' = (mw G g h RES.2.1 RES.2.2.1 RES.2.2.2)) := by
  refine dm_Ct.of (by decide +kernel) (Nat.le_of_ble_eq_true rfl) ?_
  intro p e s m below meth c A ls B hl hP hD hS
  have hx := B.1
  have hb := B.2.1
  have hl : lv_has ls 2 [(0, .ref (g 4)), (1, .int x1)] := hl
  have hF : (if (v 41) = (48 : Int32) then (some ((0 : Int32), v, f, w)) else (if (v 41) < 0 ∨ 48 ≤ (v 41).toNatClampNeg then none else (some ((1 : Int32), (va_up v 41 ((v 41) + (1 : Int32))), (va_up f 9 (upd (f 9) (v 41).toNatClampNeg x1.toInt16.toInt32)), w)))) = some RES := hF
  refine lv_aload_n hx hb d_Re_add_0 rfl (lv_at hl 0 rfl) ?_
  refine mw_g_4_1 (x := (v 41)) B hP rfl k_63 d_Re_add_1 ?_
  refine lv_bipush (v := (48 : Int32)) hx hb d_Re_add_4 (by decide) ?_
  refine lv_icmp_ne (tgt := 11) hx hb d_Re_add_6 (by decide) (fun (hh : ¬ (v 41) = (48 : Int32)) => ?_) (fun (hh : (v 41) = (48 : Int32)) => ?_)
  · rw [if_neg hh] at hF
    refine lv_aload_n hx hb d_Re_add_11 rfl (lv_at hl 0 rfl) ?_
    refine mw_g_4_0 B hP k_62 d_Re_add_12 ?_
    refine lv_aload_n hx hb d_Re_add_15 rfl (lv_at hl 0 rfl) ?_
    refine mw_g_4_1 (x := (v 41)) B hP rfl k_63 d_Re_add_16 ?_
    refine lv_iload_n hx hb d_Re_add_19 rfl (lv_at hl 1 rfl) ?_
    obtain ⟨hi, hF⟩ := dm_chk hF
    refine mw_s_5 (F := (f 9)) B hP hD hS rfl hi d_Re_add_20 (fun H locs hP hD hS => ?_)
    refine lv_aload_n hx hb d_Re_add_21 rfl (lv_at hl 0 rfl) ?_
    refine lv_dup hx hb d_Re_add_22 rfl ?_
    refine mw_g_4_1 (x := (v 41)) B hP rfl k_63 d_Re_add_23 ?_
    refine lv_iconst (v := (1 : Int32)) hx hb d_Re_add_26 (by decide) ?_
    refine lv_iadd hx hb d_Re_add_27 ?_
    refine mw_p_4_1 (x := ((v 41) + (1 : Int32))) B hP hD hS k_63 d_Re_add_28 (fun H locs hP hD hS => ?_)
    refine lv_iconst (v := (1 : Int32)) hx hb d_Re_add_31 (by decide) ?_
    have hF := Option.some.inj hF
    subst hF
    exact dm_ret B (by decide) d_Re_add_32 (by decide) (by decide) hP hD hS ⟨rfl, rfl⟩
  · rw [if_pos hh] at hF
    refine lv_iconst (v := (0 : Int32)) hx hb d_Re_add_9 (by decide) ?_
    have hF := Option.some.inj hF
    subst hF
    exact dm_ret B (by decide) d_Re_add_10 (by decide) (by decide) hP hD hS ⟨rfl, rfl⟩
abbrev b_Re_busy : ByteArray := prog_10_method_4_code
abbrev y_Re_busy : MethodName := { cls := "DelayMachine$Reader", name := "busy", desc := "(I)Z" }
theorem d_Re_busy_0 : decode b_Re_busy 0 = .ok (.aload_n 0, 1) := by decide +kernel
theorem d_Re_busy_1 : decode b_Re_busy 1 = .ok (.getfield 26, 3) := by decide +kernel
theorem d_Re_busy_4 : decode b_Re_busy 4 = .ok (.ifCond .eq (25), 3) := by decide +kernel
theorem d_Re_busy_7 : decode b_Re_busy 7 = .ok (.iload_n 1, 1) := by decide +kernel
theorem d_Re_busy_8 : decode b_Re_busy 8 = .ok (.aload_n 0, 1) := by decide +kernel
theorem d_Re_busy_9 : decode b_Re_busy 9 = .ok (.getfield 33, 3) := by decide +kernel
theorem d_Re_busy_12 : decode b_Re_busy 12 = .ok (.bipush (40), 2) := by decide +kernel
theorem d_Re_busy_14 : decode b_Re_busy 14 = .ok (.iadd, 1) := by decide +kernel
theorem d_Re_busy_15 : decode b_Re_busy 15 = .ok (.bipush (88), 2) := by decide +kernel
theorem d_Re_busy_17 : decode b_Re_busy 17 = .ok (.iadd, 1) := by decide +kernel
theorem d_Re_busy_18 : decode b_Re_busy 18 = .ok (.iconst 3, 1) := by decide +kernel
theorem d_Re_busy_19 : decode b_Re_busy 19 = .ok (.iadd, 1) := by decide +kernel
theorem d_Re_busy_20 : decode b_Re_busy 20 = .ok (.iconst 1, 1) := by decide +kernel
theorem d_Re_busy_21 : decode b_Re_busy 21 = .ok (.isub, 1) := by decide +kernel
theorem d_Re_busy_22 : decode b_Re_busy 22 = .ok (.if_icmp .gt (7), 3) := by decide +kernel
theorem d_Re_busy_25 : decode b_Re_busy 25 = .ok (.iconst 1, 1) := by decide +kernel
theorem d_Re_busy_26 : decode b_Re_busy 26 = .ok (.goto (4), 3) := by decide +kernel
theorem d_Re_busy_29 : decode b_Re_busy 29 = .ok (.iconst 0, 1) := by decide +kernel
theorem d_Re_busy_30 : decode b_Re_busy 30 = .ok (.ireturn, 1) := by decide +kernel
theorem hd_Re_busy : y_Re_busy.cls ≠ "java/lang/invoke/MethodHandle" ∧ y_Re_busy.cls ≠ "java/lang/invoke/VarHandle" ∧ (parseMethodDescriptor y_Re_busy.desc).map (fun d => d.parameters.length) = some 1 := by decide +kernel
abbrev rm_Re_busy : Room := { frames := 0, cells := 0, slots := 0, locals := 0 }
def F_Re_busy_29 (x1 : Int32) (v : Nat → Int32) (f : Nat → Nat → Int32) (w : Nat → Nat)    : Option (Int32) := (some (0 : Int32))
def F_Re_busy (x1 : Int32) (v : Nat → Int32) (f : Nat → Nat → Int32) (w : Nat → Nat)  : Option (Int32) := (if (v 45) = (0 : Int32) then (F_Re_busy_29 x1 v f w) else (if (((((v 44) + (40 : Int32)) + (88 : Int32)) + (3 : Int32)) - (1 : Int32)) < x1 then (F_Re_busy_29 x1 v f w) else (some (1 : Int32))))
set_option maxHeartbeats 4000000 in
set_option maxRecDepth 100000 in
theorem c_Re_busy (l : Launch) (G : dm_G) (g h : Nat → Nat) (x1 : Int32) (v : Nat → Int32) (f : Nat → Nat → Int32) (w : Nat → Nat) (RES : Int32) (hF : F_Re_busy x1 v f w = some RES) : dm_Ct l y_Re_busy b_Re_busy 2 (some .boolean) rm_Re_busy G (mw G g h v f w) [.ref (g 4), .int x1] (fun ov w' => ov = some (.int RES) ∧ w' = (mw G g h v f w)) := by
  refine dm_Ct.of (by decide +kernel) (Nat.le_of_ble_eq_true rfl) ?_
  intro p e s m below meth c A ls B hl hP hD hS
  have hx := B.1
  have hb := B.2.1
  have hl : lv_has ls 2 [(0, .ref (g 4)), (1, .int x1)] := hl
  have K29 : ∀ (ls : Array Slot) (H : Heap) (locs : List Loc)  , lv_has ls 2 [] → va_P G.1 dm_cl (mw G g h v f w) H → va_D A (mw G g h v f w) → va_S A s.heap H locs → F_Re_busy_29 x1 v f w   = some RES → W p l e rm_Re_busy s m ([.ref (g 4), .int x1] : List Value).toArray below meth c H locs 0 0 (dm_Z below G s ([.ref (g 4), .int x1] : List Value).toArray A rm_Re_busy.cells rm_Re_busy.slots (fun ov w' => ov = some (.int RES) ∧ w' = (mw G g h v f w))) (F0 m 29 ls []) := by
    intro ls H locs  hl hP hD hS hF
    have hF : (some (0 : Int32)) = some RES := hF
    refine lv_iconst (v := (0 : Int32)) hx hb d_Re_busy_29 (by decide) ?_
    have hF := Option.some.inj hF
    subst hF
    exact dm_ret B (by decide) d_Re_busy_30 (by decide) (by decide) hP hD hS ⟨rfl, rfl⟩
  have hF : (if (v 45) = (0 : Int32) then (F_Re_busy_29 x1 v f w) else (if (((((v 44) + (40 : Int32)) + (88 : Int32)) + (3 : Int32)) - (1 : Int32)) < x1 then (F_Re_busy_29 x1 v f w) else (some (1 : Int32)))) = some RES := hF
  refine lv_aload_n hx hb d_Re_busy_0 rfl (lv_at hl 0 rfl) ?_
  refine mw_g_4_5 (x := (v 45)) B hP rfl k_69 d_Re_busy_1 ?_
  refine lv_if_eq (tgt := 29) hx hb d_Re_busy_4 (by decide) (fun (hh : (v 45) = (0 : Int32)) => ?_) (fun (hh : ¬ (v 45) = (0 : Int32)) => ?_)
  · rw [if_pos hh] at hF
    exact K29 ls _ _  (lv_sub hl [] rfl) hP hD hS hF
  · rw [if_neg hh] at hF
    refine lv_iload_n hx hb d_Re_busy_7 rfl (lv_at hl 1 rfl) ?_
    refine lv_aload_n hx hb d_Re_busy_8 rfl (lv_at hl 0 rfl) ?_
    refine mw_g_4_4 (x := (v 44)) B hP rfl k_68 d_Re_busy_9 ?_
    refine lv_bipush (v := (40 : Int32)) hx hb d_Re_busy_12 (by decide) ?_
    refine lv_iadd hx hb d_Re_busy_14 ?_
    refine lv_bipush (v := (88 : Int32)) hx hb d_Re_busy_15 (by decide) ?_
    refine lv_iadd hx hb d_Re_busy_17 ?_
    refine lv_iconst (v := (3 : Int32)) hx hb d_Re_busy_18 (by decide) ?_
    refine lv_iadd hx hb d_Re_busy_19 ?_
    refine lv_iconst (v := (1 : Int32)) hx hb d_Re_busy_20 (by decide) ?_
    refine lv_isub hx hb d_Re_busy_21 ?_
    refine lv_icmp_gt (tgt := 29) hx hb d_Re_busy_22 (by decide) (fun (hh : (((((v 44) + (40 : Int32)) + (88 : Int32)) + (3 : Int32)) - (1 : Int32)) < x1) => ?_) (fun (hh : ¬ (((((v 44) + (40 : Int32)) + (88 : Int32)) + (3 : Int32)) - (1 : Int32)) < x1) => ?_)
    · rw [if_pos hh] at hF
      exact K29 ls _ _  (lv_sub hl [] rfl) hP hD hS hF
    · rw [if_neg hh] at hF
      refine lv_iconst (v := (1 : Int32)) hx hb d_Re_busy_25 (by decide) ?_
      refine lv_goto (tgt := 30) hx hb d_Re_busy_26 (by decide) ?_
      have hF := Option.some.inj hF
      subst hF
      exact dm_ret B (by decide) d_Re_busy_30 (by decide) (by decide) hP hD hS ⟨rfl, rfl⟩
abbrev b_Re_feed : ByteArray := prog_10_method_3_code
abbrev y_Re_feed : MethodName := { cls := "DelayMachine$Reader", name := "feed", desc := "(I)Z" }
theorem d_Re_feed_0 : decode b_Re_feed 0 = .ok (.aload_n 0, 1) := by decide +kernel
theorem d_Re_feed_1 : decode b_Re_feed 1 = .ok (.iload_n 1, 1) := by decide +kernel
theorem d_Re_feed_2 : decode b_Re_feed 2 = .ok (.invokevirtual 19, 3) := by decide +kernel
theorem d_Re_feed_5 : decode b_Re_feed 5 = .ok (.ifCond .ne (17), 3) := by decide +kernel
theorem d_Re_feed_8 : decode b_Re_feed 8 = .ok (.aload_n 0, 1) := by decide +kernel
theorem d_Re_feed_9 : decode b_Re_feed 9 = .ok (.getfield 15, 3) := by decide +kernel
theorem d_Re_feed_12 : decode b_Re_feed 12 = .ok (.aload_n 0, 1) := by decide +kernel
theorem d_Re_feed_13 : decode b_Re_feed 13 = .ok (.getfield 23, 3) := by decide +kernel
theorem d_Re_feed_16 : decode b_Re_feed 16 = .ok (.isub, 1) := by decide +kernel
theorem d_Re_feed_17 : decode b_Re_feed 17 = .ok (.bipush (12), 2) := by decide +kernel
theorem d_Re_feed_19 : decode b_Re_feed 19 = .ok (.if_icmp .ge (5), 3) := by decide +kernel
theorem d_Re_feed_22 : decode b_Re_feed 22 = .ok (.iconst 0, 1) := by decide +kernel
theorem d_Re_feed_23 : decode b_Re_feed 23 = .ok (.ireturn, 1) := by decide +kernel
theorem d_Re_feed_24 : decode b_Re_feed 24 = .ok (.aload_n 0, 1) := by decide +kernel
theorem d_Re_feed_25 : decode b_Re_feed 25 = .ok (.iconst 1, 1) := by decide +kernel
theorem d_Re_feed_26 : decode b_Re_feed 26 = .ok (.putfield 26, 3) := by decide +kernel
theorem d_Re_feed_29 : decode b_Re_feed 29 = .ok (.aload_n 0, 1) := by decide +kernel
theorem d_Re_feed_30 : decode b_Re_feed 30 = .ok (.aload_n 0, 1) := by decide +kernel
theorem d_Re_feed_31 : decode b_Re_feed 31 = .ok (.getfield 23, 3) := by decide +kernel
theorem d_Re_feed_34 : decode b_Re_feed 34 = .ok (.putfield 30, 3) := by decide +kernel
theorem d_Re_feed_37 : decode b_Re_feed 37 = .ok (.aload_n 0, 1) := by decide +kernel
theorem d_Re_feed_38 : decode b_Re_feed 38 = .ok (.dup, 1) := by decide +kernel
theorem d_Re_feed_39 : decode b_Re_feed 39 = .ok (.getfield 23, 3) := by decide +kernel
theorem d_Re_feed_42 : decode b_Re_feed 42 = .ok (.bipush (12), 2) := by decide +kernel
theorem d_Re_feed_44 : decode b_Re_feed 44 = .ok (.iadd, 1) := by decide +kernel
theorem d_Re_feed_45 : decode b_Re_feed 45 = .ok (.putfield 23, 3) := by decide +kernel
theorem d_Re_feed_48 : decode b_Re_feed 48 = .ok (.aload_n 0, 1) := by decide +kernel
theorem d_Re_feed_49 : decode b_Re_feed 49 = .ok (.iload_n 1, 1) := by decide +kernel
theorem d_Re_feed_50 : decode b_Re_feed 50 = .ok (.putfield 33, 3) := by decide +kernel
theorem d_Re_feed_53 : decode b_Re_feed 53 = .ok (.aload_n 0, 1) := by decide +kernel
theorem d_Re_feed_54 : decode b_Re_feed 54 = .ok (.iconst 0, 1) := by decide +kernel
theorem d_Re_feed_55 : decode b_Re_feed 55 = .ok (.putfield 36, 3) := by decide +kernel
theorem d_Re_feed_58 : decode b_Re_feed 58 = .ok (.iconst 1, 1) := by decide +kernel
theorem d_Re_feed_59 : decode b_Re_feed 59 = .ok (.ireturn, 1) := by decide +kernel
theorem hd_Re_feed : y_Re_feed.cls ≠ "java/lang/invoke/MethodHandle" ∧ y_Re_feed.cls ≠ "java/lang/invoke/VarHandle" ∧ (parseMethodDescriptor y_Re_feed.desc).map (fun d => d.parameters.length) = some 1 := by decide +kernel
abbrev rm_Re_feed : Room := { frames := 1, cells := 0, slots := 0, locals := 21 }
def F_Re_feed_22 (x1 : Int32)    (v : Nat → Int32) (f : Nat → Nat → Int32) (w : Nat → Nat) : Option (Int32 × (Nat → Int32) × (Nat → Nat → Int32) × (Nat → Nat)) := (some ((0 : Int32), v, f, w))
def F_Re_feed (x1 : Int32)  (v : Nat → Int32) (f : Nat → Nat → Int32) (w : Nat → Nat) : Option (Int32 × (Nat → Int32) × (Nat → Nat → Int32) × (Nat → Nat)) := (Option.bind (F_Re_busy x1 v f w) (fun z1 => (if z1 = (0 : Int32) then (if (12 : Int32) ≤ ((v 41) - (v 42)) then (some ((1 : Int32), (va_up (va_up (va_up (va_up (va_up v 45 (1 : Int32)) 43 (v 42)) 42 ((v 42) + (12 : Int32))) 44 x1) 46 (0 : Int32)), f, w)) else (F_Re_feed_22 x1 v f w)) else (F_Re_feed_22 x1 v f w))))
set_option maxHeartbeats 4000000 in
set_option maxRecDepth 100000 in
theorem c_Re_feed (l : Launch) (G : dm_G) (g h : Nat → Nat) (x1 : Int32) (v : Nat → Int32) (f : Nat → Nat → Int32) (w : Nat → Nat) (RES : Int32 × (Nat → Int32) × (Nat → Nat → Int32) × (Nat → Nat)) (hF : F_Re_feed x1 v f w = some RES) : dm_Ct l y_Re_feed b_Re_feed 2 (some .boolean) rm_Re_feed G (mw G g h v f w) [.ref (g 4), .int x1] (fun ov w' => ov = some (.int RES.1) ∧ w' = (mw G g h RES.2.1 RES.2.2.1 RES.2.2.2)) := by
  refine dm_Ct.of (by decide +kernel) (Nat.le_of_ble_eq_true rfl) ?_
  intro p e s m below meth c A ls B hl hP hD hS
  have hx := B.1
  have hb := B.2.1
  have hl : lv_has ls 2 [(0, .ref (g 4)), (1, .int x1)] := hl
  have K22 : ∀ (ls : Array Slot) (H : Heap) (locs : List Loc)  (v : Nat → Int32) (f : Nat → Nat → Int32) (w : Nat → Nat), lv_has ls 2 [] → va_P G.1 dm_cl (mw G g h v f w) H → va_D A (mw G g h v f w) → va_S A s.heap H locs → F_Re_feed_22 x1  v f w = some RES → W p l e rm_Re_feed s m ([.ref (g 4), .int x1] : List Value).toArray below meth c H locs 0 0 (dm_Z below G s ([.ref (g 4), .int x1] : List Value).toArray A rm_Re_feed.cells rm_Re_feed.slots (fun ov w' => ov = some (.int RES.1) ∧ w' = (mw G g h RES.2.1 RES.2.2.1 RES.2.2.2))) (F0 m 22 ls []) := by
    intro ls H locs v f w hl hP hD hS hF
    have hF : (some ((0 : Int32), v, f, w)) = some RES := hF
    refine lv_iconst (v := (0 : Int32)) hx hb d_Re_feed_22 (by decide) ?_
    have hF := Option.some.inj hF
    subst hF
    exact dm_ret B (by decide) d_Re_feed_23 (by decide) (by decide) hP hD hS ⟨rfl, rfl⟩
  have hF : (Option.bind (F_Re_busy x1 v f w) (fun z1 => (if z1 = (0 : Int32) then (if (12 : Int32) ≤ ((v 41) - (v 42)) then (some ((1 : Int32), (va_up (va_up (va_up (va_up (va_up v 45 (1 : Int32)) 43 (v 42)) 42 ((v 42) + (12 : Int32))) 44 x1) 46 (0 : Int32)), f, w)) else (F_Re_feed_22 x1 v f w)) else (F_Re_feed_22 x1 v f w)))) = some RES := hF
  refine lv_aload_n hx hb d_Re_feed_0 rfl (lv_at hl 0 rfl) ?_
  refine lv_iload_n hx hb d_Re_feed_1 rfl (lv_at hl 1 rfl) ?_
  obtain ⟨z1, hcz1, hF⟩ := dm_bind hF
  refine dm_callVw B [.int x1] (c_Re_busy l G g h x1 v f w z1 hcz1) k_443 k_445 ks_4 k_4 k_446 hd_Re_busy rfl ⟨by decide, by decide⟩ 4 rfl rfl hP hD hS hl.1 (rest := []) rfl (Nat.le_of_ble_eq_true rfl) d_Re_feed_2 ⟨by decide, by decide⟩ (fun ov w' H locs hq hP hD hS => ?_)
  obtain ⟨rfl, rfl⟩ := hq
  have hP : va_P G.1 dm_cl (mw G g h v f w) H := hP
  have hD : va_D A (mw G g h v f w) := hD
  refine W.eq (g2 := F0 m 5 ls [.int z1]) rfl ?_
  refine lv_if_ne (tgt := 22) hx hb d_Re_feed_5 (by decide) (fun (hh : ¬ z1 = (0 : Int32)) => ?_) (fun (hh : z1 = (0 : Int32)) => ?_)
  · rw [if_neg hh] at hF
    exact K22 ls _ _ v f w (lv_sub hl [] rfl) hP hD hS hF
  · rw [if_pos hh] at hF
    refine lv_aload_n hx hb d_Re_feed_8 rfl (lv_at hl 0 rfl) ?_
    refine mw_g_4_1 (x := (v 41)) B hP rfl k_63 d_Re_feed_9 ?_
    refine lv_aload_n hx hb d_Re_feed_12 rfl (lv_at hl 0 rfl) ?_
    refine mw_g_4_2 (x := (v 42)) B hP rfl k_65 d_Re_feed_13 ?_
    refine lv_isub hx hb d_Re_feed_16 ?_
    refine lv_bipush (v := (12 : Int32)) hx hb d_Re_feed_17 (by decide) ?_
    refine lv_icmp_ge (tgt := 24) hx hb d_Re_feed_19 (by decide) (fun (hh : (12 : Int32) ≤ ((v 41) - (v 42))) => ?_) (fun (hh : ¬ (12 : Int32) ≤ ((v 41) - (v 42))) => ?_)
    · rw [if_pos hh] at hF
      refine lv_aload_n hx hb d_Re_feed_24 rfl (lv_at hl 0 rfl) ?_
      refine lv_iconst (v := (1 : Int32)) hx hb d_Re_feed_25 (by decide) ?_
      refine mw_p_4_5 (x := (1 : Int32)) B hP hD hS (by decide) k_69 d_Re_feed_26 (fun H locs hP hD hS => ?_)
      refine lv_aload_n hx hb d_Re_feed_29 rfl (lv_at hl 0 rfl) ?_
      refine lv_aload_n hx hb d_Re_feed_30 rfl (lv_at hl 0 rfl) ?_
      refine mw_g_4_2 (x := (v 42)) B hP rfl k_65 d_Re_feed_31 ?_
      refine mw_p_4_3 (x := (v 42)) B hP hD hS k_67 d_Re_feed_34 (fun H locs hP hD hS => ?_)
      refine lv_aload_n hx hb d_Re_feed_37 rfl (lv_at hl 0 rfl) ?_
      refine lv_dup hx hb d_Re_feed_38 rfl ?_
      refine mw_g_4_2 (x := (v 42)) B hP rfl k_65 d_Re_feed_39 ?_
      refine lv_bipush (v := (12 : Int32)) hx hb d_Re_feed_42 (by decide) ?_
      refine lv_iadd hx hb d_Re_feed_44 ?_
      refine mw_p_4_2 (x := ((v 42) + (12 : Int32))) B hP hD hS k_65 d_Re_feed_45 (fun H locs hP hD hS => ?_)
      refine lv_aload_n hx hb d_Re_feed_48 rfl (lv_at hl 0 rfl) ?_
      refine lv_iload_n hx hb d_Re_feed_49 rfl (lv_at hl 1 rfl) ?_
      refine mw_p_4_4 (x := x1) B hP hD hS k_68 d_Re_feed_50 (fun H locs hP hD hS => ?_)
      refine lv_aload_n hx hb d_Re_feed_53 rfl (lv_at hl 0 rfl) ?_
      refine lv_iconst (v := (0 : Int32)) hx hb d_Re_feed_54 (by decide) ?_
      refine mw_p_4_6 (x := (0 : Int32)) B hP hD hS k_71 d_Re_feed_55 (fun H locs hP hD hS => ?_)
      refine lv_iconst (v := (1 : Int32)) hx hb d_Re_feed_58 (by decide) ?_
      have hF := Option.some.inj hF
      subst hF
      exact dm_ret B (by decide) d_Re_feed_59 (by decide) (by decide) hP hD hS ⟨rfl, rfl⟩
    · rw [if_neg hh] at hF
      exact K22 ls _ _ v f w (lv_sub hl [] rfl) hP hD hS hF
abbrev b_Re_row : ByteArray := prog_10_method_5_code
abbrev y_Re_row : MethodName := { cls := "DelayMachine$Reader", name := "row", desc := "(I)I" }
theorem d_Re_row_0 : decode b_Re_row 0 = .ok (.iload_n 1, 1) := by decide +kernel
theorem d_Re_row_1 : decode b_Re_row 1 = .ok (.aload_n 0, 1) := by decide +kernel
theorem d_Re_row_2 : decode b_Re_row 2 = .ok (.getfield 33, 3) := by decide +kernel
theorem d_Re_row_5 : decode b_Re_row 5 = .ok (.isub, 1) := by decide +kernel
theorem d_Re_row_6 : decode b_Re_row 6 = .ok (.bipush (40), 2) := by decide +kernel
theorem d_Re_row_8 : decode b_Re_row 8 = .ok (.isub, 1) := by decide +kernel
theorem d_Re_row_9 : decode b_Re_row 9 = .ok (.istore_n 2, 1) := by decide +kernel
theorem d_Re_row_10 : decode b_Re_row 10 = .ok (.aload_n 0, 1) := by decide +kernel
theorem d_Re_row_11 : decode b_Re_row 11 = .ok (.getfield 26, 3) := by decide +kernel
theorem d_Re_row_14 : decode b_Re_row 14 = .ok (.ifCond .eq (24), 3) := by decide +kernel
theorem d_Re_row_17 : decode b_Re_row 17 = .ok (.iload_n 2, 1) := by decide +kernel
theorem d_Re_row_18 : decode b_Re_row 18 = .ok (.ifCond .lt (20), 3) := by decide +kernel
theorem d_Re_row_21 : decode b_Re_row 21 = .ok (.iload_n 2, 1) := by decide +kernel
theorem d_Re_row_22 : decode b_Re_row 22 = .ok (.bipush (8), 2) := by decide +kernel
theorem d_Re_row_24 : decode b_Re_row 24 = .ok (.idiv, 1) := by decide +kernel
theorem d_Re_row_25 : decode b_Re_row 25 = .ok (.bipush (12), 2) := by decide +kernel
theorem d_Re_row_27 : decode b_Re_row 27 = .ok (.if_icmp .ge (11), 3) := by decide +kernel
theorem d_Re_row_30 : decode b_Re_row 30 = .ok (.iload_n 2, 1) := by decide +kernel
theorem d_Re_row_31 : decode b_Re_row 31 = .ok (.bipush (8), 2) := by decide +kernel
theorem d_Re_row_33 : decode b_Re_row 33 = .ok (.irem, 1) := by decide +kernel
theorem d_Re_row_34 : decode b_Re_row 34 = .ok (.iconst 3, 1) := by decide +kernel
theorem d_Re_row_35 : decode b_Re_row 35 = .ok (.if_icmp .lt (7), 3) := by decide +kernel
theorem d_Re_row_38 : decode b_Re_row 38 = .ok (.iconst (-1), 1) := by decide +kernel
theorem d_Re_row_39 : decode b_Re_row 39 = .ok (.goto (7), 3) := by decide +kernel
theorem d_Re_row_42 : decode b_Re_row 42 = .ok (.iload_n 2, 1) := by decide +kernel
theorem d_Re_row_43 : decode b_Re_row 43 = .ok (.bipush (8), 2) := by decide +kernel
theorem d_Re_row_45 : decode b_Re_row 45 = .ok (.idiv, 1) := by decide +kernel
theorem d_Re_row_46 : decode b_Re_row 46 = .ok (.ireturn, 1) := by decide +kernel
theorem hd_Re_row : y_Re_row.cls ≠ "java/lang/invoke/MethodHandle" ∧ y_Re_row.cls ≠ "java/lang/invoke/VarHandle" ∧ (parseMethodDescriptor y_Re_row.desc).map (fun d => d.parameters.length) = some 1 := by decide +kernel
abbrev rm_Re_row : Room := { frames := 0, cells := 0, slots := 0, locals := 0 }
def F_Re_row_38 (x1 : Int32) (v : Nat → Int32) (f : Nat → Nat → Int32) (w : Nat → Nat)    : Option (Int32) := (some (-1 : Int32))
def F_Re_row (x1 : Int32) (v : Nat → Int32) (f : Nat → Nat → Int32) (w : Nat → Nat)  : Option (Int32) := (if (v 45) = (0 : Int32) then (F_Re_row_38 x1 v f w) else (if ((x1 - (v 44)) - (40 : Int32)) < (0 : Int32) then (F_Re_row_38 x1 v f w) else (if (12 : Int32) ≤ (((x1 - (v 44)) - (40 : Int32)) / (8 : Int32)) then (F_Re_row_38 x1 v f w) else (if (((x1 - (v 44)) - (40 : Int32)) - ((x1 - (v 44)) - (40 : Int32)) / (8 : Int32) * (8 : Int32)) < (3 : Int32) then (some (((x1 - (v 44)) - (40 : Int32)) / (8 : Int32))) else (F_Re_row_38 x1 v f w)))))
set_option maxHeartbeats 4000000 in
set_option maxRecDepth 100000 in
theorem c_Re_row (l : Launch) (G : dm_G) (g h : Nat → Nat) (x1 : Int32) (v : Nat → Int32) (f : Nat → Nat → Int32) (w : Nat → Nat) (RES : Int32) (hF : F_Re_row x1 v f w = some RES) : dm_Ct l y_Re_row b_Re_row 3 (some .int) rm_Re_row G (mw G g h v f w) [.ref (g 4), .int x1] (fun ov w' => ov = some (.int RES) ∧ w' = (mw G g h v f w)) := by
  refine dm_Ct.of (by decide +kernel) (Nat.le_of_ble_eq_true rfl) ?_
  intro p e s m below meth c A ls B hl hP hD hS
  have hx := B.1
  have hb := B.2.1
  have hl : lv_has ls 3 [(0, .ref (g 4)), (1, .int x1)] := hl
  have K38 : ∀ (ls : Array Slot) (H : Heap) (locs : List Loc)  , lv_has ls 3 [] → va_P G.1 dm_cl (mw G g h v f w) H → va_D A (mw G g h v f w) → va_S A s.heap H locs → F_Re_row_38 x1 v f w   = some RES → W p l e rm_Re_row s m ([.ref (g 4), .int x1] : List Value).toArray below meth c H locs 0 0 (dm_Z below G s ([.ref (g 4), .int x1] : List Value).toArray A rm_Re_row.cells rm_Re_row.slots (fun ov w' => ov = some (.int RES) ∧ w' = (mw G g h v f w))) (F0 m 38 ls []) := by
    intro ls H locs  hl hP hD hS hF
    have hF : (some (-1 : Int32)) = some RES := hF
    refine lv_iconst (v := (-1 : Int32)) hx hb d_Re_row_38 (by decide) ?_
    refine lv_goto (tgt := 46) hx hb d_Re_row_39 (by decide) ?_
    have hF := Option.some.inj hF
    subst hF
    exact dm_ret B rfl d_Re_row_46 (by decide) (by decide) hP hD hS ⟨rfl, rfl⟩
  have hF : (if (v 45) = (0 : Int32) then (F_Re_row_38 x1 v f w) else (if ((x1 - (v 44)) - (40 : Int32)) < (0 : Int32) then (F_Re_row_38 x1 v f w) else (if (12 : Int32) ≤ (((x1 - (v 44)) - (40 : Int32)) / (8 : Int32)) then (F_Re_row_38 x1 v f w) else (if (((x1 - (v 44)) - (40 : Int32)) - ((x1 - (v 44)) - (40 : Int32)) / (8 : Int32) * (8 : Int32)) < (3 : Int32) then (some (((x1 - (v 44)) - (40 : Int32)) / (8 : Int32))) else (F_Re_row_38 x1 v f w))))) = some RES := hF
  refine lv_iload_n hx hb d_Re_row_0 rfl (lv_at hl 1 rfl) ?_
  refine lv_aload_n hx hb d_Re_row_1 rfl (lv_at hl 0 rfl) ?_
  refine mw_g_4_4 (x := (v 44)) B hP rfl k_68 d_Re_row_2 ?_
  refine lv_isub hx hb d_Re_row_5 ?_
  refine lv_bipush (v := (40 : Int32)) hx hb d_Re_row_6 (by decide) ?_
  refine lv_isub hx hb d_Re_row_8 ?_
  refine lv_istore_n (lv' := [(2, .int ((x1 - (v 44)) - (40 : Int32))), (0, .ref (g 4)), (1, .int x1)]) hx hb d_Re_row_9 rfl hl (Nat.le_of_ble_eq_true rfl) rfl (fun ls hl => ?_)
  have hl : lv_has ls 3 [(0, .ref (g 4)), (1, .int x1), (2, .int ((x1 - (v 44)) - (40 : Int32)))] := lv_sub hl [1, 2, 0] rfl
  refine lv_aload_n hx hb d_Re_row_10 rfl (lv_at hl 0 rfl) ?_
  refine mw_g_4_5 (x := (v 45)) B hP rfl k_69 d_Re_row_11 ?_
  refine lv_if_eq (tgt := 38) hx hb d_Re_row_14 (by decide) (fun (hh : (v 45) = (0 : Int32)) => ?_) (fun (hh : ¬ (v 45) = (0 : Int32)) => ?_)
  · rw [if_pos hh] at hF
    exact K38 ls _ _  (lv_sub hl [] rfl) hP hD hS hF
  · rw [if_neg hh] at hF
    refine lv_iload_n hx hb d_Re_row_17 rfl (lv_at hl 2 rfl) ?_
    refine lv_if_lt (tgt := 38) hx hb d_Re_row_18 (by decide) (fun (hh : ((x1 - (v 44)) - (40 : Int32)) < (0 : Int32)) => ?_) (fun (hh : ¬ ((x1 - (v 44)) - (40 : Int32)) < (0 : Int32)) => ?_)
    · rw [if_pos hh] at hF
      exact K38 ls _ _  (lv_sub hl [] rfl) hP hD hS hF
    · rw [if_neg hh] at hF
      refine lv_iload_n hx hb d_Re_row_21 rfl (lv_at hl 2 rfl) ?_
      refine lv_bipush (v := (8 : Int32)) hx hb d_Re_row_22 (by decide) ?_
      refine lv_idiv hx hb d_Re_row_24 (by decide) ?_
      refine lv_bipush (v := (12 : Int32)) hx hb d_Re_row_25 (by decide) ?_
      refine lv_icmp_ge (tgt := 38) hx hb d_Re_row_27 (by decide) (fun (hh : (12 : Int32) ≤ (((x1 - (v 44)) - (40 : Int32)) / (8 : Int32))) => ?_) (fun (hh : ¬ (12 : Int32) ≤ (((x1 - (v 44)) - (40 : Int32)) / (8 : Int32))) => ?_)
      · rw [if_pos hh] at hF
        exact K38 ls _ _  (lv_sub hl [] rfl) hP hD hS hF
      · rw [if_neg hh] at hF
        refine lv_iload_n hx hb d_Re_row_30 rfl (lv_at hl 2 rfl) ?_
        refine lv_bipush (v := (8 : Int32)) hx hb d_Re_row_31 (by decide) ?_
        refine lv_irem hx hb d_Re_row_33 (by decide) ?_
        refine lv_iconst (v := (3 : Int32)) hx hb d_Re_row_34 (by decide) ?_
        refine lv_icmp_lt (tgt := 42) hx hb d_Re_row_35 (by decide) (fun (hh : (((x1 - (v 44)) - (40 : Int32)) - ((x1 - (v 44)) - (40 : Int32)) / (8 : Int32) * (8 : Int32)) < (3 : Int32)) => ?_) (fun (hh : ¬ (((x1 - (v 44)) - (40 : Int32)) - ((x1 - (v 44)) - (40 : Int32)) / (8 : Int32) * (8 : Int32)) < (3 : Int32)) => ?_)
        · rw [if_pos hh] at hF
          refine lv_iload_n hx hb d_Re_row_42 rfl (lv_at hl 2 rfl) ?_
          refine lv_bipush (v := (8 : Int32)) hx hb d_Re_row_43 (by decide) ?_
          refine lv_idiv hx hb d_Re_row_45 (by decide) ?_
          have hF := Option.some.inj hF
          subst hF
          exact dm_ret B rfl d_Re_row_46 (by decide) (by decide) hP hD hS ⟨rfl, rfl⟩
        · rw [if_neg hh] at hF
          exact K38 ls _ _  (lv_sub hl [] rfl) hP hD hS hF
abbrev b_Re_take : ByteArray := prog_10_method_6_code
abbrev y_Re_take : MethodName := { cls := "DelayMachine$Reader", name := "take", desc := "(I)S" }
theorem d_Re_take_0 : decode b_Re_take 0 = .ok (.aload_n 0, 1) := by decide +kernel
theorem d_Re_take_1 : decode b_Re_take 1 = .ok (.iload_n 1, 1) := by decide +kernel
theorem d_Re_take_2 : decode b_Re_take 2 = .ok (.invokevirtual 39, 3) := by decide +kernel
theorem d_Re_take_5 : decode b_Re_take 5 = .ok (.istore_n 2, 1) := by decide +kernel
theorem d_Re_take_6 : decode b_Re_take 6 = .ok (.iload_n 2, 1) := by decide +kernel
theorem d_Re_take_7 : decode b_Re_take 7 = .ok (.ifCond .ge (5), 3) := by decide +kernel
theorem d_Re_take_10 : decode b_Re_take 10 = .ok (.iconst 0, 1) := by decide +kernel
theorem d_Re_take_11 : decode b_Re_take 11 = .ok (.ireturn, 1) := by decide +kernel
theorem d_Re_take_12 : decode b_Re_take 12 = .ok (.aload_n 0, 1) := by decide +kernel
theorem d_Re_take_13 : decode b_Re_take 13 = .ok (.dup, 1) := by decide +kernel
theorem d_Re_take_14 : decode b_Re_take 14 = .ok (.getfield 36, 3) := by decide +kernel
theorem d_Re_take_17 : decode b_Re_take 17 = .ok (.iconst 1, 1) := by decide +kernel
theorem d_Re_take_18 : decode b_Re_take 18 = .ok (.iload_n 2, 1) := by decide +kernel
theorem d_Re_take_19 : decode b_Re_take 19 = .ok (.ishl, 1) := by decide +kernel
theorem d_Re_take_20 : decode b_Re_take 20 = .ok (.ior, 1) := by decide +kernel
theorem d_Re_take_21 : decode b_Re_take 21 = .ok (.putfield 36, 3) := by decide +kernel
theorem d_Re_take_24 : decode b_Re_take 24 = .ok (.aload_n 0, 1) := by decide +kernel
theorem d_Re_take_25 : decode b_Re_take 25 = .ok (.getfield 9, 3) := by decide +kernel
theorem d_Re_take_28 : decode b_Re_take 28 = .ok (.aload_n 0, 1) := by decide +kernel
theorem d_Re_take_29 : decode b_Re_take 29 = .ok (.getfield 30, 3) := by decide +kernel
theorem d_Re_take_32 : decode b_Re_take 32 = .ok (.iload_n 2, 1) := by decide +kernel
theorem d_Re_take_33 : decode b_Re_take 33 = .ok (.iadd, 1) := by decide +kernel
theorem d_Re_take_34 : decode b_Re_take 34 = .ok (.saload, 1) := by decide +kernel
theorem d_Re_take_35 : decode b_Re_take 35 = .ok (.ireturn, 1) := by decide +kernel
theorem hd_Re_take : y_Re_take.cls ≠ "java/lang/invoke/MethodHandle" ∧ y_Re_take.cls ≠ "java/lang/invoke/VarHandle" ∧ (parseMethodDescriptor y_Re_take.desc).map (fun d => d.parameters.length) = some 1 := by decide +kernel
abbrev rm_Re_take : Room := { frames := 1, cells := 0, slots := 0, locals := 22 }
def F_Re_take (x1 : Int32)  (v : Nat → Int32) (f : Nat → Nat → Int32) (w : Nat → Nat) : Option (Int32 × (Nat → Int32) × (Nat → Nat → Int32) × (Nat → Nat)) := (Option.bind (F_Re_row x1 v f w) (fun z1 => (if (0 : Int32) ≤ z1 then (if ((v 43) + z1) < 0 ∨ 48 ≤ ((v 43) + z1).toNatClampNeg then none else (if ((f 9) ((v 43) + z1).toNatClampNeg).toInt16.toInt32 = ((f 9) ((v 43) + z1).toNatClampNeg) then (some (((f 9) ((v 43) + z1).toNatClampNeg), (va_up v 46 ((v 46) ||| ((1 : Int32) <<< (z1 &&& 31)))), f, w)) else none)) else (some ((0 : Int32), v, f, w)))))
set_option maxHeartbeats 4000000 in
set_option maxRecDepth 100000 in
theorem c_Re_take (l : Launch) (G : dm_G) (g h : Nat → Nat) (x1 : Int32) (v : Nat → Int32) (f : Nat → Nat → Int32) (w : Nat → Nat) (RES : Int32 × (Nat → Int32) × (Nat → Nat → Int32) × (Nat → Nat)) (hF : F_Re_take x1 v f w = some RES) : dm_Ct l y_Re_take b_Re_take 3 (some .short) rm_Re_take G (mw G g h v f w) [.ref (g 4), .int x1] (fun ov w' => ov = some (.int RES.1) ∧ w' = (mw G g h RES.2.1 RES.2.2.1 RES.2.2.2)) := by
  refine dm_Ct.of (by decide +kernel) (Nat.le_of_ble_eq_true rfl) ?_
  intro p e s m below meth c A ls B hl hP hD hS
  have hx := B.1
  have hb := B.2.1
  have hl : lv_has ls 3 [(0, .ref (g 4)), (1, .int x1)] := hl
  have hF : (Option.bind (F_Re_row x1 v f w) (fun z1 => (if (0 : Int32) ≤ z1 then (if ((v 43) + z1) < 0 ∨ 48 ≤ ((v 43) + z1).toNatClampNeg then none else (if ((f 9) ((v 43) + z1).toNatClampNeg).toInt16.toInt32 = ((f 9) ((v 43) + z1).toNatClampNeg) then (some (((f 9) ((v 43) + z1).toNatClampNeg), (va_up v 46 ((v 46) ||| ((1 : Int32) <<< (z1 &&& 31)))), f, w)) else none)) else (some ((0 : Int32), v, f, w))))) = some RES := hF
  refine lv_aload_n hx hb d_Re_take_0 rfl (lv_at hl 0 rfl) ?_
  refine lv_iload_n hx hb d_Re_take_1 rfl (lv_at hl 1 rfl) ?_
  obtain ⟨z1, hcz1, hF⟩ := dm_bind hF
  refine dm_callVw B [.int x1] (c_Re_row l G g h x1 v f w z1 hcz1) k_415 k_417 ks_3 k_4 k_418 hd_Re_row rfl ⟨by decide, by decide⟩ 4 rfl rfl hP hD hS hl.1 (rest := []) rfl (Nat.le_of_ble_eq_true rfl) d_Re_take_2 ⟨by decide, by decide⟩ (fun ov w' H locs hq hP hD hS => ?_)
  obtain ⟨rfl, rfl⟩ := hq
  have hP : va_P G.1 dm_cl (mw G g h v f w) H := hP
  have hD : va_D A (mw G g h v f w) := hD
  refine W.eq (g2 := F0 m 5 ls [.int z1]) rfl ?_
  refine lv_istore_n (lv' := [(2, .int z1), (0, .ref (g 4)), (1, .int x1)]) hx hb d_Re_take_5 rfl hl (Nat.le_of_ble_eq_true rfl) rfl (fun ls hl => ?_)
  have hl : lv_has ls 3 [(0, .ref (g 4)), (1, .int x1), (2, .int z1)] := lv_sub hl [1, 2, 0] rfl
  refine lv_iload_n hx hb d_Re_take_6 rfl (lv_at hl 2 rfl) ?_
  refine lv_if_ge (tgt := 12) hx hb d_Re_take_7 (by decide) (fun (hh : (0 : Int32) ≤ z1) => ?_) (fun (hh : ¬ (0 : Int32) ≤ z1) => ?_)
  · rw [if_pos hh] at hF
    refine lv_aload_n hx hb d_Re_take_12 rfl (lv_at hl 0 rfl) ?_
    refine lv_dup hx hb d_Re_take_13 rfl ?_
    refine mw_g_4_6 (x := (v 46)) B hP rfl k_71 d_Re_take_14 ?_
    refine lv_iconst (v := (1 : Int32)) hx hb d_Re_take_17 (by decide) ?_
    refine lv_iload_n hx hb d_Re_take_18 rfl (lv_at hl 2 rfl) ?_
    refine lv_ishl hx hb d_Re_take_19 ?_
    refine lv_ior hx hb d_Re_take_20 ?_
    refine mw_p_4_6 (x := ((v 46) ||| ((1 : Int32) <<< (z1 &&& 31)))) B hP hD hS k_71 d_Re_take_21 (fun H locs hP hD hS => ?_)
    refine lv_aload_n hx hb d_Re_take_24 rfl (lv_at hl 0 rfl) ?_
    refine mw_g_4_0 B hP k_62 d_Re_take_25 ?_
    refine lv_aload_n hx hb d_Re_take_28 rfl (lv_at hl 0 rfl) ?_
    refine mw_g_4_3 (x := (v 43)) B hP rfl k_67 d_Re_take_29 ?_
    refine lv_iload_n hx hb d_Re_take_32 rfl (lv_at hl 2 rfl) ?_
    refine lv_iadd hx hb d_Re_take_33 ?_
    obtain ⟨hi, hF⟩ := dm_chk hF
    refine mw_a_5 (F := (f 9)) B hP rfl hi d_Re_take_34 ?_
    obtain ⟨hz, hF⟩ := dm_ck1 hF
    have hF := Option.some.inj hF
    subst hF
    exact dm_ret B (dm_nsh hz) d_Re_take_35 (by decide) (by decide) hP hD hS ⟨rfl, rfl⟩
  · rw [if_neg hh] at hF
    refine lv_iconst (v := (0 : Int32)) hx hb d_Re_take_10 (by decide) ?_
    have hF := Option.some.inj hF
    subst hF
    exact dm_ret B (by decide) d_Re_take_11 (by decide) (by decide) hP hD hS ⟨rfl, rfl⟩
abbrev b_Re_missed : ByteArray := prog_10_method_7_code
abbrev y_Re_missed : MethodName := { cls := "DelayMachine$Reader", name := "missed", desc := "(I)Z" }
theorem d_Re_missed_0 : decode b_Re_missed 0 = .ok (.aload_n 0, 1) := by decide +kernel
theorem d_Re_missed_1 : decode b_Re_missed 1 = .ok (.iload_n 1, 1) := by decide +kernel
theorem d_Re_missed_2 : decode b_Re_missed 2 = .ok (.invokevirtual 39, 3) := by decide +kernel
theorem d_Re_missed_5 : decode b_Re_missed 5 = .ok (.istore_n 2, 1) := by decide +kernel
theorem d_Re_missed_6 : decode b_Re_missed 6 = .ok (.iload_n 2, 1) := by decide +kernel
theorem d_Re_missed_7 : decode b_Re_missed 7 = .ok (.ifCond .lt (34), 3) := by decide +kernel
theorem d_Re_missed_10 : decode b_Re_missed 10 = .ok (.iload_n 1, 1) := by decide +kernel
theorem d_Re_missed_11 : decode b_Re_missed 11 = .ok (.aload_n 0, 1) := by decide +kernel
theorem d_Re_missed_12 : decode b_Re_missed 12 = .ok (.getfield 33, 3) := by decide +kernel
theorem d_Re_missed_15 : decode b_Re_missed 15 = .ok (.isub, 1) := by decide +kernel
theorem d_Re_missed_16 : decode b_Re_missed 16 = .ok (.bipush (40), 2) := by decide +kernel
theorem d_Re_missed_18 : decode b_Re_missed 18 = .ok (.isub, 1) := by decide +kernel
theorem d_Re_missed_19 : decode b_Re_missed 19 = .ok (.bipush (8), 2) := by decide +kernel
theorem d_Re_missed_21 : decode b_Re_missed 21 = .ok (.irem, 1) := by decide +kernel
theorem d_Re_missed_22 : decode b_Re_missed 22 = .ok (.iconst 2, 1) := by decide +kernel
theorem d_Re_missed_23 : decode b_Re_missed 23 = .ok (.if_icmp .ne (18), 3) := by decide +kernel
theorem d_Re_missed_26 : decode b_Re_missed 26 = .ok (.aload_n 0, 1) := by decide +kernel
theorem d_Re_missed_27 : decode b_Re_missed 27 = .ok (.getfield 36, 3) := by decide +kernel
theorem d_Re_missed_30 : decode b_Re_missed 30 = .ok (.iload_n 2, 1) := by decide +kernel
theorem d_Re_missed_31 : decode b_Re_missed 31 = .ok (.ishr, 1) := by decide +kernel
theorem d_Re_missed_32 : decode b_Re_missed 32 = .ok (.iconst 1, 1) := by decide +kernel
theorem d_Re_missed_33 : decode b_Re_missed 33 = .ok (.iand, 1) := by decide +kernel
theorem d_Re_missed_34 : decode b_Re_missed 34 = .ok (.ifCond .ne (7), 3) := by decide +kernel
theorem d_Re_missed_37 : decode b_Re_missed 37 = .ok (.iconst 1, 1) := by decide +kernel
theorem d_Re_missed_38 : decode b_Re_missed 38 = .ok (.goto (4), 3) := by decide +kernel
theorem d_Re_missed_41 : decode b_Re_missed 41 = .ok (.iconst 0, 1) := by decide +kernel
theorem d_Re_missed_42 : decode b_Re_missed 42 = .ok (.ireturn, 1) := by decide +kernel
theorem hd_Re_missed : y_Re_missed.cls ≠ "java/lang/invoke/MethodHandle" ∧ y_Re_missed.cls ≠ "java/lang/invoke/VarHandle" ∧ (parseMethodDescriptor y_Re_missed.desc).map (fun d => d.parameters.length) = some 1 := by decide +kernel
abbrev rm_Re_missed : Room := { frames := 1, cells := 0, slots := 0, locals := 22 }
def F_Re_missed_41 (x1 : Int32) (v : Nat → Int32) (f : Nat → Nat → Int32) (w : Nat → Nat)    : Option (Int32) := (some (0 : Int32))
def F_Re_missed (x1 : Int32) (v : Nat → Int32) (f : Nat → Nat → Int32) (w : Nat → Nat)  : Option (Int32) := (Option.bind (F_Re_row x1 v f w) (fun z1 => (if z1 < (0 : Int32) then (F_Re_missed_41 x1 v f w) else (if (((x1 - (v 44)) - (40 : Int32)) - ((x1 - (v 44)) - (40 : Int32)) / (8 : Int32) * (8 : Int32)) = (2 : Int32) then (if (((v 46) >>> (z1 &&& 31)) &&& (1 : Int32)) = (0 : Int32) then (some (1 : Int32)) else (F_Re_missed_41 x1 v f w)) else (F_Re_missed_41 x1 v f w)))))
set_option maxHeartbeats 4000000 in
set_option maxRecDepth 100000 in
theorem c_Re_missed (l : Launch) (G : dm_G) (g h : Nat → Nat) (x1 : Int32) (v : Nat → Int32) (f : Nat → Nat → Int32) (w : Nat → Nat) (RES : Int32) (hF : F_Re_missed x1 v f w = some RES) : dm_Ct l y_Re_missed b_Re_missed 3 (some .boolean) rm_Re_missed G (mw G g h v f w) [.ref (g 4), .int x1] (fun ov w' => ov = some (.int RES) ∧ w' = (mw G g h v f w)) := by
  refine dm_Ct.of (by decide +kernel) (Nat.le_of_ble_eq_true rfl) ?_
  intro p e s m below meth c A ls B hl hP hD hS
  have hx := B.1
  have hb := B.2.1
  have hl : lv_has ls 3 [(0, .ref (g 4)), (1, .int x1)] := hl
  have K41 : ∀ (ls : Array Slot) (H : Heap) (locs : List Loc)  , lv_has ls 3 [] → va_P G.1 dm_cl (mw G g h v f w) H → va_D A (mw G g h v f w) → va_S A s.heap H locs → F_Re_missed_41 x1 v f w   = some RES → W p l e rm_Re_missed s m ([.ref (g 4), .int x1] : List Value).toArray below meth c H locs 0 0 (dm_Z below G s ([.ref (g 4), .int x1] : List Value).toArray A rm_Re_missed.cells rm_Re_missed.slots (fun ov w' => ov = some (.int RES) ∧ w' = (mw G g h v f w))) (F0 m 41 ls []) := by
    intro ls H locs  hl hP hD hS hF
    have hF : (some (0 : Int32)) = some RES := hF
    refine lv_iconst (v := (0 : Int32)) hx hb d_Re_missed_41 (by decide) ?_
    have hF := Option.some.inj hF
    subst hF
    exact dm_ret B (by decide) d_Re_missed_42 (by decide) (by decide) hP hD hS ⟨rfl, rfl⟩
  have hF : (Option.bind (F_Re_row x1 v f w) (fun z1 => (if z1 < (0 : Int32) then (F_Re_missed_41 x1 v f w) else (if (((x1 - (v 44)) - (40 : Int32)) - ((x1 - (v 44)) - (40 : Int32)) / (8 : Int32) * (8 : Int32)) = (2 : Int32) then (if (((v 46) >>> (z1 &&& 31)) &&& (1 : Int32)) = (0 : Int32) then (some (1 : Int32)) else (F_Re_missed_41 x1 v f w)) else (F_Re_missed_41 x1 v f w))))) = some RES := hF
  refine lv_aload_n hx hb d_Re_missed_0 rfl (lv_at hl 0 rfl) ?_
  refine lv_iload_n hx hb d_Re_missed_1 rfl (lv_at hl 1 rfl) ?_
  obtain ⟨z1, hcz1, hF⟩ := dm_bind hF
  refine dm_callVw B [.int x1] (c_Re_row l G g h x1 v f w z1 hcz1) k_415 k_417 ks_3 k_4 k_418 hd_Re_row rfl ⟨by decide, by decide⟩ 4 rfl rfl hP hD hS hl.1 (rest := []) rfl (Nat.le_of_ble_eq_true rfl) d_Re_missed_2 ⟨by decide, by decide⟩ (fun ov w' H locs hq hP hD hS => ?_)
  obtain ⟨rfl, rfl⟩ := hq
  have hP : va_P G.1 dm_cl (mw G g h v f w) H := hP
  have hD : va_D A (mw G g h v f w) := hD
  refine W.eq (g2 := F0 m 5 ls [.int z1]) rfl ?_
  refine lv_istore_n (lv' := [(2, .int z1), (0, .ref (g 4)), (1, .int x1)]) hx hb d_Re_missed_5 rfl hl (Nat.le_of_ble_eq_true rfl) rfl (fun ls hl => ?_)
  have hl : lv_has ls 3 [(0, .ref (g 4)), (1, .int x1), (2, .int z1)] := lv_sub hl [1, 2, 0] rfl
  refine lv_iload_n hx hb d_Re_missed_6 rfl (lv_at hl 2 rfl) ?_
  refine lv_if_lt (tgt := 41) hx hb d_Re_missed_7 (by decide) (fun (hh : z1 < (0 : Int32)) => ?_) (fun (hh : ¬ z1 < (0 : Int32)) => ?_)
  · rw [if_pos hh] at hF
    exact K41 ls _ _  (lv_sub hl [] rfl) hP hD hS hF
  · rw [if_neg hh] at hF
    refine lv_iload_n hx hb d_Re_missed_10 rfl (lv_at hl 1 rfl) ?_
    refine lv_aload_n hx hb d_Re_missed_11 rfl (lv_at hl 0 rfl) ?_
    refine mw_g_4_4 (x := (v 44)) B hP rfl k_68 d_Re_missed_12 ?_
    refine lv_isub hx hb d_Re_missed_15 ?_
    refine lv_bipush (v := (40 : Int32)) hx hb d_Re_missed_16 (by decide) ?_
    refine lv_isub hx hb d_Re_missed_18 ?_
    refine lv_bipush (v := (8 : Int32)) hx hb d_Re_missed_19 (by decide) ?_
    refine lv_irem hx hb d_Re_missed_21 (by decide) ?_
    refine lv_iconst (v := (2 : Int32)) hx hb d_Re_missed_22 (by decide) ?_
    refine lv_icmp_ne (tgt := 41) hx hb d_Re_missed_23 (by decide) (fun (hh : ¬ (((x1 - (v 44)) - (40 : Int32)) - ((x1 - (v 44)) - (40 : Int32)) / (8 : Int32) * (8 : Int32)) = (2 : Int32)) => ?_) (fun (hh : (((x1 - (v 44)) - (40 : Int32)) - ((x1 - (v 44)) - (40 : Int32)) / (8 : Int32) * (8 : Int32)) = (2 : Int32)) => ?_)
    · rw [if_neg hh] at hF
      exact K41 ls _ _  (lv_sub hl [] rfl) hP hD hS hF
    · rw [if_pos hh] at hF
      refine lv_aload_n hx hb d_Re_missed_26 rfl (lv_at hl 0 rfl) ?_
      refine mw_g_4_6 (x := (v 46)) B hP rfl k_71 d_Re_missed_27 ?_
      refine lv_iload_n hx hb d_Re_missed_30 rfl (lv_at hl 2 rfl) ?_
      refine lv_ishr hx hb d_Re_missed_31 ?_
      refine lv_iconst (v := (1 : Int32)) hx hb d_Re_missed_32 (by decide) ?_
      refine lv_iand hx hb d_Re_missed_33 ?_
      refine lv_if_ne (tgt := 41) hx hb d_Re_missed_34 (by decide) (fun (hh : ¬ (((v 46) >>> (z1 &&& 31)) &&& (1 : Int32)) = (0 : Int32)) => ?_) (fun (hh : (((v 46) >>> (z1 &&& 31)) &&& (1 : Int32)) = (0 : Int32)) => ?_)
      · rw [if_neg hh] at hF
        exact K41 ls _ _  (lv_sub hl [] rfl) hP hD hS hF
      · rw [if_pos hh] at hF
        refine lv_iconst (v := (1 : Int32)) hx hb d_Re_missed_37 (by decide) ?_
        refine lv_goto (tgt := 42) hx hb d_Re_missed_38 (by decide) ?_
        have hF := Option.some.inj hF
        subst hF
        exact dm_ret B (by decide) d_Re_missed_42 (by decide) (by decide) hP hD hS ⟨rfl, rfl⟩
abbrev b_Wi_open_0 : ByteArray := prog_14_method_2_code
abbrev y_Wi_open_0 : MethodName := { cls := "DelayMachine$Window", name := "open", desc := "(I)Z" }
theorem d_Wi_open_0_0 : decode b_Wi_open_0 0 = .ok (.iload_n 1, 1) := by decide +kernel
theorem d_Wi_open_0_1 : decode b_Wi_open_0 1 = .ok (.aload_n 0, 1) := by decide +kernel
theorem d_Wi_open_0_2 : decode b_Wi_open_0 2 = .ok (.getfield 7, 3) := by decide +kernel
theorem d_Wi_open_0_5 : decode b_Wi_open_0 5 = .ok (.if_icmp .lt (15), 3) := by decide +kernel
theorem d_Wi_open_0_8 : decode b_Wi_open_0 8 = .ok (.iload_n 1, 1) := by decide +kernel
theorem d_Wi_open_0_9 : decode b_Wi_open_0 9 = .ok (.aload_n 0, 1) := by decide +kernel
theorem d_Wi_open_0_10 : decode b_Wi_open_0 10 = .ok (.getfield 13, 3) := by decide +kernel
theorem d_Wi_open_0_13 : decode b_Wi_open_0 13 = .ok (.if_icmp .gt (7), 3) := by decide +kernel
theorem d_Wi_open_0_16 : decode b_Wi_open_0 16 = .ok (.iconst 1, 1) := by decide +kernel
theorem d_Wi_open_0_17 : decode b_Wi_open_0 17 = .ok (.goto (4), 3) := by decide +kernel
theorem d_Wi_open_0_20 : decode b_Wi_open_0 20 = .ok (.iconst 0, 1) := by decide +kernel
theorem d_Wi_open_0_21 : decode b_Wi_open_0 21 = .ok (.ireturn, 1) := by decide +kernel
theorem hd_Wi_open_0 : y_Wi_open_0.cls ≠ "java/lang/invoke/MethodHandle" ∧ y_Wi_open_0.cls ≠ "java/lang/invoke/VarHandle" ∧ (parseMethodDescriptor y_Wi_open_0.desc).map (fun d => d.parameters.length) = some 1 := by decide +kernel
abbrev rm_Wi_open_0 : Room := { frames := 0, cells := 0, slots := 0, locals := 0 }
def F_Wi_open_0_20 (x1 : Int32) (v : Nat → Int32) (f : Nat → Nat → Int32) (w : Nat → Nat)    : Option (Int32) := (some (0 : Int32))
def F_Wi_open_0 (x1 : Int32) (v : Nat → Int32) (f : Nat → Nat → Int32) (w : Nat → Nat)  : Option (Int32) := (if x1 < (v 50) then (F_Wi_open_0_20 x1 v f w) else (if (v 51) < x1 then (F_Wi_open_0_20 x1 v f w) else (some (1 : Int32))))
set_option maxHeartbeats 4000000 in
set_option maxRecDepth 100000 in
theorem c_Wi_open_0 (l : Launch) (G : dm_G) (g h : Nat → Nat) (x1 : Int32) (v : Nat → Int32) (f : Nat → Nat → Int32) (w : Nat → Nat) (RES : Int32) (hF : F_Wi_open_0 x1 v f w = some RES) : dm_Ct l y_Wi_open_0 b_Wi_open_0 2 (some .boolean) rm_Wi_open_0 G (mw G g h v f w) [.ref (h 0), .int x1] (fun ov w' => ov = some (.int RES) ∧ w' = (mw G g h v f w)) := by
  refine dm_Ct.of (by decide +kernel) (Nat.le_of_ble_eq_true rfl) ?_
  intro p e s m below meth c A ls B hl hP hD hS
  have hx := B.1
  have hb := B.2.1
  have hl : lv_has ls 2 [(0, .ref (h 0)), (1, .int x1)] := hl
  have K20 : ∀ (ls : Array Slot) (H : Heap) (locs : List Loc)  , lv_has ls 2 [] → va_P G.1 dm_cl (mw G g h v f w) H → va_D A (mw G g h v f w) → va_S A s.heap H locs → F_Wi_open_0_20 x1 v f w   = some RES → W p l e rm_Wi_open_0 s m ([.ref (h 0), .int x1] : List Value).toArray below meth c H locs 0 0 (dm_Z below G s ([.ref (h 0), .int x1] : List Value).toArray A rm_Wi_open_0.cells rm_Wi_open_0.slots (fun ov w' => ov = some (.int RES) ∧ w' = (mw G g h v f w))) (F0 m 20 ls []) := by
    intro ls H locs  hl hP hD hS hF
    have hF : (some (0 : Int32)) = some RES := hF
    refine lv_iconst (v := (0 : Int32)) hx hb d_Wi_open_0_20 (by decide) ?_
    have hF := Option.some.inj hF
    subst hF
    exact dm_ret B (by decide) d_Wi_open_0_21 (by decide) (by decide) hP hD hS ⟨rfl, rfl⟩
  have hF : (if x1 < (v 50) then (F_Wi_open_0_20 x1 v f w) else (if (v 51) < x1 then (F_Wi_open_0_20 x1 v f w) else (some (1 : Int32)))) = some RES := hF
  refine lv_iload_n hx hb d_Wi_open_0_0 rfl (lv_at hl 1 rfl) ?_
  refine lv_aload_n hx hb d_Wi_open_0_1 rfl (lv_at hl 0 rfl) ?_
  refine mw_g_9_0 (x := (v 50)) B hP rfl k_98 d_Wi_open_0_2 ?_
  refine lv_icmp_lt (tgt := 20) hx hb d_Wi_open_0_5 (by decide) (fun (hh : x1 < (v 50)) => ?_) (fun (hh : ¬ x1 < (v 50)) => ?_)
  · rw [if_pos hh] at hF
    exact K20 ls _ _  (lv_sub hl [] rfl) hP hD hS hF
  · rw [if_neg hh] at hF
    refine lv_iload_n hx hb d_Wi_open_0_8 rfl (lv_at hl 1 rfl) ?_
    refine lv_aload_n hx hb d_Wi_open_0_9 rfl (lv_at hl 0 rfl) ?_
    refine mw_g_9_1 (x := (v 51)) B hP rfl k_100 d_Wi_open_0_10 ?_
    refine lv_icmp_gt (tgt := 20) hx hb d_Wi_open_0_13 (by decide) (fun (hh : (v 51) < x1) => ?_) (fun (hh : ¬ (v 51) < x1) => ?_)
    · rw [if_pos hh] at hF
      exact K20 ls _ _  (lv_sub hl [] rfl) hP hD hS hF
    · rw [if_neg hh] at hF
      refine lv_iconst (v := (1 : Int32)) hx hb d_Wi_open_0_16 (by decide) ?_
      refine lv_goto (tgt := 21) hx hb d_Wi_open_0_17 (by decide) ?_
      have hF := Option.some.inj hF
      subst hF
      exact dm_ret B (by decide) d_Wi_open_0_21 (by decide) (by decide) hP hD hS ⟨rfl, rfl⟩
abbrev b_Wi_close_0 : ByteArray := prog_14_method_3_code
abbrev y_Wi_close_0 : MethodName := { cls := "DelayMachine$Window", name := "close", desc := "()V" }
theorem d_Wi_close_0_0 : decode b_Wi_close_0 0 = .ok (.aload_n 0, 1) := by decide +kernel
theorem d_Wi_close_0_1 : decode b_Wi_close_0 1 = .ok (.iconst (-1), 1) := by decide +kernel
theorem d_Wi_close_0_2 : decode b_Wi_close_0 2 = .ok (.putfield 7, 3) := by decide +kernel
theorem d_Wi_close_0_5 : decode b_Wi_close_0 5 = .ok (.aload_n 0, 1) := by decide +kernel
theorem d_Wi_close_0_6 : decode b_Wi_close_0 6 = .ok (.iconst (-1), 1) := by decide +kernel
theorem d_Wi_close_0_7 : decode b_Wi_close_0 7 = .ok (.putfield 13, 3) := by decide +kernel
theorem d_Wi_close_0_10 : decode b_Wi_close_0 10 = .ok (.return_, 1) := by decide +kernel
theorem hd_Wi_close_0 : y_Wi_close_0.cls ≠ "java/lang/invoke/MethodHandle" ∧ y_Wi_close_0.cls ≠ "java/lang/invoke/VarHandle" ∧ (parseMethodDescriptor y_Wi_close_0.desc).map (fun d => d.parameters.length) = some 0 := by decide +kernel
abbrev rm_Wi_close_0 : Room := { frames := 0, cells := 0, slots := 0, locals := 0 }
def F_Wi_close_0  (v : Nat → Int32) (f : Nat → Nat → Int32) (w : Nat → Nat) : Option ((Nat → Int32) × (Nat → Nat → Int32) × (Nat → Nat)) := (some ((va_up (va_up v 50 (-1 : Int32)) 51 (-1 : Int32)), f, w))
set_option maxHeartbeats 4000000 in
set_option maxRecDepth 100000 in
theorem c_Wi_close_0 (l : Launch) (G : dm_G) (g h : Nat → Nat) (v : Nat → Int32) (f : Nat → Nat → Int32) (w : Nat → Nat) (RES : (Nat → Int32) × (Nat → Nat → Int32) × (Nat → Nat)) (hF : F_Wi_close_0 v f w = some RES) : dm_Ct l y_Wi_close_0 b_Wi_close_0 1 none rm_Wi_close_0 G (mw G g h v f w) [.ref (h 0)] (fun ov w' => ov = none ∧ w' = (mw G g h RES.1 RES.2.1 RES.2.2)) := by
  refine dm_Ct.of (by decide +kernel) (Nat.le_of_ble_eq_true rfl) ?_
  intro p e s m below meth c A ls B hl hP hD hS
  have hx := B.1
  have hb := B.2.1
  have hl : lv_has ls 1 [(0, .ref (h 0))] := hl
  have hF : (some ((va_up (va_up v 50 (-1 : Int32)) 51 (-1 : Int32)), f, w)) = some RES := hF
  refine lv_aload_n hx hb d_Wi_close_0_0 rfl (lv_at hl 0 rfl) ?_
  refine lv_iconst (v := (-1 : Int32)) hx hb d_Wi_close_0_1 (by decide) ?_
  refine mw_p_9_0 (x := (-1 : Int32)) B hP hD hS k_98 d_Wi_close_0_2 (fun H locs hP hD hS => ?_)
  refine lv_aload_n hx hb d_Wi_close_0_5 rfl (lv_at hl 0 rfl) ?_
  refine lv_iconst (v := (-1 : Int32)) hx hb d_Wi_close_0_6 (by decide) ?_
  refine mw_p_9_1 (x := (-1 : Int32)) B hP hD hS k_100 d_Wi_close_0_7 (fun H locs hP hD hS => ?_)
  have hF := Option.some.inj hF
  subst hF
  exact dm_retv B d_Wi_close_0_10 (by decide) (by decide) hP hD hS ⟨rfl, rfl⟩
abbrev b_Wi_open_1 : ByteArray := prog_14_method_2_code
abbrev y_Wi_open_1 : MethodName := { cls := "DelayMachine$Window", name := "open", desc := "(I)Z" }
theorem hd_Wi_open_1 : y_Wi_open_1.cls ≠ "java/lang/invoke/MethodHandle" ∧ y_Wi_open_1.cls ≠ "java/lang/invoke/VarHandle" ∧ (parseMethodDescriptor y_Wi_open_1.desc).map (fun d => d.parameters.length) = some 1 := by decide +kernel
abbrev rm_Wi_open_1 : Room := { frames := 0, cells := 0, slots := 0, locals := 0 }
def F_Wi_open_1_20 (x1 : Int32) (v : Nat → Int32) (f : Nat → Nat → Int32) (w : Nat → Nat)    : Option (Int32) := (some (0 : Int32))
def F_Wi_open_1 (x1 : Int32) (v : Nat → Int32) (f : Nat → Nat → Int32) (w : Nat → Nat)  : Option (Int32) := (if x1 < (v 52) then (F_Wi_open_1_20 x1 v f w) else (if (v 53) < x1 then (F_Wi_open_1_20 x1 v f w) else (some (1 : Int32))))
set_option maxHeartbeats 4000000 in
set_option maxRecDepth 100000 in
theorem c_Wi_open_1 (l : Launch) (G : dm_G) (g h : Nat → Nat) (x1 : Int32) (v : Nat → Int32) (f : Nat → Nat → Int32) (w : Nat → Nat) (RES : Int32) (hF : F_Wi_open_1 x1 v f w = some RES) : dm_Ct l y_Wi_open_1 b_Wi_open_1 2 (some .boolean) rm_Wi_open_1 G (mw G g h v f w) [.ref (h 1), .int x1] (fun ov w' => ov = some (.int RES) ∧ w' = (mw G g h v f w)) := by
  refine dm_Ct.of (by decide +kernel) (Nat.le_of_ble_eq_true rfl) ?_
  intro p e s m below meth c A ls B hl hP hD hS
  have hx := B.1
  have hb := B.2.1
  have hl : lv_has ls 2 [(0, .ref (h 1)), (1, .int x1)] := hl
  have K20 : ∀ (ls : Array Slot) (H : Heap) (locs : List Loc)  , lv_has ls 2 [] → va_P G.1 dm_cl (mw G g h v f w) H → va_D A (mw G g h v f w) → va_S A s.heap H locs → F_Wi_open_1_20 x1 v f w   = some RES → W p l e rm_Wi_open_1 s m ([.ref (h 1), .int x1] : List Value).toArray below meth c H locs 0 0 (dm_Z below G s ([.ref (h 1), .int x1] : List Value).toArray A rm_Wi_open_1.cells rm_Wi_open_1.slots (fun ov w' => ov = some (.int RES) ∧ w' = (mw G g h v f w))) (F0 m 20 ls []) := by
    intro ls H locs  hl hP hD hS hF
    have hF : (some (0 : Int32)) = some RES := hF
    refine lv_iconst (v := (0 : Int32)) hx hb d_Wi_open_0_20 (by decide) ?_
    have hF := Option.some.inj hF
    subst hF
    exact dm_ret B (by decide) d_Wi_open_0_21 (by decide) (by decide) hP hD hS ⟨rfl, rfl⟩
  have hF : (if x1 < (v 52) then (F_Wi_open_1_20 x1 v f w) else (if (v 53) < x1 then (F_Wi_open_1_20 x1 v f w) else (some (1 : Int32)))) = some RES := hF
  refine lv_iload_n hx hb d_Wi_open_0_0 rfl (lv_at hl 1 rfl) ?_
  refine lv_aload_n hx hb d_Wi_open_0_1 rfl (lv_at hl 0 rfl) ?_
  refine mw_g_10_0 (x := (v 52)) B hP rfl k_98 d_Wi_open_0_2 ?_
  refine lv_icmp_lt (tgt := 20) hx hb d_Wi_open_0_5 (by decide) (fun (hh : x1 < (v 52)) => ?_) (fun (hh : ¬ x1 < (v 52)) => ?_)
  · rw [if_pos hh] at hF
    exact K20 ls _ _  (lv_sub hl [] rfl) hP hD hS hF
  · rw [if_neg hh] at hF
    refine lv_iload_n hx hb d_Wi_open_0_8 rfl (lv_at hl 1 rfl) ?_
    refine lv_aload_n hx hb d_Wi_open_0_9 rfl (lv_at hl 0 rfl) ?_
    refine mw_g_10_1 (x := (v 53)) B hP rfl k_100 d_Wi_open_0_10 ?_
    refine lv_icmp_gt (tgt := 20) hx hb d_Wi_open_0_13 (by decide) (fun (hh : (v 53) < x1) => ?_) (fun (hh : ¬ (v 53) < x1) => ?_)
    · rw [if_pos hh] at hF
      exact K20 ls _ _  (lv_sub hl [] rfl) hP hD hS hF
    · rw [if_neg hh] at hF
      refine lv_iconst (v := (1 : Int32)) hx hb d_Wi_open_0_16 (by decide) ?_
      refine lv_goto (tgt := 21) hx hb d_Wi_open_0_17 (by decide) ?_
      have hF := Option.some.inj hF
      subst hF
      exact dm_ret B (by decide) d_Wi_open_0_21 (by decide) (by decide) hP hD hS ⟨rfl, rfl⟩
abbrev b_Wi_close_1 : ByteArray := prog_14_method_3_code
abbrev y_Wi_close_1 : MethodName := { cls := "DelayMachine$Window", name := "close", desc := "()V" }
theorem hd_Wi_close_1 : y_Wi_close_1.cls ≠ "java/lang/invoke/MethodHandle" ∧ y_Wi_close_1.cls ≠ "java/lang/invoke/VarHandle" ∧ (parseMethodDescriptor y_Wi_close_1.desc).map (fun d => d.parameters.length) = some 0 := by decide +kernel
abbrev rm_Wi_close_1 : Room := { frames := 0, cells := 0, slots := 0, locals := 0 }
def F_Wi_close_1  (v : Nat → Int32) (f : Nat → Nat → Int32) (w : Nat → Nat) : Option ((Nat → Int32) × (Nat → Nat → Int32) × (Nat → Nat)) := (some ((va_up (va_up v 52 (-1 : Int32)) 53 (-1 : Int32)), f, w))
set_option maxHeartbeats 4000000 in
set_option maxRecDepth 100000 in
theorem c_Wi_close_1 (l : Launch) (G : dm_G) (g h : Nat → Nat) (v : Nat → Int32) (f : Nat → Nat → Int32) (w : Nat → Nat) (RES : (Nat → Int32) × (Nat → Nat → Int32) × (Nat → Nat)) (hF : F_Wi_close_1 v f w = some RES) : dm_Ct l y_Wi_close_1 b_Wi_close_1 1 none rm_Wi_close_1 G (mw G g h v f w) [.ref (h 1)] (fun ov w' => ov = none ∧ w' = (mw G g h RES.1 RES.2.1 RES.2.2)) := by
  refine dm_Ct.of (by decide +kernel) (Nat.le_of_ble_eq_true rfl) ?_
  intro p e s m below meth c A ls B hl hP hD hS
  have hx := B.1
  have hb := B.2.1
  have hl : lv_has ls 1 [(0, .ref (h 1))] := hl
  have hF : (some ((va_up (va_up v 52 (-1 : Int32)) 53 (-1 : Int32)), f, w)) = some RES := hF
  refine lv_aload_n hx hb d_Wi_close_0_0 rfl (lv_at hl 0 rfl) ?_
  refine lv_iconst (v := (-1 : Int32)) hx hb d_Wi_close_0_1 (by decide) ?_
  refine mw_p_10_0 (x := (-1 : Int32)) B hP hD hS k_98 d_Wi_close_0_2 (fun H locs hP hD hS => ?_)
  refine lv_aload_n hx hb d_Wi_close_0_5 rfl (lv_at hl 0 rfl) ?_
  refine lv_iconst (v := (-1 : Int32)) hx hb d_Wi_close_0_6 (by decide) ?_
  refine mw_p_10_1 (x := (-1 : Int32)) B hP hD hS k_100 d_Wi_close_0_7 (fun H locs hP hD hS => ?_)
  have hF := Option.some.inj hF
  subst hF
  exact dm_retv B d_Wi_close_0_10 (by decide) (by decide) hP hD hS ⟨rfl, rfl⟩
