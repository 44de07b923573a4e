abbrev b_Ma_fail : ByteArray := prog_6_method_3_code
abbrev y_Ma_fail : MethodName := { cls := "DelayMachine$Machine", name := "fail", desc := "(I)V" }
theorem d_Ma_fail_0 : decode b_Ma_fail 0 = .ok (.aload_n 0, 1) := by decide +kernel
theorem d_Ma_fail_1 : decode b_Ma_fail 1 = .ok (.getfield 87, 3) := by decide +kernel
theorem d_Ma_fail_4 : decode b_Ma_fail 4 = .ok (.ifCond .ne (8), 3) := by decide +kernel
theorem d_Ma_fail_7 : decode b_Ma_fail 7 = .ok (.aload_n 0, 1) := by decide +kernel
theorem d_Ma_fail_8 : decode b_Ma_fail 8 = .ok (.iload_n 1, 1) := by decide +kernel
theorem d_Ma_fail_9 : decode b_Ma_fail 9 = .ok (.putfield 87, 3) := by decide +kernel
theorem d_Ma_fail_12 : decode b_Ma_fail 12 = .ok (.aload_n 0, 1) := by decide +kernel
theorem d_Ma_fail_13 : decode b_Ma_fail 13 = .ok (.iconst 0, 1) := by decide +kernel
theorem d_Ma_fail_14 : decode b_Ma_fail 14 = .ok (.putfield 90, 3) := by decide +kernel
theorem d_Ma_fail_17 : decode b_Ma_fail 17 = .ok (.return_, 1) := by decide +kernel
theorem hd_Ma_fail : y_Ma_fail.cls ≠ "java/lang/invoke/MethodHandle" ∧ y_Ma_fail.cls ≠ "java/lang/invoke/VarHandle" ∧ (parseMethodDescriptor y_Ma_fail.desc).map (fun d => d.parameters.length) = some 1 := by decide +kernel
abbrev rm_Ma_fail : Room := { frames := 0, cells := 0, slots := 0, locals := 0 }
def F_Ma_fail_12 (x1 : Int32)    (v : Nat → Int32) (f : Nat → Nat → Int32) (w : Nat → Nat) : Option ((Nat → Int32) × (Nat → Nat → Int32) × (Nat → Nat)) := (some ((va_up v 9 (0 : Int32)), f, w))
def F_Ma_fail (x1 : Int32)  (v : Nat → Int32) (f : Nat → Nat → Int32) (w : Nat → Nat) : Option ((Nat → Int32) × (Nat → Nat → Int32) × (Nat → Nat)) := (if (v 10) = (0 : Int32) then (F_Ma_fail_12 x1 (va_up v 10 x1) f w) else (F_Ma_fail_12 x1 v f w))
set_option maxHeartbeats 4000000 in
set_option maxRecDepth 100000 in
theorem c_Ma_fail (l : Launch) (G : dm_G) (g h : Nat → Nat) (x1 : Int32) (v : Nat → Int32) (f : Nat → Nat → Int32) (w : Nat → Nat) (RES : (Nat → Int32) × (Nat → Nat → Int32) × (Nat → Nat)) (hF : F_Ma_fail x1 v f w = some RES) : dm_Ct l y_Ma_fail b_Ma_fail 2 none rm_Ma_fail G (mw G g h v f w) [.ref (g 0), .int x1] (fun ov w' => ov = none ∧ w' = (mw G g h RES.1 RES.2.1 RES.2.2)) := by
  refine dm_Ct.of (by decide +kernel) (Nat.le_of_ble_eq_true rfl) ?_
  intro p e s m below meth c A ls B hl hP hD hS
  have hx := B.1
  have hb := B.2.1
  have hl : lv_has ls 2 [(0, .ref (g 0)), (1, .int x1)] := hl
  have K12 : ∀ (ls : Array Slot) (H : Heap) (locs : List Loc)  (v : Nat → Int32) (f : Nat → Nat → Int32) (w : Nat → Nat), lv_has ls 2 [(0, .ref (g 0))] → va_P G.1 dm_cl (mw G g h v f w) H → va_D A (mw G g h v f w) → va_S A s.heap H locs → F_Ma_fail_12 x1  v f w = some RES → W p l e rm_Ma_fail s m ([.ref (g 0), .int x1] : List Value).toArray below meth c H locs 0 0 (dm_Z below G s ([.ref (g 0), .int x1] : List Value).toArray A rm_Ma_fail.cells rm_Ma_fail.slots (fun ov w' => ov = none ∧ w' = (mw G g h RES.1 RES.2.1 RES.2.2))) (F0 m 12 ls []) := by
    intro ls H locs v f w hl hP hD hS hF
    have hF : (some ((va_up v 9 (0 : Int32)), f, w)) = some RES := hF
    refine lv_aload_n hx hb d_Ma_fail_12 rfl (lv_at hl 0 rfl) ?_
    refine lv_iconst (v := (0 : Int32)) hx hb d_Ma_fail_13 (by decide) ?_
    refine mw_p_0_9 (x := (0 : Int32)) B hP hD hS (by decide) k_133 d_Ma_fail_14 (fun H locs hP hD hS => ?_)
    have hF := Option.some.inj hF
    subst hF
    exact dm_retv B d_Ma_fail_17 (by decide) (by decide) hP hD hS ⟨rfl, rfl⟩
  have hF : (if (v 10) = (0 : Int32) then (F_Ma_fail_12 x1 (va_up v 10 x1) f w) else (F_Ma_fail_12 x1 v f w)) = some RES := hF
  refine lv_aload_n hx hb d_Ma_fail_0 rfl (lv_at hl 0 rfl) ?_
  refine mw_g_0_10 (x := (v 10)) B hP rfl k_135 d_Ma_fail_1 ?_
  refine lv_if_ne (tgt := 12) hx hb d_Ma_fail_4 (by decide) (fun (hh : ¬ (v 10) = (0 : Int32)) => ?_) (fun (hh : (v 10) = (0 : Int32)) => ?_)
  · rw [if_neg hh] at hF
    exact K12 ls _ _ v f w (lv_sub hl [0] rfl) hP hD hS hF
  · rw [if_pos hh] at hF
    refine lv_aload_n hx hb d_Ma_fail_7 rfl (lv_at hl 0 rfl) ?_
    refine lv_iload_n hx hb d_Ma_fail_8 rfl (lv_at hl 1 rfl) ?_
    refine mw_p_0_10 (x := x1) B hP hD hS k_135 d_Ma_fail_9 (fun H locs hP hD hS => ?_)
    exact K12 ls _ _ (va_up v 10 x1) f w (lv_sub hl [0] rfl) hP hD hS hF
abbrev b_Ma_punch : ByteArray := prog_6_method_4_code
abbrev y_Ma_punch : MethodName := { cls := "DelayMachine$Machine", name := "punch", desc := "(IS)V" }
theorem d_Ma_punch_0 : decode b_Ma_punch 0 = .ok (.iload_n 1, 1) := by decide +kernel
theorem d_Ma_punch_1 : decode b_Ma_punch 1 = .ok (.aload_n 0, 1) := by decide +kernel
theorem d_Ma_punch_2 : decode b_Ma_punch 2 = .ok (.getfield 68, 3) := by decide +kernel
theorem d_Ma_punch_5 : decode b_Ma_punch 5 = .ok (.isub, 1) := by decide +kernel
theorem d_Ma_punch_6 : decode b_Ma_punch 6 = .ok (.bipush (6), 2) := by decide +kernel
theorem d_Ma_punch_8 : decode b_Ma_punch 8 = .ok (.if_icmp .lt (12), 3) := by decide +kernel
theorem d_Ma_punch_11 : decode b_Ma_punch 11 = .ok (.aload_n 0, 1) := by decide +kernel
theorem d_Ma_punch_12 : decode b_Ma_punch 12 = .ok (.getfield 94, 3) := by decide +kernel
theorem d_Ma_punch_15 : decode b_Ma_punch 15 = .ok (.bipush (60), 2) := by decide +kernel
theorem d_Ma_punch_17 : decode b_Ma_punch 17 = .ok (.if_icmp .ne (9), 3) := by decide +kernel
theorem d_Ma_punch_20 : decode b_Ma_punch 20 = .ok (.aload_n 0, 1) := by decide +kernel
theorem d_Ma_punch_21 : decode b_Ma_punch 21 = .ok (.iconst 3, 1) := by decide +kernel
theorem d_Ma_punch_22 : decode b_Ma_punch 22 = .ok (.invokevirtual 97, 3) := by decide +kernel
theorem d_Ma_punch_25 : decode b_Ma_punch 25 = .ok (.return_, 1) := by decide +kernel
theorem d_Ma_punch_26 : decode b_Ma_punch 26 = .ok (.aload_n 0, 1) := by decide +kernel
theorem d_Ma_punch_27 : decode b_Ma_punch 27 = .ok (.getfield 64, 3) := by decide +kernel
theorem d_Ma_punch_30 : decode b_Ma_punch 30 = .ok (.aload_n 0, 1) := by decide +kernel
theorem d_Ma_punch_31 : decode b_Ma_punch 31 = .ok (.getfield 94, 3) := by decide +kernel
theorem d_Ma_punch_34 : decode b_Ma_punch 34 = .ok (.iload_n 2, 1) := by decide +kernel
theorem d_Ma_punch_35 : decode b_Ma_punch 35 = .ok (.sastore, 1) := by decide +kernel
theorem d_Ma_punch_36 : decode b_Ma_punch 36 = .ok (.aload_n 0, 1) := by decide +kernel
theorem d_Ma_punch_37 : decode b_Ma_punch 37 = .ok (.dup, 1) := by decide +kernel
theorem d_Ma_punch_38 : decode b_Ma_punch 38 = .ok (.getfield 94, 3) := by decide +kernel
theorem d_Ma_punch_41 : decode b_Ma_punch 41 = .ok (.iconst 1, 1) := by decide +kernel
theorem d_Ma_punch_42 : decode b_Ma_punch 42 = .ok (.iadd, 1) := by decide +kernel
theorem d_Ma_punch_43 : decode b_Ma_punch 43 = .ok (.putfield 94, 3) := by decide +kernel
theorem d_Ma_punch_46 : decode b_Ma_punch 46 = .ok (.aload_n 0, 1) := by decide +kernel
theorem d_Ma_punch_47 : decode b_Ma_punch 47 = .ok (.iload_n 1, 1) := by decide +kernel
theorem d_Ma_punch_48 : decode b_Ma_punch 48 = .ok (.putfield 68, 3) := by decide +kernel
theorem d_Ma_punch_51 : decode b_Ma_punch 51 = .ok (.return_, 1) := by decide +kernel
theorem hd_Ma_punch : y_Ma_punch.cls ≠ "java/lang/invoke/MethodHandle" ∧ y_Ma_punch.cls ≠ "java/lang/invoke/VarHandle" ∧ (parseMethodDescriptor y_Ma_punch.desc).map (fun d => d.parameters.length) = some 2 := by decide +kernel
abbrev rm_Ma_punch : Room := { frames := 1, cells := 0, slots := 0, locals := 21 }
def F_Ma_punch_20 (x1 x2 : Int32)    (v : Nat → Int32) (f : Nat → Nat → Int32) (w : Nat → Nat) : Option ((Nat → Int32) × (Nat → Nat → Int32) × (Nat → Nat)) := (Option.bind (F_Ma_fail (3 : Int32) v f w) (fun z1 => (some (z1.1, z1.2.1, z1.2.2))))
def F_Ma_punch (x1 x2 : Int32)  (v : Nat → Int32) (f : Nat → Nat → Int32) (w : Nat → Nat) : Option ((Nat → Int32) × (Nat → Nat → Int32) × (Nat → Nat)) := (if (x1 - (v 20)) < (6 : Int32) then (F_Ma_punch_20 x1 x2 v f w) else (if (v 19) = (60 : Int32) then (F_Ma_punch_20 x1 x2 v f w) else (if (v 19) < 0 ∨ 60 ≤ (v 19).toNatClampNeg then none else (some ((va_up (va_up v 19 ((v 19) + (1 : Int32))) 20 x1), (va_up f 10 (upd (f 10) (v 19).toNatClampNeg x2.toInt16.toInt32)), w)))))
set_option maxHeartbeats 4000000 in
set_option maxRecDepth 100000 in
theorem c_Ma_punch (l : Launch) (G : dm_G) (g h : Nat → Nat) (x1 x2 : Int32) (v : Nat → Int32) (f : Nat → Nat → Int32) (w : Nat → Nat) (RES : (Nat → Int32) × (Nat → Nat → Int32) × (Nat → Nat)) (hF : F_Ma_punch x1 x2 v f w = some RES) : dm_Ct l y_Ma_punch b_Ma_punch 3 none rm_Ma_punch G (mw G g h v f w) [.ref (g 0), .int x1, .int x2] (fun ov w' => ov = none ∧ w' = (mw G g h RES.1 RES.2.1 RES.2.2)) := by
  refine dm_Ct.of (by decide +kernel) (Nat.le_of_ble_eq_true rfl) ?_
  intro p e s m below meth c A ls B hl hP hD hS
  have hx := B.1
  have hb := B.2.1
  have hl : lv_has ls 3 [(0, .ref (g 0)), (1, .int x1), (2, .int x2)] := hl
  have K20 : ∀ (ls : Array Slot) (H : Heap) (locs : List Loc)  (v : Nat → Int32) (f : Nat → Nat → Int32) (w : Nat → Nat), lv_has ls 3 [(0, .ref (g 0))] → va_P G.1 dm_cl (mw G g h v f w) H → va_D A (mw G g h v f w) → va_S A s.heap H locs → F_Ma_punch_20 x1 x2  v f w = some RES → W p l e rm_Ma_punch s m ([.ref (g 0), .int x1, .int x2] : List Value).toArray below meth c H locs 0 0 (dm_Z below G s ([.ref (g 0), .int x1, .int x2] : List Value).toArray A rm_Ma_punch.cells rm_Ma_punch.slots (fun ov w' => ov = none ∧ w' = (mw G g h RES.1 RES.2.1 RES.2.2))) (F0 m 20 ls []) := by
    intro ls H locs v f w hl hP hD hS hF
    have hF : (Option.bind (F_Ma_fail (3 : Int32) v f w) (fun z1 => (some (z1.1, z1.2.1, z1.2.2)))) = some RES := hF
    refine lv_aload_n hx hb d_Ma_punch_20 rfl (lv_at hl 0 rfl) ?_
    refine lv_iconst (v := (3 : Int32)) hx hb d_Ma_punch_21 (by decide) ?_
    obtain ⟨z1, hcz1, hF⟩ := dm_bind hF
    refine dm_callVw B [.int (3 : Int32)] (c_Ma_fail l G g h (3 : Int32) v f w z1 hcz1) k_455 k_448 k_449 k_2 k_450 hd_Ma_fail rfl ⟨by decide, by decide⟩ 0 rfl rfl hP hD hS hl.1 (rest := []) rfl (Nat.le_of_ble_eq_true rfl) d_Ma_punch_22 ⟨by decide, by decide⟩ (fun ov w' H locs hq hP hD hS => ?_)
    obtain ⟨rfl, rfl⟩ := hq
    have hP : va_P G.1 dm_cl (mw G g h z1.1 z1.2.1 z1.2.2) H := hP
    have hD : va_D A (mw G g h z1.1 z1.2.1 z1.2.2) := hD
    refine W.eq (g2 := F0 m 25 ls []) rfl ?_
    have hF := Option.some.inj hF
    subst hF
    exact dm_retv B d_Ma_punch_25 (by decide) (by decide) hP hD hS ⟨rfl, rfl⟩
  have hF : (if (x1 - (v 20)) < (6 : Int32) then (F_Ma_punch_20 x1 x2 v f w) else (if (v 19) = (60 : Int32) then (F_Ma_punch_20 x1 x2 v f w) else (if (v 19) < 0 ∨ 60 ≤ (v 19).toNatClampNeg then none else (some ((va_up (va_up v 19 ((v 19) + (1 : Int32))) 20 x1), (va_up f 10 (upd (f 10) (v 19).toNatClampNeg x2.toInt16.toInt32)), w))))) = some RES := hF
  refine lv_iload_n hx hb d_Ma_punch_0 rfl (lv_at hl 1 rfl) ?_
  refine lv_aload_n hx hb d_Ma_punch_1 rfl (lv_at hl 0 rfl) ?_
  refine mw_g_0_20 (x := (v 20)) B hP rfl k_153 d_Ma_punch_2 ?_
  refine lv_isub hx hb d_Ma_punch_5 ?_
  refine lv_bipush (v := (6 : Int32)) hx hb d_Ma_punch_6 (by decide) ?_
  refine lv_icmp_lt (tgt := 20) hx hb d_Ma_punch_8 (by decide) (fun (hh : (x1 - (v 20)) < (6 : Int32)) => ?_) (fun (hh : ¬ (x1 - (v 20)) < (6 : Int32)) => ?_)
  · rw [if_pos hh] at hF
    exact K20 ls _ _ v f w (lv_sub hl [0] rfl) hP hD hS hF
  · rw [if_neg hh] at hF
    refine lv_aload_n hx hb d_Ma_punch_11 rfl (lv_at hl 0 rfl) ?_
    refine mw_g_0_19 (x := (v 19)) B hP rfl k_151 d_Ma_punch_12 ?_
    refine lv_bipush (v := (60 : Int32)) hx hb d_Ma_punch_15 (by decide) ?_
    refine lv_icmp_ne (tgt := 26) hx hb d_Ma_punch_17 (by decide) (fun (hh : ¬ (v 19) = (60 : Int32)) => ?_) (fun (hh : (v 19) = (60 : Int32)) => ?_)
    · rw [if_neg hh] at hF
      refine lv_aload_n hx hb d_Ma_punch_26 rfl (lv_at hl 0 rfl) ?_
      refine mw_g_0_18 B hP k_149 d_Ma_punch_27 ?_
      refine lv_aload_n hx hb d_Ma_punch_30 rfl (lv_at hl 0 rfl) ?_
      refine mw_g_0_19 (x := (v 19)) B hP rfl k_151 d_Ma_punch_31 ?_
      refine lv_iload_n hx hb d_Ma_punch_34 rfl (lv_at hl 2 rfl) ?_
      obtain ⟨hi, hF⟩ := dm_chk hF
      refine mw_s_8 (F := (f 10)) B hP hD hS rfl hi d_Ma_punch_35 (fun H locs hP hD hS => ?_)
      refine lv_aload_n hx hb d_Ma_punch_36 rfl (lv_at hl 0 rfl) ?_
      refine lv_dup hx hb d_Ma_punch_37 rfl ?_
      refine mw_g_0_19 (x := (v 19)) B hP rfl k_151 d_Ma_punch_38 ?_
      refine lv_iconst (v := (1 : Int32)) hx hb d_Ma_punch_41 (by decide) ?_
      refine lv_iadd hx hb d_Ma_punch_42 ?_
      refine mw_p_0_19 (x := ((v 19) + (1 : Int32))) B hP hD hS k_151 d_Ma_punch_43 (fun H locs hP hD hS => ?_)
      refine lv_aload_n hx hb d_Ma_punch_46 rfl (lv_at hl 0 rfl) ?_
      refine lv_iload_n hx hb d_Ma_punch_47 rfl (lv_at hl 1 rfl) ?_
      refine mw_p_0_20 (x := x1) B hP hD hS k_153 d_Ma_punch_48 (fun H locs hP hD hS => ?_)
      have hF := Option.some.inj hF
      subst hF
      exact dm_retv B d_Ma_punch_51 (by decide) (by decide) hP hD hS ⟨rfl, rfl⟩
    · rw [if_pos hh] at hF
      exact K20 ls _ _ v f w (lv_sub hl [0] rfl) hP hD hS hF
abbrev b_Ma_start : ByteArray := prog_6_method_5_code
abbrev y_Ma_start : MethodName := { cls := "DelayMachine$Machine", name := "start", desc := "(II)V" }
theorem d_Ma_start_0 : decode b_Ma_start 0 = .ok (.aload_n 0, 1) := by decide +kernel
theorem d_Ma_start_1 : decode b_Ma_start 1 = .ok (.iconst 1, 1) := by decide +kernel
theorem d_Ma_start_2 : decode b_Ma_start 2 = .ok (.putfield 90, 3) := by decide +kernel
theorem d_Ma_start_5 : decode b_Ma_start 5 = .ok (.aload_n 0, 1) := by decide +kernel
theorem d_Ma_start_6 : decode b_Ma_start 6 = .ok (.iconst 0, 1) := by decide +kernel
theorem d_Ma_start_7 : decode b_Ma_start 7 = .ok (.putfield 87, 3) := by decide +kernel
theorem d_Ma_start_10 : decode b_Ma_start 10 = .ok (.aload_n 0, 1) := by decide +kernel
theorem d_Ma_start_11 : decode b_Ma_start 11 = .ok (.iload_n 1, 1) := by decide +kernel
theorem d_Ma_start_12 : decode b_Ma_start 12 = .ok (.putfield 100, 3) := by decide +kernel
theorem d_Ma_start_15 : decode b_Ma_start 15 = .ok (.aload_n 0, 1) := by decide +kernel
theorem d_Ma_start_16 : decode b_Ma_start 16 = .ok (.aload_n 0, 1) := by decide +kernel
theorem d_Ma_start_17 : decode b_Ma_start 17 = .ok (.getfield 103, 3) := by decide +kernel
theorem d_Ma_start_20 : decode b_Ma_start 20 = .ok (.iload_n 2, 1) := by decide +kernel
theorem d_Ma_start_21 : decode b_Ma_start 21 = .ok (.aload_n 0, 1) := by decide +kernel
theorem d_Ma_start_22 : decode b_Ma_start 22 = .ok (.getfield 103, 3) := by decide +kernel
theorem d_Ma_start_25 : decode b_Ma_start 25 = .ok (.bipush (32), 2) := by decide +kernel
theorem d_Ma_start_27 : decode b_Ma_start 27 = .ok (.irem, 1) := by decide +kernel
theorem d_Ma_start_28 : decode b_Ma_start 28 = .ok (.isub, 1) := by decide +kernel
theorem d_Ma_start_29 : decode b_Ma_start 29 = .ok (.bipush (32), 2) := by decide +kernel
theorem d_Ma_start_31 : decode b_Ma_start 31 = .ok (.iadd, 1) := by decide +kernel
theorem d_Ma_start_32 : decode b_Ma_start 32 = .ok (.bipush (32), 2) := by decide +kernel
theorem d_Ma_start_34 : decode b_Ma_start 34 = .ok (.irem, 1) := by decide +kernel
theorem d_Ma_start_35 : decode b_Ma_start 35 = .ok (.iadd, 1) := by decide +kernel
theorem d_Ma_start_36 : decode b_Ma_start 36 = .ok (.putfield 106, 3) := by decide +kernel
theorem d_Ma_start_39 : decode b_Ma_start 39 = .ok (.aload_n 0, 1) := by decide +kernel
theorem d_Ma_start_40 : decode b_Ma_start 40 = .ok (.iconst 0, 1) := by decide +kernel
theorem d_Ma_start_41 : decode b_Ma_start 41 = .ok (.putfield 109, 3) := by decide +kernel
theorem d_Ma_start_44 : decode b_Ma_start 44 = .ok (.aload_n 0, 1) := by decide +kernel
theorem d_Ma_start_45 : decode b_Ma_start 45 = .ok (.getfield 50, 3) := by decide +kernel
theorem d_Ma_start_48 : decode b_Ma_start 48 = .ok (.invokevirtual 112, 3) := by decide +kernel
theorem d_Ma_start_51 : decode b_Ma_start 51 = .ok (.aload_n 0, 1) := by decide +kernel
theorem d_Ma_start_52 : decode b_Ma_start 52 = .ok (.getfield 54, 3) := by decide +kernel
theorem d_Ma_start_55 : decode b_Ma_start 55 = .ok (.invokevirtual 112, 3) := by decide +kernel
theorem d_Ma_start_58 : decode b_Ma_start 58 = .ok (.aload_n 0, 1) := by decide +kernel
theorem d_Ma_start_59 : decode b_Ma_start 59 = .ok (.getfield 24, 3) := by decide +kernel
theorem d_Ma_start_62 : decode b_Ma_start 62 = .ok (.iconst 0, 1) := by decide +kernel
theorem d_Ma_start_63 : decode b_Ma_start 63 = .ok (.putfield 115, 3) := by decide +kernel
theorem d_Ma_start_66 : decode b_Ma_start 66 = .ok (.aload_n 0, 1) := by decide +kernel
theorem d_Ma_start_67 : decode b_Ma_start 67 = .ok (.getfield 31, 3) := by decide +kernel
theorem d_Ma_start_70 : decode b_Ma_start 70 = .ok (.iconst 0, 1) := by decide +kernel
theorem d_Ma_start_71 : decode b_Ma_start 71 = .ok (.putfield 118, 3) := by decide +kernel
theorem d_Ma_start_74 : decode b_Ma_start 74 = .ok (.aload_n 0, 1) := by decide +kernel
theorem d_Ma_start_75 : decode b_Ma_start 75 = .ok (.iconst (-1), 1) := by decide +kernel
theorem d_Ma_start_76 : decode b_Ma_start 76 = .ok (.putfield 57, 3) := by decide +kernel
theorem d_Ma_start_79 : decode b_Ma_start 79 = .ok (.aload_n 0, 1) := by decide +kernel
theorem d_Ma_start_80 : decode b_Ma_start 80 = .ok (.iconst (-1), 1) := by decide +kernel
theorem d_Ma_start_81 : decode b_Ma_start 81 = .ok (.putfield 61, 3) := by decide +kernel
theorem d_Ma_start_84 : decode b_Ma_start 84 = .ok (.aload_n 0, 1) := by decide +kernel
theorem d_Ma_start_85 : decode b_Ma_start 85 = .ok (.iconst 0, 1) := by decide +kernel
theorem d_Ma_start_86 : decode b_Ma_start 86 = .ok (.putfield 121, 3) := by decide +kernel
theorem d_Ma_start_89 : decode b_Ma_start 89 = .ok (.return_, 1) := by decide +kernel
theorem hd_Ma_start : y_Ma_start.cls ≠ "java/lang/invoke/MethodHandle" ∧ y_Ma_start.cls ≠ "java/lang/invoke/VarHandle" ∧ (parseMethodDescriptor y_Ma_start.desc).map (fun d => d.parameters.length) = some 2 := by decide +kernel
abbrev rm_Ma_start : Room := { frames := 1, cells := 0, slots := 0, locals := 20 }
def F_Ma_start (x1 x2 : Int32)  (v : Nat → Int32) (f : Nat → Nat → Int32) (w : Nat → Nat) : Option ((Nat → Int32) × (Nat → Nat → Int32) × (Nat → Nat)) := (Option.bind (F_Wi_close_0  (va_up (va_up (va_up (va_up (va_up v 9 (1 : Int32)) 10 (0 : Int32)) 11 x1) 12 ((v 8) + (((x2 - ((v 8) - (v 8) / (32 : Int32) * (32 : Int32))) + (32 : Int32)) - ((x2 - ((v 8) - (v 8) / (32 : Int32) * (32 : Int32))) + (32 : Int32)) / (32 : Int32) * (32 : Int32)))) 13 (0 : Int32)) f w) (fun z1 => (Option.bind (F_Wi_close_1  z1.1 z1.2.1 z1.2.2) (fun z2 => (some ((va_up (va_up (va_up (va_up (va_up z2.1 30 (0 : Int32)) 45 (0 : Int32)) 15 (-1 : Int32)) 16 (-1 : Int32)) 17 (0 : Int32)), z2.2.1, z2.2.2))))))
set_option maxHeartbeats 4000000 in
set_option maxRecDepth 100000 in
theorem c_Ma_start (l : Launch) (G : dm_G) (g h : Nat → Nat) (x1 x2 : Int32) (v : Nat → Int32) (f : Nat → Nat → Int32) (w : Nat → Nat) (RES : (Nat → Int32) × (Nat → Nat → Int32) × (Nat → Nat)) (hF : F_Ma_start x1 x2 v f w = some RES) : dm_Ct l y_Ma_start b_Ma_start 3 none rm_Ma_start G (mw G g h v f w) [.ref (g 0), .int x1, .int x2] (fun ov w' => ov = none ∧ w' = (mw G g h RES.1 RES.2.1 RES.2.2)) := by
  refine dm_Ct.of (by decide +kernel) (Nat.le_of_ble_eq_true rfl) ?_
  intro p e s m below meth c A ls B hl hP hD hS
  have hx := B.1
  have hb := B.2.1
  have hl : lv_has ls 3 [(0, .ref (g 0)), (1, .int x1), (2, .int x2)] := hl
  have hF : (Option.bind (F_Wi_close_0  (va_up (va_up (va_up (va_up (va_up v 9 (1 : Int32)) 10 (0 : Int32)) 11 x1) 12 ((v 8) + (((x2 - ((v 8) - (v 8) / (32 : Int32) * (32 : Int32))) + (32 : Int32)) - ((x2 - ((v 8) - (v 8) / (32 : Int32) * (32 : Int32))) + (32 : Int32)) / (32 : Int32) * (32 : Int32)))) 13 (0 : Int32)) f w) (fun z1 => (Option.bind (F_Wi_close_1  z1.1 z1.2.1 z1.2.2) (fun z2 => (some ((va_up (va_up (va_up (va_up (va_up z2.1 30 (0 : Int32)) 45 (0 : Int32)) 15 (-1 : Int32)) 16 (-1 : Int32)) 17 (0 : Int32)), z2.2.1, z2.2.2)))))) = some RES := hF
  refine lv_aload_n hx hb d_Ma_start_0 rfl (lv_at hl 0 rfl) ?_
  refine lv_iconst (v := (1 : Int32)) hx hb d_Ma_start_1 (by decide) ?_
  refine mw_p_0_9 (x := (1 : Int32)) B hP hD hS (by decide) k_133 d_Ma_start_2 (fun H locs hP hD hS => ?_)
  refine lv_aload_n hx hb d_Ma_start_5 rfl (lv_at hl 0 rfl) ?_
  refine lv_iconst (v := (0 : Int32)) hx hb d_Ma_start_6 (by decide) ?_
  refine mw_p_0_10 (x := (0 : Int32)) B hP hD hS k_135 d_Ma_start_7 (fun H locs hP hD hS => ?_)
  refine lv_aload_n hx hb d_Ma_start_10 rfl (lv_at hl 0 rfl) ?_
  refine lv_iload_n hx hb d_Ma_start_11 rfl (lv_at hl 1 rfl) ?_
  refine mw_p_0_11 (x := x1) B hP hD hS k_137 d_Ma_start_12 (fun H locs hP hD hS => ?_)
  refine lv_aload_n hx hb d_Ma_start_15 rfl (lv_at hl 0 rfl) ?_
  refine lv_aload_n hx hb d_Ma_start_16 rfl (lv_at hl 0 rfl) ?_
  refine mw_g_0_8 (x := (v 8)) B hP rfl k_130 d_Ma_start_17 ?_
  refine lv_iload_n hx hb d_Ma_start_20 rfl (lv_at hl 2 rfl) ?_
  refine lv_aload_n hx hb d_Ma_start_21 rfl (lv_at hl 0 rfl) ?_
  refine mw_g_0_8 (x := (v 8)) B hP rfl k_130 d_Ma_start_22 ?_
  refine lv_bipush (v := (32 : Int32)) hx hb d_Ma_start_25 (by decide) ?_
  refine lv_irem hx hb d_Ma_start_27 (by decide) ?_
  refine lv_isub hx hb d_Ma_start_28 ?_
  refine lv_bipush (v := (32 : Int32)) hx hb d_Ma_start_29 (by decide) ?_
  refine lv_iadd hx hb d_Ma_start_31 ?_
  refine lv_bipush (v := (32 : Int32)) hx hb d_Ma_start_32 (by decide) ?_
  refine lv_irem hx hb d_Ma_start_34 (by decide) ?_
  refine lv_iadd hx hb d_Ma_start_35 ?_
  refine mw_p_0_12 (x := ((v 8) + (((x2 - ((v 8) - (v 8) / (32 : Int32) * (32 : Int32))) + (32 : Int32)) - ((x2 - ((v 8) - (v 8) / (32 : Int32) * (32 : Int32))) + (32 : Int32)) / (32 : Int32) * (32 : Int32)))) B hP hD hS k_138 d_Ma_start_36 (fun H locs hP hD hS => ?_)
  refine lv_aload_n hx hb d_Ma_start_39 rfl (lv_at hl 0 rfl) ?_
  refine lv_iconst (v := (0 : Int32)) hx hb d_Ma_start_40 (by decide) ?_
  refine mw_p_0_13 (x := (0 : Int32)) B hP hD hS (by decide) k_140 d_Ma_start_41 (fun H locs hP hD hS => ?_)
  refine lv_aload_n hx hb d_Ma_start_44 rfl (lv_at hl 0 rfl) ?_
  refine mw_g_0_6 B hP k_128 d_Ma_start_45 ?_
  obtain ⟨z1, hcz1, hF⟩ := dm_bind hF
  refine dm_callVw B [] (c_Wi_close_0 l G g h  (va_up (va_up (va_up (va_up (va_up v 9 (1 : Int32)) 10 (0 : Int32)) 11 x1) 12 ((v 8) + (((x2 - ((v 8) - (v 8) / (32 : Int32) * (32 : Int32))) + (32 : Int32)) - ((x2 - ((v 8) - (v 8) / (32 : Int32) * (32 : Int32))) + (32 : Int32)) / (32 : Int32) * (32 : Int32)))) 13 (0 : Int32)) f w z1 hcz1) k_366 k_367 k_368 k_5 k_369 hd_Wi_close_0 rfl ⟨by decide, by decide⟩ 9 rfl rfl hP hD hS hl.1 (rest := []) rfl (Nat.le_of_ble_eq_true rfl) d_Ma_start_48 ⟨by decide, by decide⟩ (fun ov w' H locs hq hP hD hS => ?_)
  obtain ⟨rfl, rfl⟩ := hq
  have hP : va_P G.1 dm_cl (mw G g h z1.1 z1.2.1 z1.2.2) H := hP
  have hD : va_D A (mw G g h z1.1 z1.2.1 z1.2.2) := hD
  refine W.eq (g2 := F0 m 51 ls []) rfl ?_
  refine lv_aload_n hx hb d_Ma_start_51 rfl (lv_at hl 0 rfl) ?_
  refine mw_g_0_7 B hP k_129 d_Ma_start_52 ?_
  obtain ⟨z2, hcz2, hF⟩ := dm_bind hF
  refine dm_callVw B [] (c_Wi_close_1 l G g h  z1.1 z1.2.1 z1.2.2 z2 hcz2) k_366 k_367 k_368 k_5 k_369 hd_Wi_close_1 rfl ⟨by decide, by decide⟩ 10 rfl rfl hP hD hS hl.1 (rest := []) rfl (Nat.le_of_ble_eq_true rfl) d_Ma_start_55 ⟨by decide, by decide⟩ (fun ov w' H locs hq hP hD hS => ?_)
  obtain ⟨rfl, rfl⟩ := hq
  have hP : va_P G.1 dm_cl (mw G g h z2.1 z2.2.1 z2.2.2) H := hP
  have hD : va_D A (mw G g h z2.1 z2.2.1 z2.2.2) := hD
  refine W.eq (g2 := F0 m 58 ls []) rfl ?_
  refine lv_aload_n hx hb d_Ma_start_58 rfl (lv_at hl 0 rfl) ?_
  refine mw_g_0_2 B hP k_119 d_Ma_start_59 ?_
  refine lv_iconst (v := (0 : Int32)) hx hb d_Ma_start_62 (by decide) ?_
  refine mw_pn_3_0 (x := (0 : Int32)) B hP hD hS k_47 d_Ma_start_63 (fun H locs hP hD hS => ?_)
  refine lv_aload_n hx hb d_Ma_start_66 rfl (lv_at hl 0 rfl) ?_
  refine mw_g_0_3 B hP k_122 d_Ma_start_67 ?_
  refine lv_iconst (v := (0 : Int32)) hx hb d_Ma_start_70 (by decide) ?_
  refine mw_pn_4_5 (x := (0 : Int32)) B hP hD hS (by decide) k_70 d_Ma_start_71 (fun H locs hP hD hS => ?_)
  refine lv_aload_n hx hb d_Ma_start_74 rfl (lv_at hl 0 rfl) ?_
  refine lv_iconst (v := (-1 : Int32)) hx hb d_Ma_start_75 (by decide) ?_
  refine mw_p_0_15 (x := (-1 : Int32)) B hP hD hS k_143 d_Ma_start_76 (fun H locs hP hD hS => ?_)
  refine lv_aload_n hx hb d_Ma_start_79 rfl (lv_at hl 0 rfl) ?_
  refine lv_iconst (v := (-1 : Int32)) hx hb d_Ma_start_80 (by decide) ?_
  refine mw_p_0_16 (x := (-1 : Int32)) B hP hD hS k_145 d_Ma_start_81 (fun H locs hP hD hS => ?_)
  refine lv_aload_n hx hb d_Ma_start_84 rfl (lv_at hl 0 rfl) ?_
  refine lv_iconst (v := (0 : Int32)) hx hb d_Ma_start_85 (by decide) ?_
  refine mw_p_0_17 (x := (0 : Int32)) B hP hD hS k_147 d_Ma_start_86 (fun H locs hP hD hS => ?_)
  have hF := Option.some.inj hF
  subst hF
  exact dm_retv B d_Ma_start_89 (by decide) (by decide) hP hD hS ⟨rfl, rfl⟩
abbrev b_Ma_fetch : ByteArray := prog_6_method_6_code
abbrev y_Ma_fetch : MethodName := { cls := "DelayMachine$Machine", name := "fetch", desc := "()V" }
theorem d_Ma_fetch_0 : decode b_Ma_fetch 0 = .ok (.aload_n 0, 1) := by decide +kernel
theorem d_Ma_fetch_1 : decode b_Ma_fetch 1 = .ok (.getfield 103, 3) := by decide +kernel
theorem d_Ma_fetch_4 : decode b_Ma_fetch 4 = .ok (.bipush (32), 2) := by decide +kernel
theorem d_Ma_fetch_6 : decode b_Ma_fetch 6 = .ok (.irem, 1) := by decide +kernel
theorem d_Ma_fetch_7 : decode b_Ma_fetch 7 = .ok (.istore_n 1, 1) := by decide +kernel
theorem d_Ma_fetch_8 : decode b_Ma_fetch 8 = .ok (.aload_n 0, 1) := by decide +kernel
theorem d_Ma_fetch_9 : decode b_Ma_fetch 9 = .ok (.getfield 9, 3) := by decide +kernel
theorem d_Ma_fetch_12 : decode b_Ma_fetch 12 = .ok (.bipush (32), 2) := by decide +kernel
theorem d_Ma_fetch_14 : decode b_Ma_fetch 14 = .ok (.aload_n 0, 1) := by decide +kernel
theorem d_Ma_fetch_15 : decode b_Ma_fetch 15 = .ok (.getfield 100, 3) := by decide +kernel
theorem d_Ma_fetch_18 : decode b_Ma_fetch 18 = .ok (.imul, 1) := by decide +kernel
theorem d_Ma_fetch_19 : decode b_Ma_fetch 19 = .ok (.iload_n 1, 1) := by decide +kernel
theorem d_Ma_fetch_20 : decode b_Ma_fetch 20 = .ok (.iadd, 1) := by decide +kernel
theorem d_Ma_fetch_21 : decode b_Ma_fetch 21 = .ok (.iaload, 1) := by decide +kernel
theorem d_Ma_fetch_22 : decode b_Ma_fetch 22 = .ok (.istore_n 2, 1) := by decide +kernel
theorem d_Ma_fetch_23 : decode b_Ma_fetch 23 = .ok (.aload_n 0, 1) := by decide +kernel
theorem d_Ma_fetch_24 : decode b_Ma_fetch 24 = .ok (.aload_n 0, 1) := by decide +kernel
theorem d_Ma_fetch_25 : decode b_Ma_fetch 25 = .ok (.getfield 100, 3) := by decide +kernel
theorem d_Ma_fetch_28 : decode b_Ma_fetch 28 = .ok (.putfield 57, 3) := by decide +kernel
theorem d_Ma_fetch_31 : decode b_Ma_fetch 31 = .ok (.aload_n 0, 1) := by decide +kernel
theorem d_Ma_fetch_32 : decode b_Ma_fetch 32 = .ok (.iload_n 1, 1) := by decide +kernel
theorem d_Ma_fetch_33 : decode b_Ma_fetch 33 = .ok (.putfield 61, 3) := by decide +kernel
theorem d_Ma_fetch_36 : decode b_Ma_fetch 36 = .ok (.aload_n 0, 1) := by decide +kernel
theorem d_Ma_fetch_37 : decode b_Ma_fetch 37 = .ok (.dup, 1) := by decide +kernel
theorem d_Ma_fetch_38 : decode b_Ma_fetch 38 = .ok (.getfield 121, 3) := by decide +kernel
theorem d_Ma_fetch_41 : decode b_Ma_fetch 41 = .ok (.iconst 1, 1) := by decide +kernel
theorem d_Ma_fetch_42 : decode b_Ma_fetch 42 = .ok (.iadd, 1) := by decide +kernel
theorem d_Ma_fetch_43 : decode b_Ma_fetch 43 = .ok (.putfield 121, 3) := by decide +kernel
theorem d_Ma_fetch_46 : decode b_Ma_fetch 46 = .ok (.iload_n 2, 1) := by decide +kernel
theorem d_Ma_fetch_47 : decode b_Ma_fetch 47 = .ok (.bipush (10), 2) := by decide +kernel
theorem d_Ma_fetch_49 : decode b_Ma_fetch 49 = .ok (.ishr, 1) := by decide +kernel
theorem d_Ma_fetch_50 : decode b_Ma_fetch 50 = .ok (.bipush (31), 2) := by decide +kernel
theorem d_Ma_fetch_52 : decode b_Ma_fetch 52 = .ok (.iand, 1) := by decide +kernel
theorem d_Ma_fetch_53 : decode b_Ma_fetch 53 = .ok (.istore_n 3, 1) := by decide +kernel
theorem d_Ma_fetch_54 : decode b_Ma_fetch 54 = .ok (.iload_n 2, 1) := by decide +kernel
theorem d_Ma_fetch_55 : decode b_Ma_fetch 55 = .ok (.bipush (15), 2) := by decide +kernel
theorem d_Ma_fetch_57 : decode b_Ma_fetch 57 = .ok (.ishr, 1) := by decide +kernel
theorem d_Ma_fetch_58 : decode b_Ma_fetch 58 = .ok (.bipush (31), 2) := by decide +kernel
theorem d_Ma_fetch_60 : decode b_Ma_fetch 60 = .ok (.iand, 1) := by decide +kernel
theorem d_Ma_fetch_61 : decode b_Ma_fetch 61 = .ok (.istore 4, 2) := by decide +kernel
theorem d_Ma_fetch_63 : decode b_Ma_fetch 63 = .ok (.iload 4, 2) := by decide +kernel
theorem d_Ma_fetch_65 : decode b_Ma_fetch 65 = .ok (.iload_n 3, 1) := by decide +kernel
theorem d_Ma_fetch_66 : decode b_Ma_fetch 66 = .ok (.if_icmp .ge (11), 3) := by decide +kernel
theorem d_Ma_fetch_69 : decode b_Ma_fetch 69 = .ok (.iload 4, 2) := by decide +kernel
theorem d_Ma_fetch_71 : decode b_Ma_fetch 71 = .ok (.bipush (32), 2) := by decide +kernel
theorem d_Ma_fetch_73 : decode b_Ma_fetch 73 = .ok (.iadd, 1) := by decide +kernel
theorem d_Ma_fetch_74 : decode b_Ma_fetch 74 = .ok (.goto (5), 3) := by decide +kernel
theorem d_Ma_fetch_77 : decode b_Ma_fetch 77 = .ok (.iload 4, 2) := by decide +kernel
theorem d_Ma_fetch_79 : decode b_Ma_fetch 79 = .ok (.istore 5, 2) := by decide +kernel
theorem d_Ma_fetch_81 : decode b_Ma_fetch 81 = .ok (.iload_n 2, 1) := by decide +kernel
theorem d_Ma_fetch_82 : decode b_Ma_fetch 82 = .ok (.bipush (8), 2) := by decide +kernel
theorem d_Ma_fetch_84 : decode b_Ma_fetch 84 = .ok (.ishr, 1) := by decide +kernel
theorem d_Ma_fetch_85 : decode b_Ma_fetch 85 = .ok (.iconst 3, 1) := by decide +kernel
theorem d_Ma_fetch_86 : decode b_Ma_fetch 86 = .ok (.iand, 1) := by decide +kernel
theorem d_Ma_fetch_87 : decode b_Ma_fetch 87 = .ok (.istore 6, 2) := by decide +kernel
theorem d_Ma_fetch_89 : decode b_Ma_fetch 89 = .ok (.aload_n 0, 1) := by decide +kernel
theorem d_Ma_fetch_90 : decode b_Ma_fetch 90 = .ok (.getfield 50, 3) := by decide +kernel
theorem d_Ma_fetch_93 : decode b_Ma_fetch 93 = .ok (.astore 7, 2) := by decide +kernel
theorem d_Ma_fetch_95 : decode b_Ma_fetch 95 = .ok (.aload_n 0, 1) := by decide +kernel
theorem d_Ma_fetch_96 : decode b_Ma_fetch 96 = .ok (.aload_n 0, 1) := by decide +kernel
theorem d_Ma_fetch_97 : decode b_Ma_fetch 97 = .ok (.getfield 54, 3) := by decide +kernel
theorem d_Ma_fetch_100 : decode b_Ma_fetch 100 = .ok (.putfield 50, 3) := by decide +kernel
theorem d_Ma_fetch_103 : decode b_Ma_fetch 103 = .ok (.aload_n 0, 1) := by decide +kernel
theorem d_Ma_fetch_104 : decode b_Ma_fetch 104 = .ok (.aload 7, 2) := by decide +kernel
theorem d_Ma_fetch_106 : decode b_Ma_fetch 106 = .ok (.putfield 54, 3) := by decide +kernel
theorem d_Ma_fetch_109 : decode b_Ma_fetch 109 = .ok (.aload 7, 2) := by decide +kernel
theorem d_Ma_fetch_111 : decode b_Ma_fetch 111 = .ok (.aload_n 0, 1) := by decide +kernel
theorem d_Ma_fetch_112 : decode b_Ma_fetch 112 = .ok (.getfield 103, 3) := by decide +kernel
theorem d_Ma_fetch_115 : decode b_Ma_fetch 115 = .ok (.iconst 2, 1) := by decide +kernel
theorem d_Ma_fetch_116 : decode b_Ma_fetch 116 = .ok (.iadd, 1) := by decide +kernel
theorem d_Ma_fetch_117 : decode b_Ma_fetch 117 = .ok (.iload_n 3, 1) := by decide +kernel
theorem d_Ma_fetch_118 : decode b_Ma_fetch 118 = .ok (.iadd, 1) := by decide +kernel
theorem d_Ma_fetch_119 : decode b_Ma_fetch 119 = .ok (.putfield 124, 3) := by decide +kernel
theorem d_Ma_fetch_122 : decode b_Ma_fetch 122 = .ok (.aload 7, 2) := by decide +kernel
theorem d_Ma_fetch_124 : decode b_Ma_fetch 124 = .ok (.iload 6, 2) := by decide +kernel
theorem d_Ma_fetch_126 : decode b_Ma_fetch 126 = .ok (.iconst 1, 1) := by decide +kernel
theorem d_Ma_fetch_127 : decode b_Ma_fetch 127 = .ok (.if_icmp .ne (13), 3) := by decide +kernel
theorem d_Ma_fetch_130 : decode b_Ma_fetch 130 = .ok (.aload 7, 2) := by decide +kernel
theorem d_Ma_fetch_132 : decode b_Ma_fetch 132 = .ok (.getfield 124, 3) := by decide +kernel
theorem d_Ma_fetch_135 : decode b_Ma_fetch 135 = .ok (.iconst 1, 1) := by decide +kernel
theorem d_Ma_fetch_136 : decode b_Ma_fetch 136 = .ok (.iadd, 1) := by decide +kernel
theorem d_Ma_fetch_137 : decode b_Ma_fetch 137 = .ok (.goto (26), 3) := by decide +kernel
theorem d_Ma_fetch_140 : decode b_Ma_fetch 140 = .ok (.iload 6, 2) := by decide +kernel
theorem d_Ma_fetch_142 : decode b_Ma_fetch 142 = .ok (.iconst 2, 1) := by decide +kernel
theorem d_Ma_fetch_143 : decode b_Ma_fetch 143 = .ok (.if_icmp .ne (15), 3) := by decide +kernel
theorem d_Ma_fetch_146 : decode b_Ma_fetch 146 = .ok (.aload_n 0, 1) := by decide +kernel
theorem d_Ma_fetch_147 : decode b_Ma_fetch 147 = .ok (.getfield 103, 3) := by decide +kernel
theorem d_Ma_fetch_150 : decode b_Ma_fetch 150 = .ok (.iconst 2, 1) := by decide +kernel
theorem d_Ma_fetch_151 : decode b_Ma_fetch 151 = .ok (.iadd, 1) := by decide +kernel
theorem d_Ma_fetch_152 : decode b_Ma_fetch 152 = .ok (.iload 5, 2) := by decide +kernel
theorem d_Ma_fetch_154 : decode b_Ma_fetch 154 = .ok (.iadd, 1) := by decide +kernel
theorem d_Ma_fetch_155 : decode b_Ma_fetch 155 = .ok (.goto (8), 3) := by decide +kernel
theorem d_Ma_fetch_158 : decode b_Ma_fetch 158 = .ok (.aload 7, 2) := by decide +kernel
theorem d_Ma_fetch_160 : decode b_Ma_fetch 160 = .ok (.getfield 124, 3) := by decide +kernel
theorem d_Ma_fetch_163 : decode b_Ma_fetch 163 = .ok (.putfield 127, 3) := by decide +kernel
theorem d_Ma_fetch_166 : decode b_Ma_fetch 166 = .ok (.aload 7, 2) := by decide +kernel
theorem d_Ma_fetch_168 : decode b_Ma_fetch 168 = .ok (.aload_n 0, 1) := by decide +kernel
theorem d_Ma_fetch_169 : decode b_Ma_fetch 169 = .ok (.getfield 37, 3) := by decide +kernel
theorem d_Ma_fetch_172 : decode b_Ma_fetch 172 = .ok (.iload_n 2, 1) := by decide +kernel
theorem d_Ma_fetch_173 : decode b_Ma_fetch 173 = .ok (.bipush (15), 2) := by decide +kernel
theorem d_Ma_fetch_175 : decode b_Ma_fetch 175 = .ok (.iand, 1) := by decide +kernel
theorem d_Ma_fetch_176 : decode b_Ma_fetch 176 = .ok (.aaload, 1) := by decide +kernel
theorem d_Ma_fetch_177 : decode b_Ma_fetch 177 = .ok (.putfield 130, 3) := by decide +kernel
theorem d_Ma_fetch_180 : decode b_Ma_fetch 180 = .ok (.aload 7, 2) := by decide +kernel
theorem d_Ma_fetch_182 : decode b_Ma_fetch 182 = .ok (.aload_n 0, 1) := by decide +kernel
theorem d_Ma_fetch_183 : decode b_Ma_fetch 183 = .ok (.getfield 43, 3) := by decide +kernel
theorem d_Ma_fetch_186 : decode b_Ma_fetch 186 = .ok (.iload_n 2, 1) := by decide +kernel
theorem d_Ma_fetch_187 : decode b_Ma_fetch 187 = .ok (.iconst 4, 1) := by decide +kernel
theorem d_Ma_fetch_188 : decode b_Ma_fetch 188 = .ok (.ishr, 1) := by decide +kernel
theorem d_Ma_fetch_189 : decode b_Ma_fetch 189 = .ok (.bipush (15), 2) := by decide +kernel
theorem d_Ma_fetch_191 : decode b_Ma_fetch 191 = .ok (.iand, 1) := by decide +kernel
theorem d_Ma_fetch_192 : decode b_Ma_fetch 192 = .ok (.aaload, 1) := by decide +kernel
theorem d_Ma_fetch_193 : decode b_Ma_fetch 193 = .ok (.putfield 134, 3) := by decide +kernel
theorem d_Ma_fetch_196 : decode b_Ma_fetch 196 = .ok (.aload_n 0, 1) := by decide +kernel
theorem d_Ma_fetch_197 : decode b_Ma_fetch 197 = .ok (.iload_n 2, 1) := by decide +kernel
theorem d_Ma_fetch_198 : decode b_Ma_fetch 198 = .ok (.bipush (20), 2) := by decide +kernel
theorem d_Ma_fetch_200 : decode b_Ma_fetch 200 = .ok (.ishr, 1) := by decide +kernel
theorem d_Ma_fetch_201 : decode b_Ma_fetch 201 = .ok (.putfield 100, 3) := by decide +kernel
theorem d_Ma_fetch_204 : decode b_Ma_fetch 204 = .ok (.aload_n 0, 1) := by decide +kernel
theorem d_Ma_fetch_205 : decode b_Ma_fetch 205 = .ok (.aload_n 0, 1) := by decide +kernel
theorem d_Ma_fetch_206 : decode b_Ma_fetch 206 = .ok (.getfield 103, 3) := by decide +kernel
theorem d_Ma_fetch_209 : decode b_Ma_fetch 209 = .ok (.iconst 2, 1) := by decide +kernel
theorem d_Ma_fetch_210 : decode b_Ma_fetch 210 = .ok (.iadd, 1) := by decide +kernel
theorem d_Ma_fetch_211 : decode b_Ma_fetch 211 = .ok (.iload 5, 2) := by decide +kernel
theorem d_Ma_fetch_213 : decode b_Ma_fetch 213 = .ok (.iadd, 1) := by decide +kernel
theorem d_Ma_fetch_214 : decode b_Ma_fetch 214 = .ok (.putfield 106, 3) := by decide +kernel
theorem d_Ma_fetch_217 : decode b_Ma_fetch 217 = .ok (.aload_n 0, 1) := by decide +kernel
theorem d_Ma_fetch_218 : decode b_Ma_fetch 218 = .ok (.iconst 0, 1) := by decide +kernel
theorem d_Ma_fetch_219 : decode b_Ma_fetch 219 = .ok (.putfield 109, 3) := by decide +kernel
theorem d_Ma_fetch_222 : decode b_Ma_fetch 222 = .ok (.return_, 1) := by decide +kernel
theorem hd_Ma_fetch : y_Ma_fetch.cls ≠ "java/lang/invoke/MethodHandle" ∧ y_Ma_fetch.cls ≠ "java/lang/invoke/VarHandle" ∧ (parseMethodDescriptor y_Ma_fetch.desc).map (fun d => d.parameters.length) = some 0 := by decide +kernel
abbrev rm_Ma_fetch : Room := { frames := 0, cells := 0, slots := 0, locals := 0 }
def F_Ma_fetch_163 (h : Nat → Nat)   (l2 : Int32) (l5 : Int32) (s1 : Int32) (v : Nat → Int32) (f : Nat → Nat → Int32) (w : Nat → Nat) : Option ((Nat → Nat) × (Nat → Int32) × (Nat → Nat → Int32) × (Nat → Nat)) := (if (l2 &&& (15 : Int32)) < 0 ∨ 16 ≤ (l2 &&& (15 : Int32)).toNatClampNeg then none else (if ((l2 >>> ((4 : Int32) &&& 31)) &&& (15 : Int32)) < 0 ∨ 16 ≤ ((l2 >>> ((4 : Int32) &&& 31)) &&& (15 : Int32)).toNatClampNeg then none else (some ((hsw h), (vsw (va_up (va_up (va_up (va_up v 51 s1) 11 (l2 >>> ((20 : Int32) &&& 31))) 12 (((v 8) + (2 : Int32)) + l5)) 13 (0 : Int32))), f, (wsw (va_up (va_up w 0 (l2 &&& (15 : Int32)).toNatClampNeg) 1 ((l2 >>> ((4 : Int32) &&& 31)) &&& (15 : Int32)).toNatClampNeg))))))
def F_Ma_fetch_79 (h : Nat → Nat)   (l2 : Int32) (l3 : Int32) (s0 : Int32) (v : Nat → Int32) (f : Nat → Nat → Int32) (w : Nat → Nat) : Option ((Nat → Nat) × (Nat → Int32) × (Nat → Nat → Int32) × (Nat → Nat)) := (if ((l2 >>> ((8 : Int32) &&& 31)) &&& (3 : Int32)) = (1 : Int32) then (F_Ma_fetch_163 h l2 s0 ((((v 8) + (2 : Int32)) + l3) + (1 : Int32)) (va_up v 50 (((v 8) + (2 : Int32)) + l3)) f w) else (if ((l2 >>> ((8 : Int32) &&& 31)) &&& (3 : Int32)) = (2 : Int32) then (F_Ma_fetch_163 h l2 s0 (((v 8) + (2 : Int32)) + s0) (va_up v 50 (((v 8) + (2 : Int32)) + l3)) f w) else (F_Ma_fetch_163 h l2 s0 (((v 8) + (2 : Int32)) + l3) (va_up v 50 (((v 8) + (2 : Int32)) + l3)) f w)))
def F_Ma_fetch (h : Nat → Nat)  (v : Nat → Int32) (f : Nat → Nat → Int32) (w : Nat → Nat) : Option ((Nat → Nat) × (Nat → Int32) × (Nat → Nat → Int32) × (Nat → Nat)) := (if (((32 : Int32) * (v 11)) + ((v 8) - (v 8) / (32 : Int32) * (32 : Int32))) < 0 ∨ 64 ≤ (((32 : Int32) * (v 11)) + ((v 8) - (v 8) / (32 : Int32) * (32 : Int32))).toNatClampNeg then none else (if ((((f 0) (((32 : Int32) * (v 11)) + ((v 8) - (v 8) / (32 : Int32) * (32 : Int32))).toNatClampNeg) >>> ((10 : Int32) &&& 31)) &&& (31 : Int32)) ≤ ((((f 0) (((32 : Int32) * (v 11)) + ((v 8) - (v 8) / (32 : Int32) * (32 : Int32))).toNatClampNeg) >>> ((15 : Int32) &&& 31)) &&& (31 : Int32)) then (F_Ma_fetch_79 h ((f 0) (((32 : Int32) * (v 11)) + ((v 8) - (v 8) / (32 : Int32) * (32 : Int32))).toNatClampNeg) ((((f 0) (((32 : Int32) * (v 11)) + ((v 8) - (v 8) / (32 : Int32) * (32 : Int32))).toNatClampNeg) >>> ((10 : Int32) &&& 31)) &&& (31 : Int32)) ((((f 0) (((32 : Int32) * (v 11)) + ((v 8) - (v 8) / (32 : Int32) * (32 : Int32))).toNatClampNeg) >>> ((15 : Int32) &&& 31)) &&& (31 : Int32)) (va_up (va_up (va_up v 15 (v 11)) 16 ((v 8) - (v 8) / (32 : Int32) * (32 : Int32))) 17 ((v 17) + (1 : Int32))) f w) else (F_Ma_fetch_79 h ((f 0) (((32 : Int32) * (v 11)) + ((v 8) - (v 8) / (32 : Int32) * (32 : Int32))).toNatClampNeg) ((((f 0) (((32 : Int32) * (v 11)) + ((v 8) - (v 8) / (32 : Int32) * (32 : Int32))).toNatClampNeg) >>> ((10 : Int32) &&& 31)) &&& (31 : Int32)) (((((f 0) (((32 : Int32) * (v 11)) + ((v 8) - (v 8) / (32 : Int32) * (32 : Int32))).toNatClampNeg) >>> ((15 : Int32) &&& 31)) &&& (31 : Int32)) + (32 : Int32)) (va_up (va_up (va_up v 15 (v 11)) 16 ((v 8) - (v 8) / (32 : Int32) * (32 : Int32))) 17 ((v 17) + (1 : Int32))) f w)))
set_option maxHeartbeats 4000000 in
set_option maxRecDepth 100000 in
theorem c_Ma_fetch (l : Launch) (G : dm_G) (g h : Nat → Nat) (v : Nat → Int32) (f : Nat → Nat → Int32) (w : Nat → Nat) (RES : (Nat → Nat) × (Nat → Int32) × (Nat → Nat → Int32) × (Nat → Nat)) (hF : F_Ma_fetch h v f w = some RES) : dm_Ct l y_Ma_fetch b_Ma_fetch 8 none rm_Ma_fetch G (mw G g h v f w) [.ref (g 0)] (fun ov w' => ov = none ∧ w' = (mw G g RES.1 RES.2.1 RES.2.2.1 RES.2.2.2)) := by
  refine dm_Ct.of (by decide +kernel) (Nat.le_of_ble_eq_true rfl) ?_
  intro p e s m below meth c A ls B hl hP hD hS
  have hx := B.1
  have hb := B.2.1
  have hl : lv_has ls 8 [(0, .ref (g 0))] := hl
  have K163 : ∀ (ls : Array Slot) (H : Heap) (locs : List Loc) (l2 : Int32) (l5 : Int32) (s1 : Int32) (v : Nat → Int32) (f : Nat → Nat → Int32) (w : Nat → Nat), lv_has ls 8 [(0, .ref (g 0)), (2, .int l2), (5, .int l5), (7, .ref (h 0))] → va_P G.1 dm_cl (mwf G g h (va_up (va_up h 0 (h 1)) 1 (h 0)) v f w) H → va_D A (mwf G g h (va_up (va_up h 0 (h 1)) 1 (h 0)) v f w) → va_S A s.heap H locs → F_Ma_fetch_163 h l2 l5 s1 v f w = some RES → W p l e rm_Ma_fetch s m ([.ref (g 0)] : List Value).toArray below meth c H locs 0 0 (dm_Z below G s ([.ref (g 0)] : List Value).toArray A rm_Ma_fetch.cells rm_Ma_fetch.slots (fun ov w' => ov = none ∧ w' = (mw G g RES.1 RES.2.1 RES.2.2.1 RES.2.2.2))) (F0 m 163 ls [.int s1, .ref (h 0)]) := by
    intro ls H locs l2 l5 s1 v f w hl hP hD hS hF
    have hF : (if (l2 &&& (15 : Int32)) < 0 ∨ 16 ≤ (l2 &&& (15 : Int32)).toNatClampNeg then none else (if ((l2 >>> ((4 : Int32) &&& 31)) &&& (15 : Int32)) < 0 ∨ 16 ≤ ((l2 >>> ((4 : Int32) &&& 31)) &&& (15 : Int32)).toNatClampNeg then none else (some ((hsw h), (vsw (va_up (va_up (va_up (va_up v 51 s1) 11 (l2 >>> ((20 : Int32) &&& 31))) 12 (((v 8) + (2 : Int32)) + l5)) 13 (0 : Int32))), f, (wsw (va_up (va_up w 0 (l2 &&& (15 : Int32)).toNatClampNeg) 1 ((l2 >>> ((4 : Int32) &&& 31)) &&& (15 : Int32)).toNatClampNeg)))))) = some RES := hF
    refine mwf_pn_9_1 (x := s1) B hP hD hS k_101 d_Ma_fetch_163 (fun H locs hP hD hS => ?_)
    refine lv_aload hx hb d_Ma_fetch_166 (lv_at hl 3 rfl) ?_
    refine lv_aload_n hx hb d_Ma_fetch_168 rfl (lv_at hl 0 rfl) ?_
    refine mwf_g_0_4 B hP k_126 d_Ma_fetch_169 ?_
    refine lv_iload_n hx hb d_Ma_fetch_172 rfl (lv_at hl 1 rfl) ?_
    refine lv_bipush (v := (15 : Int32)) hx hb d_Ma_fetch_173 (by decide) ?_
    refine lv_iand hx hb d_Ma_fetch_175 ?_
    obtain ⟨hi, hF⟩ := dm_chk hF
    refine dm_aald (v := va_rf (ms g (l2 &&& (15 : Int32)).toNatClampNeg)) B hP 6 4 rfl rfl hi rfl d_Ma_fetch_176 ?_
    refine mwf_pn_9_2 (x := (l2 &&& (15 : Int32)).toNatClampNeg) B hP hD hS k_102 d_Ma_fetch_177 (fun H locs hP hD hS => ?_)
    refine lv_aload hx hb d_Ma_fetch_180 (lv_at hl 3 rfl) ?_
    refine lv_aload_n hx hb d_Ma_fetch_182 rfl (lv_at hl 0 rfl) ?_
    refine mwf_g_0_5 B hP k_127 d_Ma_fetch_183 ?_
    refine lv_iload_n hx hb d_Ma_fetch_186 rfl (lv_at hl 1 rfl) ?_
    refine lv_iconst (v := (4 : Int32)) hx hb d_Ma_fetch_187 (by decide) ?_
    refine lv_ishr hx hb d_Ma_fetch_188 ?_
    refine lv_bipush (v := (15 : Int32)) hx hb d_Ma_fetch_189 (by decide) ?_
    refine lv_iand hx hb d_Ma_fetch_191 ?_
    obtain ⟨hi, hF⟩ := dm_chk hF
    refine dm_aald (v := va_rf (md g ((l2 >>> ((4 : Int32) &&& 31)) &&& (15 : Int32)).toNatClampNeg)) B hP 7 5 rfl rfl hi rfl d_Ma_fetch_192 ?_
    refine mwf_pn_9_3 (x := ((l2 >>> ((4 : Int32) &&& 31)) &&& (15 : Int32)).toNatClampNeg) B hP hD hS k_103 d_Ma_fetch_193 (fun H locs hP hD hS => ?_)
    refine lv_aload_n hx hb d_Ma_fetch_196 rfl (lv_at hl 0 rfl) ?_
    refine lv_iload_n hx hb d_Ma_fetch_197 rfl (lv_at hl 1 rfl) ?_
    refine lv_bipush (v := (20 : Int32)) hx hb d_Ma_fetch_198 (by decide) ?_
    refine lv_ishr hx hb d_Ma_fetch_200 ?_
    refine mwf_p_0_11 (x := (l2 >>> ((20 : Int32) &&& 31))) B hP hD hS k_137 d_Ma_fetch_201 (fun H locs hP hD hS => ?_)
    refine lv_aload_n hx hb d_Ma_fetch_204 rfl (lv_at hl 0 rfl) ?_
    refine lv_aload_n hx hb d_Ma_fetch_205 rfl (lv_at hl 0 rfl) ?_
    refine mwf_g_0_8 (x := (v 8)) B hP rfl k_130 d_Ma_fetch_206 ?_
    refine lv_iconst (v := (2 : Int32)) hx hb d_Ma_fetch_209 (by decide) ?_
    refine lv_iadd hx hb d_Ma_fetch_210 ?_
    refine lv_iload hx hb d_Ma_fetch_211 (lv_at hl 2 rfl) ?_
    refine lv_iadd hx hb d_Ma_fetch_213 ?_
    refine mwf_p_0_12 (x := (((v 8) + (2 : Int32)) + l5)) B hP hD hS k_138 d_Ma_fetch_214 (fun H locs hP hD hS => ?_)
    refine lv_aload_n hx hb d_Ma_fetch_217 rfl (lv_at hl 0 rfl) ?_
    refine lv_iconst (v := (0 : Int32)) hx hb d_Ma_fetch_218 (by decide) ?_
    refine mwf_p_0_13 (x := (0 : Int32)) B hP hD hS (by decide) k_140 d_Ma_fetch_219 (fun H locs hP hD hS => ?_)
    have hP : va_P G.1 dm_cl (mw G g (hsw h) (vsw (va_up (va_up (va_up (va_up v 51 s1) 11 (l2 >>> ((20 : Int32) &&& 31))) 12 (((v 8) + (2 : Int32)) + l5)) 13 (0 : Int32))) f (wsw (va_up (va_up w 0 (l2 &&& (15 : Int32)).toNatClampNeg) 1 ((l2 >>> ((4 : Int32) &&& 31)) &&& (15 : Int32)).toNatClampNeg))) H := mw_swP hP
    have hD : va_D A (mw G g (hsw h) (vsw (va_up (va_up (va_up (va_up v 51 s1) 11 (l2 >>> ((20 : Int32) &&& 31))) 12 (((v 8) + (2 : Int32)) + l5)) 13 (0 : Int32))) f (wsw (va_up (va_up w 0 (l2 &&& (15 : Int32)).toNatClampNeg) 1 ((l2 >>> ((4 : Int32) &&& 31)) &&& (15 : Int32)).toNatClampNeg))) := mw_swD hD
    have hF := Option.some.inj hF
    subst hF
    exact dm_retv B d_Ma_fetch_222 (by decide) (by decide) hP hD hS ⟨rfl, rfl⟩
  have K79 : ∀ (ls : Array Slot) (H : Heap) (locs : List Loc) (l2 : Int32) (l3 : Int32) (s0 : Int32) (v : Nat → Int32) (f : Nat → Nat → Int32) (w : Nat → Nat), lv_has ls 8 [(0, .ref (g 0)), (2, .int l2), (3, .int l3)] → va_P G.1 dm_cl (mwf G g h h v f w) H → va_D A (mwf G g h h v f w) → va_S A s.heap H locs → F_Ma_fetch_79 h l2 l3 s0 v f w = some RES → W p l e rm_Ma_fetch s m ([.ref (g 0)] : List Value).toArray below meth c H locs 0 0 (dm_Z below G s ([.ref (g 0)] : List Value).toArray A rm_Ma_fetch.cells rm_Ma_fetch.slots (fun ov w' => ov = none ∧ w' = (mw G g RES.1 RES.2.1 RES.2.2.1 RES.2.2.2))) (F0 m 79 ls [.int s0]) := by
    intro ls H locs l2 l3 s0 v f w hl hP hD hS hF
    have hF : (if ((l2 >>> ((8 : Int32) &&& 31)) &&& (3 : Int32)) = (1 : Int32) then (F_Ma_fetch_163 h l2 s0 ((((v 8) + (2 : Int32)) + l3) + (1 : Int32)) (va_up v 50 (((v 8) + (2 : Int32)) + l3)) f w) else (if ((l2 >>> ((8 : Int32) &&& 31)) &&& (3 : Int32)) = (2 : Int32) then (F_Ma_fetch_163 h l2 s0 (((v 8) + (2 : Int32)) + s0) (va_up v 50 (((v 8) + (2 : Int32)) + l3)) f w) else (F_Ma_fetch_163 h l2 s0 (((v 8) + (2 : Int32)) + l3) (va_up v 50 (((v 8) + (2 : Int32)) + l3)) f w))) = some RES := hF
    refine lv_istore (lv' := [(5, .int s0), (0, .ref (g 0)), (2, .int l2), (3, .int l3)]) hx hb d_Ma_fetch_79 hl (Nat.le_of_ble_eq_true rfl) rfl (fun ls hl => ?_)
    have hl : lv_has ls 8 [(0, .ref (g 0)), (2, .int l2), (3, .int l3), (5, .int s0)] := lv_sub hl [1, 2, 3, 0] rfl
    refine lv_iload_n hx hb d_Ma_fetch_81 rfl (lv_at hl 1 rfl) ?_
    refine lv_bipush (v := (8 : Int32)) hx hb d_Ma_fetch_82 (by decide) ?_
    refine lv_ishr hx hb d_Ma_fetch_84 ?_
    refine lv_iconst (v := (3 : Int32)) hx hb d_Ma_fetch_85 (by decide) ?_
    refine lv_iand hx hb d_Ma_fetch_86 ?_
    refine lv_istore (lv' := [(6, .int ((l2 >>> ((8 : Int32) &&& 31)) &&& (3 : Int32))), (0, .ref (g 0)), (2, .int l2), (3, .int l3), (5, .int s0)]) hx hb d_Ma_fetch_87 hl (Nat.le_of_ble_eq_true rfl) rfl (fun ls hl => ?_)
    have hl : lv_has ls 8 [(0, .ref (g 0)), (2, .int l2), (3, .int l3), (5, .int s0), (6, .int ((l2 >>> ((8 : Int32) &&& 31)) &&& (3 : Int32)))] := lv_sub hl [1, 2, 3, 4, 0] rfl
    refine lv_aload_n hx hb d_Ma_fetch_89 rfl (lv_at hl 0 rfl) ?_
    refine mwf_g_0_6 B hP k_128 d_Ma_fetch_90 ?_
    refine lv_astore (lv' := [(7, .ref (h 0)), (0, .ref (g 0)), (2, .int l2), (3, .int l3), (5, .int s0), (6, .int ((l2 >>> ((8 : Int32) &&& 31)) &&& (3 : Int32)))]) hx hb d_Ma_fetch_93 hl (Nat.le_of_ble_eq_true rfl) rfl (fun ls hl => ?_)
    have hl : lv_has ls 8 [(0, .ref (g 0)), (2, .int l2), (3, .int l3), (5, .int s0), (6, .int ((l2 >>> ((8 : Int32) &&& 31)) &&& (3 : Int32))), (7, .ref (h 0))] := lv_sub hl [1, 2, 3, 4, 5, 0] rfl
    refine lv_aload_n hx hb d_Ma_fetch_95 rfl (lv_at hl 0 rfl) ?_
    refine lv_aload_n hx hb d_Ma_fetch_96 rfl (lv_at hl 0 rfl) ?_
    refine mwf_g_0_7 B hP k_129 d_Ma_fetch_97 ?_
    refine mwf_p_0_6 (x := (h 1)) B hP hD hS k_128 d_Ma_fetch_100 (fun H locs hP hD hS => ?_)
    refine lv_aload_n hx hb d_Ma_fetch_103 rfl (lv_at hl 0 rfl) ?_
    refine lv_aload hx hb d_Ma_fetch_104 (lv_at hl 5 rfl) ?_
    refine mwf_p_0_7 (x := (h 0)) B hP hD hS k_129 d_Ma_fetch_106 (fun H locs hP hD hS => ?_)
    refine lv_aload hx hb d_Ma_fetch_109 (lv_at hl 5 rfl) ?_
    refine lv_aload_n hx hb d_Ma_fetch_111 rfl (lv_at hl 0 rfl) ?_
    refine mwf_g_0_8 (x := (v 8)) B hP rfl k_130 d_Ma_fetch_112 ?_
    refine lv_iconst (v := (2 : Int32)) hx hb d_Ma_fetch_115 (by decide) ?_
    refine lv_iadd hx hb d_Ma_fetch_116 ?_
    refine lv_iload_n hx hb d_Ma_fetch_117 rfl (lv_at hl 2 rfl) ?_
    refine lv_iadd hx hb d_Ma_fetch_118 ?_
    refine mwf_pn_9_0 (x := (((v 8) + (2 : Int32)) + l3)) B hP hD hS k_99 d_Ma_fetch_119 (fun H locs hP hD hS => ?_)
    refine lv_aload hx hb d_Ma_fetch_122 (lv_at hl 5 rfl) ?_
    refine lv_iload hx hb d_Ma_fetch_124 (lv_at hl 4 rfl) ?_
    refine lv_iconst (v := (1 : Int32)) hx hb d_Ma_fetch_126 (by decide) ?_
    refine lv_icmp_ne (tgt := 140) hx hb d_Ma_fetch_127 (by decide) (fun (hh : ¬ ((l2 >>> ((8 : Int32) &&& 31)) &&& (3 : Int32)) = (1 : Int32)) => ?_) (fun (hh : ((l2 >>> ((8 : Int32) &&& 31)) &&& (3 : Int32)) = (1 : Int32)) => ?_)
    · rw [if_neg hh] at hF
      refine lv_iload hx hb d_Ma_fetch_140 (lv_at hl 4 rfl) ?_
      refine lv_iconst (v := (2 : Int32)) hx hb d_Ma_fetch_142 (by decide) ?_
      refine lv_icmp_ne (tgt := 158) hx hb d_Ma_fetch_143 (by decide) (fun (hh : ¬ ((l2 >>> ((8 : Int32) &&& 31)) &&& (3 : Int32)) = (2 : Int32)) => ?_) (fun (hh : ((l2 >>> ((8 : Int32) &&& 31)) &&& (3 : Int32)) = (2 : Int32)) => ?_)
      · rw [if_neg hh] at hF
        refine lv_aload hx hb d_Ma_fetch_158 (lv_at hl 5 rfl) ?_
        refine mwf_gn_9_0 (x := (((v 8) + (2 : Int32)) + l3)) B hP rfl k_99 d_Ma_fetch_160 ?_
        exact K163 ls _ _ l2 s0 (((v 8) + (2 : Int32)) + l3) (va_up v 50 (((v 8) + (2 : Int32)) + l3)) f w (lv_sub hl [0, 1, 3, 5] rfl) hP hD hS hF
      · rw [if_pos hh] at hF
        refine lv_aload_n hx hb d_Ma_fetch_146 rfl (lv_at hl 0 rfl) ?_
        refine mwf_g_0_8 (x := (v 8)) B hP rfl k_130 d_Ma_fetch_147 ?_
        refine lv_iconst (v := (2 : Int32)) hx hb d_Ma_fetch_150 (by decide) ?_
        refine lv_iadd hx hb d_Ma_fetch_151 ?_
        refine lv_iload hx hb d_Ma_fetch_152 (lv_at hl 3 rfl) ?_
        refine lv_iadd hx hb d_Ma_fetch_154 ?_
        refine lv_goto (tgt := 163) hx hb d_Ma_fetch_155 (by decide) ?_
        exact K163 ls _ _ l2 s0 (((v 8) + (2 : Int32)) + s0) (va_up v 50 (((v 8) + (2 : Int32)) + l3)) f w (lv_sub hl [0, 1, 3, 5] rfl) hP hD hS hF
    · rw [if_pos hh] at hF
      refine lv_aload hx hb d_Ma_fetch_130 (lv_at hl 5 rfl) ?_
      refine mwf_gn_9_0 (x := (((v 8) + (2 : Int32)) + l3)) B hP rfl k_99 d_Ma_fetch_132 ?_
      refine lv_iconst (v := (1 : Int32)) hx hb d_Ma_fetch_135 (by decide) ?_
      refine lv_iadd hx hb d_Ma_fetch_136 ?_
      refine lv_goto (tgt := 163) hx hb d_Ma_fetch_137 (by decide) ?_
      exact K163 ls _ _ l2 s0 ((((v 8) + (2 : Int32)) + l3) + (1 : Int32)) (va_up v 50 (((v 8) + (2 : Int32)) + l3)) f w (lv_sub hl [0, 1, 3, 5] rfl) hP hD hS hF
  have hF : (if (((32 : Int32) * (v 11)) + ((v 8) - (v 8) / (32 : Int32) * (32 : Int32))) < 0 ∨ 64 ≤ (((32 : Int32) * (v 11)) + ((v 8) - (v 8) / (32 : Int32) * (32 : Int32))).toNatClampNeg then none else (if ((((f 0) (((32 : Int32) * (v 11)) + ((v 8) - (v 8) / (32 : Int32) * (32 : Int32))).toNatClampNeg) >>> ((10 : Int32) &&& 31)) &&& (31 : Int32)) ≤ ((((f 0) (((32 : Int32) * (v 11)) + ((v 8) - (v 8) / (32 : Int32) * (32 : Int32))).toNatClampNeg) >>> ((15 : Int32) &&& 31)) &&& (31 : Int32)) then (F_Ma_fetch_79 h ((f 0) (((32 : Int32) * (v 11)) + ((v 8) - (v 8) / (32 : Int32) * (32 : Int32))).toNatClampNeg) ((((f 0) (((32 : Int32) * (v 11)) + ((v 8) - (v 8) / (32 : Int32) * (32 : Int32))).toNatClampNeg) >>> ((10 : Int32) &&& 31)) &&& (31 : Int32)) ((((f 0) (((32 : Int32) * (v 11)) + ((v 8) - (v 8) / (32 : Int32) * (32 : Int32))).toNatClampNeg) >>> ((15 : Int32) &&& 31)) &&& (31 : Int32)) (va_up (va_up (va_up v 15 (v 11)) 16 ((v 8) - (v 8) / (32 : Int32) * (32 : Int32))) 17 ((v 17) + (1 : Int32))) f w) else (F_Ma_fetch_79 h ((f 0) (((32 : Int32) * (v 11)) + ((v 8) - (v 8) / (32 : Int32) * (32 : Int32))).toNatClampNeg) ((((f 0) (((32 : Int32) * (v 11)) + ((v 8) - (v 8) / (32 : Int32) * (32 : Int32))).toNatClampNeg) >>> ((10 : Int32) &&& 31)) &&& (31 : Int32)) (((((f 0) (((32 : Int32) * (v 11)) + ((v 8) - (v 8) / (32 : Int32) * (32 : Int32))).toNatClampNeg) >>> ((15 : Int32) &&& 31)) &&& (31 : Int32)) + (32 : Int32)) (va_up (va_up (va_up v 15 (v 11)) 16 ((v 8) - (v 8) / (32 : Int32) * (32 : Int32))) 17 ((v 17) + (1 : Int32))) f w))) = some RES := hF
  refine lv_aload_n hx hb d_Ma_fetch_0 rfl (lv_at hl 0 rfl) ?_
  refine mwf_g_0_8 (x := (v 8)) B hP rfl k_130 d_Ma_fetch_1 ?_
  refine lv_bipush (v := (32 : Int32)) hx hb d_Ma_fetch_4 (by decide) ?_
  refine lv_irem hx hb d_Ma_fetch_6 (by decide) ?_
  refine lv_istore_n (lv' := [(1, .int ((v 8) - (v 8) / (32 : Int32) * (32 : Int32))), (0, .ref (g 0))]) hx hb d_Ma_fetch_7 rfl hl (Nat.le_of_ble_eq_true rfl) rfl (fun ls hl => ?_)
  have hl : lv_has ls 8 [(0, .ref (g 0)), (1, .int ((v 8) - (v 8) / (32 : Int32) * (32 : Int32)))] := lv_sub hl [1, 0] rfl
  refine lv_aload_n hx hb d_Ma_fetch_8 rfl (lv_at hl 0 rfl) ?_
  refine mwf_g_0_0 B hP k_113 d_Ma_fetch_9 ?_
  refine lv_bipush (v := (32 : Int32)) hx hb d_Ma_fetch_12 (by decide) ?_
  refine lv_aload_n hx hb d_Ma_fetch_14 rfl (lv_at hl 0 rfl) ?_
  refine mwf_g_0_11 (x := (v 11)) B hP rfl k_137 d_Ma_fetch_15 ?_
  refine lv_imul hx hb d_Ma_fetch_18 ?_
  refine lv_iload_n hx hb d_Ma_fetch_19 rfl (lv_at hl 1 rfl) ?_
  refine lv_iadd hx hb d_Ma_fetch_20 ?_
  obtain ⟨hi, hF⟩ := dm_chk hF
  refine mwf_a_1 (F := (f 0)) B hP rfl hi d_Ma_fetch_21 ?_
  refine lv_istore_n (lv' := [(2, .int ((f 0) (((32 : Int32) * (v 11)) + ((v 8) - (v 8) / (32 : Int32) * (32 : Int32))).toNatClampNeg)), (0, .ref (g 0)), (1, .int ((v 8) - (v 8) / (32 : Int32) * (32 : Int32)))]) hx hb d_Ma_fetch_22 rfl hl (Nat.le_of_ble_eq_true rfl) rfl (fun ls hl => ?_)
  have hl : lv_has ls 8 [(0, .ref (g 0)), (1, .int ((v 8) - (v 8) / (32 : Int32) * (32 : Int32))), (2, .int ((f 0) (((32 : Int32) * (v 11)) + ((v 8) - (v 8) / (32 : Int32) * (32 : Int32))).toNatClampNeg))] := lv_sub hl [1, 2, 0] rfl
  refine lv_aload_n hx hb d_Ma_fetch_23 rfl (lv_at hl 0 rfl) ?_
  refine lv_aload_n hx hb d_Ma_fetch_24 rfl (lv_at hl 0 rfl) ?_
  refine mwf_g_0_11 (x := (v 11)) B hP rfl k_137 d_Ma_fetch_25 ?_
  refine mwf_p_0_15 (x := (v 11)) B hP hD hS k_143 d_Ma_fetch_28 (fun H locs hP hD hS => ?_)
  refine lv_aload_n hx hb d_Ma_fetch_31 rfl (lv_at hl 0 rfl) ?_
  refine lv_iload_n hx hb d_Ma_fetch_32 rfl (lv_at hl 1 rfl) ?_
  refine mwf_p_0_16 (x := ((v 8) - (v 8) / (32 : Int32) * (32 : Int32))) B hP hD hS k_145 d_Ma_fetch_33 (fun H locs hP hD hS => ?_)
  refine lv_aload_n hx hb d_Ma_fetch_36 rfl (lv_at hl 0 rfl) ?_
  refine lv_dup hx hb d_Ma_fetch_37 rfl ?_
  refine mwf_g_0_17 (x := (v 17)) B hP rfl k_147 d_Ma_fetch_38 ?_
  refine lv_iconst (v := (1 : Int32)) hx hb d_Ma_fetch_41 (by decide) ?_
  refine lv_iadd hx hb d_Ma_fetch_42 ?_
  refine mwf_p_0_17 (x := ((v 17) + (1 : Int32))) B hP hD hS k_147 d_Ma_fetch_43 (fun H locs hP hD hS => ?_)
  refine lv_iload_n hx hb d_Ma_fetch_46 rfl (lv_at hl 2 rfl) ?_
  refine lv_bipush (v := (10 : Int32)) hx hb d_Ma_fetch_47 (by decide) ?_
  refine lv_ishr hx hb d_Ma_fetch_49 ?_
  refine lv_bipush (v := (31 : Int32)) hx hb d_Ma_fetch_50 (by decide) ?_
  refine lv_iand hx hb d_Ma_fetch_52 ?_
  refine lv_istore_n (lv' := [(3, .int ((((f 0) (((32 : Int32) * (v 11)) + ((v 8) - (v 8) / (32 : Int32) * (32 : Int32))).toNatClampNeg) >>> ((10 : Int32) &&& 31)) &&& (31 : Int32))), (0, .ref (g 0)), (1, .int ((v 8) - (v 8) / (32 : Int32) * (32 : Int32))), (2, .int ((f 0) (((32 : Int32) * (v 11)) + ((v 8) - (v 8) / (32 : Int32) * (32 : Int32))).toNatClampNeg))]) hx hb d_Ma_fetch_53 rfl hl (Nat.le_of_ble_eq_true rfl) rfl (fun ls hl => ?_)
  have hl : lv_has ls 8 [(0, .ref (g 0)), (1, .int ((v 8) - (v 8) / (32 : Int32) * (32 : Int32))), (2, .int ((f 0) (((32 : Int32) * (v 11)) + ((v 8) - (v 8) / (32 : Int32) * (32 : Int32))).toNatClampNeg)), (3, .int ((((f 0) (((32 : Int32) * (v 11)) + ((v 8) - (v 8) / (32 : Int32) * (32 : Int32))).toNatClampNeg) >>> ((10 : Int32) &&& 31)) &&& (31 : Int32)))] := lv_sub hl [1, 2, 3, 0] rfl
  refine lv_iload_n hx hb d_Ma_fetch_54 rfl (lv_at hl 2 rfl) ?_
  refine lv_bipush (v := (15 : Int32)) hx hb d_Ma_fetch_55 (by decide) ?_
  refine lv_ishr hx hb d_Ma_fetch_57 ?_
  refine lv_bipush (v := (31 : Int32)) hx hb d_Ma_fetch_58 (by decide) ?_
  refine lv_iand hx hb d_Ma_fetch_60 ?_
  refine lv_istore (lv' := [(4, .int ((((f 0) (((32 : Int32) * (v 11)) + ((v 8) - (v 8) / (32 : Int32) * (32 : Int32))).toNatClampNeg) >>> ((15 : Int32) &&& 31)) &&& (31 : Int32))), (0, .ref (g 0)), (1, .int ((v 8) - (v 8) / (32 : Int32) * (32 : Int32))), (2, .int ((f 0) (((32 : Int32) * (v 11)) + ((v 8) - (v 8) / (32 : Int32) * (32 : Int32))).toNatClampNeg)), (3, .int ((((f 0) (((32 : Int32) * (v 11)) + ((v 8) - (v 8) / (32 : Int32) * (32 : Int32))).toNatClampNeg) >>> ((10 : Int32) &&& 31)) &&& (31 : Int32)))]) hx hb d_Ma_fetch_61 hl (Nat.le_of_ble_eq_true rfl) rfl (fun ls hl => ?_)
  have hl : lv_has ls 8 [(0, .ref (g 0)), (1, .int ((v 8) - (v 8) / (32 : Int32) * (32 : Int32))), (2, .int ((f 0) (((32 : Int32) * (v 11)) + ((v 8) - (v 8) / (32 : Int32) * (32 : Int32))).toNatClampNeg)), (3, .int ((((f 0) (((32 : Int32) * (v 11)) + ((v 8) - (v 8) / (32 : Int32) * (32 : Int32))).toNatClampNeg) >>> ((10 : Int32) &&& 31)) &&& (31 : Int32))), (4, .int ((((f 0) (((32 : Int32) * (v 11)) + ((v 8) - (v 8) / (32 : Int32) * (32 : Int32))).toNatClampNeg) >>> ((15 : Int32) &&& 31)) &&& (31 : Int32)))] := lv_sub hl [1, 2, 3, 4, 0] rfl
  refine lv_iload hx hb d_Ma_fetch_63 (lv_at hl 4 rfl) ?_
  refine lv_iload_n hx hb d_Ma_fetch_65 rfl (lv_at hl 3 rfl) ?_
  refine lv_icmp_ge (tgt := 77) hx hb d_Ma_fetch_66 (by decide) (fun (hh : ((((f 0) (((32 : Int32) * (v 11)) + ((v 8) - (v 8) / (32 : Int32) * (32 : Int32))).toNatClampNeg) >>> ((10 : Int32) &&& 31)) &&& (31 : Int32)) ≤ ((((f 0) (((32 : Int32) * (v 11)) + ((v 8) - (v 8) / (32 : Int32) * (32 : Int32))).toNatClampNeg) >>> ((15 : Int32) &&& 31)) &&& (31 : Int32))) => ?_) (fun (hh : ¬ ((((f 0) (((32 : Int32) * (v 11)) + ((v 8) - (v 8) / (32 : Int32) * (32 : Int32))).toNatClampNeg) >>> ((10 : Int32) &&& 31)) &&& (31 : Int32)) ≤ ((((f 0) (((32 : Int32) * (v 11)) + ((v 8) - (v 8) / (32 : Int32) * (32 : Int32))).toNatClampNeg) >>> ((15 : Int32) &&& 31)) &&& (31 : Int32))) => ?_)
  · rw [if_pos hh] at hF
    refine lv_iload hx hb d_Ma_fetch_77 (lv_at hl 4 rfl) ?_
    exact K79 ls _ _ ((f 0) (((32 : Int32) * (v 11)) + ((v 8) - (v 8) / (32 : Int32) * (32 : Int32))).toNatClampNeg) ((((f 0) (((32 : Int32) * (v 11)) + ((v 8) - (v 8) / (32 : Int32) * (32 : Int32))).toNatClampNeg) >>> ((10 : Int32) &&& 31)) &&& (31 : Int32)) ((((f 0) (((32 : Int32) * (v 11)) + ((v 8) - (v 8) / (32 : Int32) * (32 : Int32))).toNatClampNeg) >>> ((15 : Int32) &&& 31)) &&& (31 : Int32)) (va_up (va_up (va_up v 15 (v 11)) 16 ((v 8) - (v 8) / (32 : Int32) * (32 : Int32))) 17 ((v 17) + (1 : Int32))) f w (lv_sub hl [0, 2, 3] rfl) hP hD hS hF
  · rw [if_neg hh] at hF
    refine lv_iload hx hb d_Ma_fetch_69 (lv_at hl 4 rfl) ?_
    refine lv_bipush (v := (32 : Int32)) hx hb d_Ma_fetch_71 (by decide) ?_
    refine lv_iadd hx hb d_Ma_fetch_73 ?_
    refine lv_goto (tgt := 79) hx hb d_Ma_fetch_74 (by decide) ?_
    exact K79 ls _ _ ((f 0) (((32 : Int32) * (v 11)) + ((v 8) - (v 8) / (32 : Int32) * (32 : Int32))).toNatClampNeg) ((((f 0) (((32 : Int32) * (v 11)) + ((v 8) - (v 8) / (32 : Int32) * (32 : Int32))).toNatClampNeg) >>> ((10 : Int32) &&& 31)) &&& (31 : Int32)) (((((f 0) (((32 : Int32) * (v 11)) + ((v 8) - (v 8) / (32 : Int32) * (32 : Int32))).toNatClampNeg) >>> ((15 : Int32) &&& 31)) &&& (31 : Int32)) + (32 : Int32)) (va_up (va_up (va_up v 15 (v 11)) 16 ((v 8) - (v 8) / (32 : Int32) * (32 : Int32))) 17 ((v 17) + (1 : Int32))) f w (lv_sub hl [0, 2, 3] rfl) hP hD hS hF
abbrev b_Pr_word_2 : ByteArray := prog_9_method_2_code
abbrev y_Pr_word_2 : MethodName := { cls := "DelayMachine$Presented", name := "word", desc := "(I)S" }
theorem d_Pr_word_2_0 : decode b_Pr_word_2 0 = .ok (.aload_n 0, 1) := by decide +kernel
theorem d_Pr_word_2_1 : decode b_Pr_word_2 1 = .ok (.getfield 7, 3) := by decide +kernel
theorem d_Pr_word_2_4 : decode b_Pr_word_2 4 = .ok (.iload_n 1, 1) := by decide +kernel
theorem d_Pr_word_2_5 : decode b_Pr_word_2 5 = .ok (.invokevirtual 13, 3) := by decide +kernel
theorem d_Pr_word_2_8 : decode b_Pr_word_2 8 = .ok (.ireturn, 1) := by decide +kernel
theorem hd_Pr_word_2 : y_Pr_word_2.cls ≠ "java/lang/invoke/MethodHandle" ∧ y_Pr_word_2.cls ≠ "java/lang/invoke/VarHandle" ∧ (parseMethodDescriptor y_Pr_word_2.desc).map (fun d => d.parameters.length) = some 1 := by decide +kernel
abbrev rm_Pr_word_2 : Room := { frames := 1, cells := 0, slots := 0, locals := 21 }
def F_Pr_word_2 (x1 : Int32) (v : Nat → Int32) (f : Nat → Nat → Int32) (w : Nat → Nat)  : Option (Int32) := (Option.bind (F_Li_at_2 x1 v f w) (fun z1 => (if (z1).toInt16.toInt32 = z1 then (some z1) else none)))
set_option maxHeartbeats 4000000 in
set_option maxRecDepth 100000 in
theorem c_Pr_word_2 (l : Launch) (G : dm_G) (g h : Nat → Nat) (x1 : Int32) (v : Nat → Int32) (f : Nat → Nat → Int32) (w : Nat → Nat) (RES : Int32) (hF : F_Pr_word_2 x1 v f w = some RES) : dm_Ct l y_Pr_word_2 b_Pr_word_2 2 (some .short) rm_Pr_word_2 G (mw G g h v f w) [.ref (g 32), .int x1] (fun ov w' => ov = some (.int RES) ∧ w' = (mw G g h v f w)) := by
  refine dm_Ct.of (by decide +kernel) (Nat.le_of_ble_eq_true rfl) ?_
  intro p e s m below meth c A ls B hl hP hD hS
  have hx := B.1
  have hb := B.2.1
  have hl : lv_has ls 2 [(0, .ref (g 32)), (1, .int x1)] := hl
  have hF : (Option.bind (F_Li_at_2 x1 v f w) (fun z1 => (if (z1).toInt16.toInt32 = z1 then (some z1) else none))) = some RES := hF
  refine lv_aload_n hx hb d_Pr_word_2_0 rfl (lv_at hl 0 rfl) ?_
  refine mw_g_25_0 B hP k_219 d_Pr_word_2_1 ?_
  refine lv_iload_n hx hb d_Pr_word_2_4 rfl (lv_at hl 1 rfl) ?_
  obtain ⟨z1, hcz1, hF⟩ := dm_bind hF
  refine dm_callVw B [.int x1] (c_Li_at_2 l G g h x1 v f w z1 hcz1) k_400 k_401 k_402 k_6 k_403 hd_Li_at_2 rfl ⟨by decide, by decide⟩ 11 rfl rfl hP hD hS hl.1 (rest := []) rfl (Nat.le_of_ble_eq_true rfl) d_Pr_word_2_5 ⟨by decide, by decide⟩ (fun ov w' H locs hq hP hD hS => ?_)
  obtain ⟨rfl, rfl⟩ := hq
  have hP : va_P G.1 dm_cl (mw G g h v f w) H := hP
  have hD : va_D A (mw G g h v f w) := hD
  refine W.eq (g2 := F0 m 8 ls [.int z1]) rfl ?_
  obtain ⟨hz, hF⟩ := dm_ck1 hF
  have hF := Option.some.inj hF
  subst hF
  exact dm_ret B (dm_nsh hz) d_Pr_word_2_8 (by decide) (by decide) hP hD hS ⟨rfl, rfl⟩
abbrev b_Pr_take_2 : ByteArray := prog_9_method_3_code
abbrev y_Pr_take_2 : MethodName := { cls := "DelayMachine$Presented", name := "take", desc := "(IS)V" }
theorem d_Pr_take_2_0 : decode b_Pr_take_2 0 = .ok (.aload_n 0, 1) := by decide +kernel
theorem d_Pr_take_2_1 : decode b_Pr_take_2 1 = .ok (.getfield 7, 3) := by decide +kernel
theorem d_Pr_take_2_4 : decode b_Pr_take_2 4 = .ok (.iload_n 1, 1) := by decide +kernel
theorem d_Pr_take_2_5 : decode b_Pr_take_2 5 = .ok (.iload_n 2, 1) := by decide +kernel
theorem d_Pr_take_2_6 : decode b_Pr_take_2 6 = .ok (.invokevirtual 19, 3) := by decide +kernel
theorem d_Pr_take_2_9 : decode b_Pr_take_2 9 = .ok (.return_, 1) := by decide +kernel
theorem hd_Pr_take_2 : y_Pr_take_2.cls ≠ "java/lang/invoke/MethodHandle" ∧ y_Pr_take_2.cls ≠ "java/lang/invoke/VarHandle" ∧ (parseMethodDescriptor y_Pr_take_2.desc).map (fun d => d.parameters.length) = some 2 := by decide +kernel
abbrev rm_Pr_take_2 : Room := { frames := 1, cells := 0, slots := 0, locals := 22 }
def F_Pr_take_2 (x1 x2 : Int32)  (v : Nat → Int32) (f : Nat → Nat → Int32) (w : Nat → Nat) : Option ((Nat → Int32) × (Nat → Nat → Int32) × (Nat → Nat)) := (Option.bind (F_Li_put_2 x1 x2 v f w) (fun z1 => (some (z1.1, z1.2.1, z1.2.2))))
set_option maxHeartbeats 4000000 in
set_option maxRecDepth 100000 in
theorem c_Pr_take_2 (l : Launch) (G : dm_G) (g h : Nat → Nat) (x1 x2 : Int32) (v : Nat → Int32) (f : Nat → Nat → Int32) (w : Nat → Nat) (RES : (Nat → Int32) × (Nat → Nat → Int32) × (Nat → Nat)) (hF : F_Pr_take_2 x1 x2 v f w = some RES) : dm_Ct l y_Pr_take_2 b_Pr_take_2 3 none rm_Pr_take_2 G (mw G g h v f w) [.ref (g 32), .int x1, .int x2] (fun ov w' => ov = none ∧ w' = (mw G g h RES.1 RES.2.1 RES.2.2)) := by
  refine dm_Ct.of (by decide +kernel) (Nat.le_of_ble_eq_true rfl) ?_
  intro p e s m below meth c A ls B hl hP hD hS
  have hx := B.1
  have hb := B.2.1
  have hl : lv_has ls 3 [(0, .ref (g 32)), (1, .int x1), (2, .int x2)] := hl
  have hF : (Option.bind (F_Li_put_2 x1 x2 v f w) (fun z1 => (some (z1.1, z1.2.1, z1.2.2)))) = some RES := hF
  refine lv_aload_n hx hb d_Pr_take_2_0 rfl (lv_at hl 0 rfl) ?_
  refine mw_g_25_0 B hP k_219 d_Pr_take_2_1 ?_
  refine lv_iload_n hx hb d_Pr_take_2_4 rfl (lv_at hl 1 rfl) ?_
  refine lv_iload_n hx hb d_Pr_take_2_5 rfl (lv_at hl 2 rfl) ?_
  obtain ⟨z1, hcz1, hF⟩ := dm_bind hF
  refine dm_callVw B [.int x1, .int x2] (c_Li_put_2 l G g h x1 x2 v f w z1 hcz1) k_462 k_431 k_432 k_6 k_433 hd_Li_put_2 rfl ⟨by decide, by decide⟩ 11 rfl rfl hP hD hS hl.1 (rest := []) rfl (Nat.le_of_ble_eq_true rfl) d_Pr_take_2_6 ⟨by decide, by decide⟩ (fun ov w' H locs hq hP hD hS => ?_)
  obtain ⟨rfl, rfl⟩ := hq
  have hP : va_P G.1 dm_cl (mw G g h z1.1 z1.2.1 z1.2.2) H := hP
  have hD : va_D A (mw G g h z1.1 z1.2.1 z1.2.2) := hD
  refine W.eq (g2 := F0 m 9 ls []) rfl ?_
  have hF := Option.some.inj hF
  subst hF
  exact dm_retv B d_Pr_take_2_9 (by decide) (by decide) hP hD hS ⟨rfl, rfl⟩
abbrev b_Pr_word_3 : ByteArray := prog_9_method_2_code
abbrev y_Pr_word_3 : MethodName := { cls := "DelayMachine$Presented", name := "word", desc := "(I)S" }
theorem hd_Pr_word_3 : y_Pr_word_3.cls ≠ "java/lang/invoke/MethodHandle" ∧ y_Pr_word_3.cls ≠ "java/lang/invoke/VarHandle" ∧ (parseMethodDescriptor y_Pr_word_3.desc).map (fun d => d.parameters.length) = some 1 := by decide +kernel
abbrev rm_Pr_word_3 : Room := { frames := 1, cells := 0, slots := 0, locals := 21 }
def F_Pr_word_3 (x1 : Int32) (v : Nat → Int32) (f : Nat → Nat → Int32) (w : Nat → Nat)  : Option (Int32) := (Option.bind (F_Li_at_3 x1 v f w) (fun z1 => (if (z1).toInt16.toInt32 = z1 then (some z1) else none)))
set_option maxHeartbeats 4000000 in
set_option maxRecDepth 100000 in
theorem c_Pr_word_3 (l : Launch) (G : dm_G) (g h : Nat → Nat) (x1 : Int32) (v : Nat → Int32) (f : Nat → Nat → Int32) (w : Nat → Nat) (RES : Int32) (hF : F_Pr_word_3 x1 v f w = some RES) : dm_Ct l y_Pr_word_3 b_Pr_word_3 2 (some .short) rm_Pr_word_3 G (mw G g h v f w) [.ref (g 33), .int x1] (fun ov w' => ov = some (.int RES) ∧ w' = (mw G g h v f w)) := by
  refine dm_Ct.of (by decide +kernel) (Nat.le_of_ble_eq_true rfl) ?_
  intro p e s m below meth c A ls B hl hP hD hS
  have hx := B.1
  have hb := B.2.1
  have hl : lv_has ls 2 [(0, .ref (g 33)), (1, .int x1)] := hl
  have hF : (Option.bind (F_Li_at_3 x1 v f w) (fun z1 => (if (z1).toInt16.toInt32 = z1 then (some z1) else none))) = some RES := hF
  refine lv_aload_n hx hb d_Pr_word_2_0 rfl (lv_at hl 0 rfl) ?_
  refine mw_g_26_0 B hP k_219 d_Pr_word_2_1 ?_
  refine lv_iload_n hx hb d_Pr_word_2_4 rfl (lv_at hl 1 rfl) ?_
  obtain ⟨z1, hcz1, hF⟩ := dm_bind hF
  refine dm_callVw B [.int x1] (c_Li_at_3 l G g h x1 v f w z1 hcz1) k_400 k_401 k_402 k_6 k_403 hd_Li_at_3 rfl ⟨by decide, by decide⟩ 13 rfl rfl hP hD hS hl.1 (rest := []) rfl (Nat.le_of_ble_eq_true rfl) d_Pr_word_2_5 ⟨by decide, by decide⟩ (fun ov w' H locs hq hP hD hS => ?_)
  obtain ⟨rfl, rfl⟩ := hq
  have hP : va_P G.1 dm_cl (mw G g h v f w) H := hP
  have hD : va_D A (mw G g h v f w) := hD
  refine W.eq (g2 := F0 m 8 ls [.int z1]) rfl ?_
  obtain ⟨hz, hF⟩ := dm_ck1 hF
  have hF := Option.some.inj hF
  subst hF
  exact dm_ret B (dm_nsh hz) d_Pr_word_2_8 (by decide) (by decide) hP hD hS ⟨rfl, rfl⟩
abbrev b_Pr_take_3 : ByteArray := prog_9_method_3_code
abbrev y_Pr_take_3 : MethodName := { cls := "DelayMachine$Presented", name := "take", desc := "(IS)V" }
theorem hd_Pr_take_3 : y_Pr_take_3.cls ≠ "java/lang/invoke/MethodHandle" ∧ y_Pr_take_3.cls ≠ "java/lang/invoke/VarHandle" ∧ (parseMethodDescriptor y_Pr_take_3.desc).map (fun d => d.parameters.length) = some 2 := by decide +kernel
abbrev rm_Pr_take_3 : Room := { frames := 1, cells := 0, slots := 0, locals := 22 }
def F_Pr_take_3 (x1 x2 : Int32)  (v : Nat → Int32) (f : Nat → Nat → Int32) (w : Nat → Nat) : Option ((Nat → Int32) × (Nat → Nat → Int32) × (Nat → Nat)) := (Option.bind (F_Li_put_3 x1 x2 v f w) (fun z1 => (some (z1.1, z1.2.1, z1.2.2))))
set_option maxHeartbeats 4000000 in
set_option maxRecDepth 100000 in
theorem c_Pr_take_3 (l : Launch) (G : dm_G) (g h : Nat → Nat) (x1 x2 : Int32) (v : Nat → Int32) (f : Nat → Nat → Int32) (w : Nat → Nat) (RES : (Nat → Int32) × (Nat → Nat → Int32) × (Nat → Nat)) (hF : F_Pr_take_3 x1 x2 v f w = some RES) : dm_Ct l y_Pr_take_3 b_Pr_take_3 3 none rm_Pr_take_3 G (mw G g h v f w) [.ref (g 33), .int x1, .int x2] (fun ov w' => ov = none ∧ w' = (mw G g h RES.1 RES.2.1 RES.2.2)) := by
  refine dm_Ct.of (by decide +kernel) (Nat.le_of_ble_eq_true rfl) ?_
  intro p e s m below meth c A ls B hl hP hD hS
  have hx := B.1
  have hb := B.2.1
  have hl : lv_has ls 3 [(0, .ref (g 33)), (1, .int x1), (2, .int x2)] := hl
  have hF : (Option.bind (F_Li_put_3 x1 x2 v f w) (fun z1 => (some (z1.1, z1.2.1, z1.2.2)))) = some RES := hF
  refine lv_aload_n hx hb d_Pr_take_2_0 rfl (lv_at hl 0 rfl) ?_
  refine mw_g_26_0 B hP k_219 d_Pr_take_2_1 ?_
  refine lv_iload_n hx hb d_Pr_take_2_4 rfl (lv_at hl 1 rfl) ?_
  refine lv_iload_n hx hb d_Pr_take_2_5 rfl (lv_at hl 2 rfl) ?_
  obtain ⟨z1, hcz1, hF⟩ := dm_bind hF
  refine dm_callVw B [.int x1, .int x2] (c_Li_put_3 l G g h x1 x2 v f w z1 hcz1) k_462 k_431 k_432 k_6 k_433 hd_Li_put_3 rfl ⟨by decide, by decide⟩ 13 rfl rfl hP hD hS hl.1 (rest := []) rfl (Nat.le_of_ble_eq_true rfl) d_Pr_take_2_6 ⟨by decide, by decide⟩ (fun ov w' H locs hq hP hD hS => ?_)
  obtain ⟨rfl, rfl⟩ := hq
  have hP : va_P G.1 dm_cl (mw G g h z1.1 z1.2.1 z1.2.2) H := hP
  have hD : va_D A (mw G g h z1.1 z1.2.1 z1.2.2) := hD
  refine W.eq (g2 := F0 m 9 ls []) rfl ?_
  have hF := Option.some.inj hF
  subst hF
  exact dm_retv B d_Pr_take_2_9 (by decide) (by decide) hP hD hS ⟨rfl, rfl⟩
abbrev b_Pr_word_4 : ByteArray := prog_9_method_2_code
abbrev y_Pr_word_4 : MethodName := { cls := "DelayMachine$Presented", name := "word", desc := "(I)S" }
theorem hd_Pr_word_4 : y_Pr_word_4.cls ≠ "java/lang/invoke/MethodHandle" ∧ y_Pr_word_4.cls ≠ "java/lang/invoke/VarHandle" ∧ (parseMethodDescriptor y_Pr_word_4.desc).map (fun d => d.parameters.length) = some 1 := by decide +kernel
abbrev rm_Pr_word_4 : Room := { frames := 1, cells := 0, slots := 0, locals := 21 }
def F_Pr_word_4 (x1 : Int32) (v : Nat → Int32) (f : Nat → Nat → Int32) (w : Nat → Nat)  : Option (Int32) := (Option.bind (F_Li_at_4 x1 v f w) (fun z1 => (if (z1).toInt16.toInt32 = z1 then (some z1) else none)))
set_option maxHeartbeats 4000000 in
set_option maxRecDepth 100000 in
theorem c_Pr_word_4 (l : Launch) (G : dm_G) (g h : Nat → Nat) (x1 : Int32) (v : Nat → Int32) (f : Nat → Nat → Int32) (w : Nat → Nat) (RES : Int32) (hF : F_Pr_word_4 x1 v f w = some RES) : dm_Ct l y_Pr_word_4 b_Pr_word_4 2 (some .short) rm_Pr_word_4 G (mw G g h v f w) [.ref (g 34), .int x1] (fun ov w' => ov = some (.int RES) ∧ w' = (mw G g h v f w)) := by
  refine dm_Ct.of (by decide +kernel) (Nat.le_of_ble_eq_true rfl) ?_
  intro p e s m below meth c A ls B hl hP hD hS
  have hx := B.1
  have hb := B.2.1
  have hl : lv_has ls 2 [(0, .ref (g 34)), (1, .int x1)] := hl
  have hF : (Option.bind (F_Li_at_4 x1 v f w) (fun z1 => (if (z1).toInt16.toInt32 = z1 then (some z1) else none))) = some RES := hF
  refine lv_aload_n hx hb d_Pr_word_2_0 rfl (lv_at hl 0 rfl) ?_
  refine mw_g_27_0 B hP k_219 d_Pr_word_2_1 ?_
  refine lv_iload_n hx hb d_Pr_word_2_4 rfl (lv_at hl 1 rfl) ?_
  obtain ⟨z1, hcz1, hF⟩ := dm_bind hF
  refine dm_callVw B [.int x1] (c_Li_at_4 l G g h x1 v f w z1 hcz1) k_400 k_401 k_402 k_6 k_403 hd_Li_at_4 rfl ⟨by decide, by decide⟩ 15 rfl rfl hP hD hS hl.1 (rest := []) rfl (Nat.le_of_ble_eq_true rfl) d_Pr_word_2_5 ⟨by decide, by decide⟩ (fun ov w' H locs hq hP hD hS => ?_)
  obtain ⟨rfl, rfl⟩ := hq
  have hP : va_P G.1 dm_cl (mw G g h v f w) H := hP
  have hD : va_D A (mw G g h v f w) := hD
  refine W.eq (g2 := F0 m 8 ls [.int z1]) rfl ?_
  obtain ⟨hz, hF⟩ := dm_ck1 hF
  have hF := Option.some.inj hF
  subst hF
  exact dm_ret B (dm_nsh hz) d_Pr_word_2_8 (by decide) (by decide) hP hD hS ⟨rfl, rfl⟩
abbrev b_Pr_take_4 : ByteArray := prog_9_method_3_code
abbrev y_Pr_take_4 : MethodName := { cls := "DelayMachine$Presented", name := "take", desc := "(IS)V" }
theorem hd_Pr_take_4 : y_Pr_take_4.cls ≠ "java/lang/invoke/MethodHandle" ∧ y_Pr_take_4.cls ≠ "java/lang/invoke/VarHandle" ∧ (parseMethodDescriptor y_Pr_take_4.desc).map (fun d => d.parameters.length) = some 2 := by decide +kernel
abbrev rm_Pr_take_4 : Room := { frames := 1, cells := 0, slots := 0, locals := 22 }
def F_Pr_take_4 (x1 x2 : Int32)  (v : Nat → Int32) (f : Nat → Nat → Int32) (w : Nat → Nat) : Option ((Nat → Int32) × (Nat → Nat → Int32) × (Nat → Nat)) := (Option.bind (F_Li_put_4 x1 x2 v f w) (fun z1 => (some (z1.1, z1.2.1, z1.2.2))))
set_option maxHeartbeats 4000000 in
set_option maxRecDepth 100000 in
theorem c_Pr_take_4 (l : Launch) (G : dm_G) (g h : Nat → Nat) (x1 x2 : Int32) (v : Nat → Int32) (f : Nat → Nat → Int32) (w : Nat → Nat) (RES : (Nat → Int32) × (Nat → Nat → Int32) × (Nat → Nat)) (hF : F_Pr_take_4 x1 x2 v f w = some RES) : dm_Ct l y_Pr_take_4 b_Pr_take_4 3 none rm_Pr_take_4 G (mw G g h v f w) [.ref (g 34), .int x1, .int x2] (fun ov w' => ov = none ∧ w' = (mw G g h RES.1 RES.2.1 RES.2.2)) := by
  refine dm_Ct.of (by decide +kernel) (Nat.le_of_ble_eq_true rfl) ?_
  intro p e s m below meth c A ls B hl hP hD hS
  have hx := B.1
  have hb := B.2.1
  have hl : lv_has ls 3 [(0, .ref (g 34)), (1, .int x1), (2, .int x2)] := hl
  have hF : (Option.bind (F_Li_put_4 x1 x2 v f w) (fun z1 => (some (z1.1, z1.2.1, z1.2.2)))) = some RES := hF
  refine lv_aload_n hx hb d_Pr_take_2_0 rfl (lv_at hl 0 rfl) ?_
  refine mw_g_27_0 B hP k_219 d_Pr_take_2_1 ?_
  refine lv_iload_n hx hb d_Pr_take_2_4 rfl (lv_at hl 1 rfl) ?_
  refine lv_iload_n hx hb d_Pr_take_2_5 rfl (lv_at hl 2 rfl) ?_
  obtain ⟨z1, hcz1, hF⟩ := dm_bind hF
  refine dm_callVw B [.int x1, .int x2] (c_Li_put_4 l G g h x1 x2 v f w z1 hcz1) k_462 k_431 k_432 k_6 k_433 hd_Li_put_4 rfl ⟨by decide, by decide⟩ 15 rfl rfl hP hD hS hl.1 (rest := []) rfl (Nat.le_of_ble_eq_true rfl) d_Pr_take_2_6 ⟨by decide, by decide⟩ (fun ov w' H locs hq hP hD hS => ?_)
  obtain ⟨rfl, rfl⟩ := hq
  have hP : va_P G.1 dm_cl (mw G g h z1.1 z1.2.1 z1.2.2) H := hP
  have hD : va_D A (mw G g h z1.1 z1.2.1 z1.2.2) := hD
  refine W.eq (g2 := F0 m 9 ls []) rfl ?_
  have hF := Option.some.inj hF
  subst hF
  exact dm_retv B d_Pr_take_2_9 (by decide) (by decide) hP hD hS ⟨rfl, rfl⟩
abbrev b_Pr_word_5 : ByteArray := prog_9_method_2_code
abbrev y_Pr_word_5 : MethodName := { cls := "DelayMachine$Presented", name := "word", desc := "(I)S" }
theorem hd_Pr_word_5 : y_Pr_word_5.cls ≠ "java/lang/invoke/MethodHandle" ∧ y_Pr_word_5.cls ≠ "java/lang/invoke/VarHandle" ∧ (parseMethodDescriptor y_Pr_word_5.desc).map (fun d => d.parameters.length) = some 1 := by decide +kernel
abbrev rm_Pr_word_5 : Room := { frames := 1, cells := 0, slots := 0, locals := 21 }
def F_Pr_word_5 (x1 : Int32) (v : Nat → Int32) (f : Nat → Nat → Int32) (w : Nat → Nat)  : Option (Int32) := (Option.bind (F_Li_at_5 x1 v f w) (fun z1 => (if (z1).toInt16.toInt32 = z1 then (some z1) else none)))
set_option maxHeartbeats 4000000 in
set_option maxRecDepth 100000 in
theorem c_Pr_word_5 (l : Launch) (G : dm_G) (g h : Nat → Nat) (x1 : Int32) (v : Nat → Int32) (f : Nat → Nat → Int32) (w : Nat → Nat) (RES : Int32) (hF : F_Pr_word_5 x1 v f w = some RES) : dm_Ct l y_Pr_word_5 b_Pr_word_5 2 (some .short) rm_Pr_word_5 G (mw G g h v f w) [.ref (g 35), .int x1] (fun ov w' => ov = some (.int RES) ∧ w' = (mw G g h v f w)) := by
  refine dm_Ct.of (by decide +kernel) (Nat.le_of_ble_eq_true rfl) ?_
  intro p e s m below meth c A ls B hl hP hD hS
  have hx := B.1
  have hb := B.2.1
  have hl : lv_has ls 2 [(0, .ref (g 35)), (1, .int x1)] := hl
  have hF : (Option.bind (F_Li_at_5 x1 v f w) (fun z1 => (if (z1).toInt16.toInt32 = z1 then (some z1) else none))) = some RES := hF
  refine lv_aload_n hx hb d_Pr_word_2_0 rfl (lv_at hl 0 rfl) ?_
  refine mw_g_28_0 B hP k_219 d_Pr_word_2_1 ?_
  refine lv_iload_n hx hb d_Pr_word_2_4 rfl (lv_at hl 1 rfl) ?_
  obtain ⟨z1, hcz1, hF⟩ := dm_bind hF
  refine dm_callVw B [.int x1] (c_Li_at_5 l G g h x1 v f w z1 hcz1) k_400 k_401 k_402 k_6 k_403 hd_Li_at_5 rfl ⟨by decide, by decide⟩ 17 rfl rfl hP hD hS hl.1 (rest := []) rfl (Nat.le_of_ble_eq_true rfl) d_Pr_word_2_5 ⟨by decide, by decide⟩ (fun ov w' H locs hq hP hD hS => ?_)
  obtain ⟨rfl, rfl⟩ := hq
  have hP : va_P G.1 dm_cl (mw G g h v f w) H := hP
  have hD : va_D A (mw G g h v f w) := hD
  refine W.eq (g2 := F0 m 8 ls [.int z1]) rfl ?_
  obtain ⟨hz, hF⟩ := dm_ck1 hF
  have hF := Option.some.inj hF
  subst hF
  exact dm_ret B (dm_nsh hz) d_Pr_word_2_8 (by decide) (by decide) hP hD hS ⟨rfl, rfl⟩
abbrev b_Pr_take_5 : ByteArray := prog_9_method_3_code
abbrev y_Pr_take_5 : MethodName := { cls := "DelayMachine$Presented", name := "take", desc := "(IS)V" }
theorem hd_Pr_take_5 : y_Pr_take_5.cls ≠ "java/lang/invoke/MethodHandle" ∧ y_Pr_take_5.cls ≠ "java/lang/invoke/VarHandle" ∧ (parseMethodDescriptor y_Pr_take_5.desc).map (fun d => d.parameters.length) = some 2 := by decide +kernel
abbrev rm_Pr_take_5 : Room := { frames := 1, cells := 0, slots := 0, locals := 22 }
def F_Pr_take_5 (x1 x2 : Int32)  (v : Nat → Int32) (f : Nat → Nat → Int32) (w : Nat → Nat) : Option ((Nat → Int32) × (Nat → Nat → Int32) × (Nat → Nat)) := (Option.bind (F_Li_put_5 x1 x2 v f w) (fun z1 => (some (z1.1, z1.2.1, z1.2.2))))
set_option maxHeartbeats 4000000 in
set_option maxRecDepth 100000 in
theorem c_Pr_take_5 (l : Launch) (G : dm_G) (g h : Nat → Nat) (x1 x2 : Int32) (v : Nat → Int32) (f : Nat → Nat → Int32) (w : Nat → Nat) (RES : (Nat → Int32) × (Nat → Nat → Int32) × (Nat → Nat)) (hF : F_Pr_take_5 x1 x2 v f w = some RES) : dm_Ct l y_Pr_take_5 b_Pr_take_5 3 none rm_Pr_take_5 G (mw G g h v f w) [.ref (g 35), .int x1, .int x2] (fun ov w' => ov = none ∧ w' = (mw G g h RES.1 RES.2.1 RES.2.2)) := by
  refine dm_Ct.of (by decide +kernel) (Nat.le_of_ble_eq_true rfl) ?_
  intro p e s m below meth c A ls B hl hP hD hS
  have hx := B.1
  have hb := B.2.1
  have hl : lv_has ls 3 [(0, .ref (g 35)), (1, .int x1), (2, .int x2)] := hl
  have hF : (Option.bind (F_Li_put_5 x1 x2 v f w) (fun z1 => (some (z1.1, z1.2.1, z1.2.2)))) = some RES := hF
  refine lv_aload_n hx hb d_Pr_take_2_0 rfl (lv_at hl 0 rfl) ?_
  refine mw_g_28_0 B hP k_219 d_Pr_take_2_1 ?_
  refine lv_iload_n hx hb d_Pr_take_2_4 rfl (lv_at hl 1 rfl) ?_
  refine lv_iload_n hx hb d_Pr_take_2_5 rfl (lv_at hl 2 rfl) ?_
  obtain ⟨z1, hcz1, hF⟩ := dm_bind hF
  refine dm_callVw B [.int x1, .int x2] (c_Li_put_5 l G g h x1 x2 v f w z1 hcz1) k_462 k_431 k_432 k_6 k_433 hd_Li_put_5 rfl ⟨by decide, by decide⟩ 17 rfl rfl hP hD hS hl.1 (rest := []) rfl (Nat.le_of_ble_eq_true rfl) d_Pr_take_2_6 ⟨by decide, by decide⟩ (fun ov w' H locs hq hP hD hS => ?_)
  obtain ⟨rfl, rfl⟩ := hq
  have hP : va_P G.1 dm_cl (mw G g h z1.1 z1.2.1 z1.2.2) H := hP
  have hD : va_D A (mw G g h z1.1 z1.2.1 z1.2.2) := hD
  refine W.eq (g2 := F0 m 9 ls []) rfl ?_
  have hF := Option.some.inj hF
  subst hF
  exact dm_retv B d_Pr_take_2_9 (by decide) (by decide) hP hD hS ⟨rfl, rfl⟩
abbrev b_Pr_word_6 : ByteArray := prog_9_method_2_code
abbrev y_Pr_word_6 : MethodName := { cls := "DelayMachine$Presented", name := "word", desc := "(I)S" }
theorem hd_Pr_word_6 : y_Pr_word_6.cls ≠ "java/lang/invoke/MethodHandle" ∧ y_Pr_word_6.cls ≠ "java/lang/invoke/VarHandle" ∧ (parseMethodDescriptor y_Pr_word_6.desc).map (fun d => d.parameters.length) = some 1 := by decide +kernel
abbrev rm_Pr_word_6 : Room := { frames := 1, cells := 0, slots := 0, locals := 21 }
def F_Pr_word_6 (x1 : Int32) (v : Nat → Int32) (f : Nat → Nat → Int32) (w : Nat → Nat)  : Option (Int32) := (Option.bind (F_Li_at_6 x1 v f w) (fun z1 => (if (z1).toInt16.toInt32 = z1 then (some z1) else none)))
set_option maxHeartbeats 4000000 in
set_option maxRecDepth 100000 in
theorem c_Pr_word_6 (l : Launch) (G : dm_G) (g h : Nat → Nat) (x1 : Int32) (v : Nat → Int32) (f : Nat → Nat → Int32) (w : Nat → Nat) (RES : Int32) (hF : F_Pr_word_6 x1 v f w = some RES) : dm_Ct l y_Pr_word_6 b_Pr_word_6 2 (some .short) rm_Pr_word_6 G (mw G g h v f w) [.ref (g 36), .int x1] (fun ov w' => ov = some (.int RES) ∧ w' = (mw G g h v f w)) := by
  refine dm_Ct.of (by decide +kernel) (Nat.le_of_ble_eq_true rfl) ?_
  intro p e s m below meth c A ls B hl hP hD hS
  have hx := B.1
  have hb := B.2.1
  have hl : lv_has ls 2 [(0, .ref (g 36)), (1, .int x1)] := hl
  have hF : (Option.bind (F_Li_at_6 x1 v f w) (fun z1 => (if (z1).toInt16.toInt32 = z1 then (some z1) else none))) = some RES := hF
  refine lv_aload_n hx hb d_Pr_word_2_0 rfl (lv_at hl 0 rfl) ?_
  refine mw_g_29_0 B hP k_219 d_Pr_word_2_1 ?_
  refine lv_iload_n hx hb d_Pr_word_2_4 rfl (lv_at hl 1 rfl) ?_
  obtain ⟨z1, hcz1, hF⟩ := dm_bind hF
  refine dm_callVw B [.int x1] (c_Li_at_6 l G g h x1 v f w z1 hcz1) k_400 k_401 k_402 k_6 k_403 hd_Li_at_6 rfl ⟨by decide, by decide⟩ 19 rfl rfl hP hD hS hl.1 (rest := []) rfl (Nat.le_of_ble_eq_true rfl) d_Pr_word_2_5 ⟨by decide, by decide⟩ (fun ov w' H locs hq hP hD hS => ?_)
  obtain ⟨rfl, rfl⟩ := hq
  have hP : va_P G.1 dm_cl (mw G g h v f w) H := hP
  have hD : va_D A (mw G g h v f w) := hD
  refine W.eq (g2 := F0 m 8 ls [.int z1]) rfl ?_
  obtain ⟨hz, hF⟩ := dm_ck1 hF
  have hF := Option.some.inj hF
  subst hF
  exact dm_ret B (dm_nsh hz) d_Pr_word_2_8 (by decide) (by decide) hP hD hS ⟨rfl, rfl⟩
abbrev b_Pr_take_6 : ByteArray := prog_9_method_3_code
abbrev y_Pr_take_6 : MethodName := { cls := "DelayMachine$Presented", name := "take", desc := "(IS)V" }
theorem hd_Pr_take_6 : y_Pr_take_6.cls ≠ "java/lang/invoke/MethodHandle" ∧ y_Pr_take_6.cls ≠ "java/lang/invoke/VarHandle" ∧ (parseMethodDescriptor y_Pr_take_6.desc).map (fun d => d.parameters.length) = some 2 := by decide +kernel
abbrev rm_Pr_take_6 : Room := { frames := 1, cells := 0, slots := 0, locals := 22 }
def F_Pr_take_6 (x1 x2 : Int32)  (v : Nat → Int32) (f : Nat → Nat → Int32) (w : Nat → Nat) : Option ((Nat → Int32) × (Nat → Nat → Int32) × (Nat → Nat)) := (Option.bind (F_Li_put_6 x1 x2 v f w) (fun z1 => (some (z1.1, z1.2.1, z1.2.2))))
set_option maxHeartbeats 4000000 in
set_option maxRecDepth 100000 in
theorem c_Pr_take_6 (l : Launch) (G : dm_G) (g h : Nat → Nat) (x1 x2 : Int32) (v : Nat → Int32) (f : Nat → Nat → Int32) (w : Nat → Nat) (RES : (Nat → Int32) × (Nat → Nat → Int32) × (Nat → Nat)) (hF : F_Pr_take_6 x1 x2 v f w = some RES) : dm_Ct l y_Pr_take_6 b_Pr_take_6 3 none rm_Pr_take_6 G (mw G g h v f w) [.ref (g 36), .int x1, .int x2] (fun ov w' => ov = none ∧ w' = (mw G g h RES.1 RES.2.1 RES.2.2)) := by
  refine dm_Ct.of (by decide +kernel) (Nat.le_of_ble_eq_true rfl) ?_
  intro p e s m below meth c A ls B hl hP hD hS
  have hx := B.1
  have hb := B.2.1
  have hl : lv_has ls 3 [(0, .ref (g 36)), (1, .int x1), (2, .int x2)] := hl
  have hF : (Option.bind (F_Li_put_6 x1 x2 v f w) (fun z1 => (some (z1.1, z1.2.1, z1.2.2)))) = some RES := hF
  refine lv_aload_n hx hb d_Pr_take_2_0 rfl (lv_at hl 0 rfl) ?_
  refine mw_g_29_0 B hP k_219 d_Pr_take_2_1 ?_
  refine lv_iload_n hx hb d_Pr_take_2_4 rfl (lv_at hl 1 rfl) ?_
  refine lv_iload_n hx hb d_Pr_take_2_5 rfl (lv_at hl 2 rfl) ?_
  obtain ⟨z1, hcz1, hF⟩ := dm_bind hF
  refine dm_callVw B [.int x1, .int x2] (c_Li_put_6 l G g h x1 x2 v f w z1 hcz1) k_462 k_431 k_432 k_6 k_433 hd_Li_put_6 rfl ⟨by decide, by decide⟩ 19 rfl rfl hP hD hS hl.1 (rest := []) rfl (Nat.le_of_ble_eq_true rfl) d_Pr_take_2_6 ⟨by decide, by decide⟩ (fun ov w' H locs hq hP hD hS => ?_)
  obtain ⟨rfl, rfl⟩ := hq
  have hP : va_P G.1 dm_cl (mw G g h z1.1 z1.2.1 z1.2.2) H := hP
  have hD : va_D A (mw G g h z1.1 z1.2.1 z1.2.2) := hD
  refine W.eq (g2 := F0 m 9 ls []) rfl ?_
  have hF := Option.some.inj hF
  subst hF
  exact dm_retv B d_Pr_take_2_9 (by decide) (by decide) hP hD hS ⟨rfl, rfl⟩
abbrev b_Pr_word_7 : ByteArray := prog_9_method_2_code
abbrev y_Pr_word_7 : MethodName := { cls := "DelayMachine$Presented", name := "word", desc := "(I)S" }
theorem hd_Pr_word_7 : y_Pr_word_7.cls ≠ "java/lang/invoke/MethodHandle" ∧ y_Pr_word_7.cls ≠ "java/lang/invoke/VarHandle" ∧ (parseMethodDescriptor y_Pr_word_7.desc).map (fun d => d.parameters.length) = some 1 := by decide +kernel
abbrev rm_Pr_word_7 : Room := { frames := 1, cells := 0, slots := 0, locals := 21 }
def F_Pr_word_7 (x1 : Int32) (v : Nat → Int32) (f : Nat → Nat → Int32) (w : Nat → Nat)  : Option (Int32) := (Option.bind (F_Li_at_7 x1 v f w) (fun z1 => (if (z1).toInt16.toInt32 = z1 then (some z1) else none)))
set_option maxHeartbeats 4000000 in
set_option maxRecDepth 100000 in
theorem c_Pr_word_7 (l : Launch) (G : dm_G) (g h : Nat → Nat) (x1 : Int32) (v : Nat → Int32) (f : Nat → Nat → Int32) (w : Nat → Nat) (RES : Int32) (hF : F_Pr_word_7 x1 v f w = some RES) : dm_Ct l y_Pr_word_7 b_Pr_word_7 2 (some .short) rm_Pr_word_7 G (mw G g h v f w) [.ref (g 37), .int x1] (fun ov w' => ov = some (.int RES) ∧ w' = (mw G g h v f w)) := by
  refine dm_Ct.of (by decide +kernel) (Nat.le_of_ble_eq_true rfl) ?_
  intro p e s m below meth c A ls B hl hP hD hS
  have hx := B.1
  have hb := B.2.1
  have hl : lv_has ls 2 [(0, .ref (g 37)), (1, .int x1)] := hl
  have hF : (Option.bind (F_Li_at_7 x1 v f w) (fun z1 => (if (z1).toInt16.toInt32 = z1 then (some z1) else none))) = some RES := hF
  refine lv_aload_n hx hb d_Pr_word_2_0 rfl (lv_at hl 0 rfl) ?_
  refine mw_g_30_0 B hP k_219 d_Pr_word_2_1 ?_
  refine lv_iload_n hx hb d_Pr_word_2_4 rfl (lv_at hl 1 rfl) ?_
  obtain ⟨z1, hcz1, hF⟩ := dm_bind hF
  refine dm_callVw B [.int x1] (c_Li_at_7 l G g h x1 v f w z1 hcz1) k_400 k_401 k_402 k_6 k_403 hd_Li_at_7 rfl ⟨by decide, by decide⟩ 21 rfl rfl hP hD hS hl.1 (rest := []) rfl (Nat.le_of_ble_eq_true rfl) d_Pr_word_2_5 ⟨by decide, by decide⟩ (fun ov w' H locs hq hP hD hS => ?_)
  obtain ⟨rfl, rfl⟩ := hq
  have hP : va_P G.1 dm_cl (mw G g h v f w) H := hP
  have hD : va_D A (mw G g h v f w) := hD
  refine W.eq (g2 := F0 m 8 ls [.int z1]) rfl ?_
  obtain ⟨hz, hF⟩ := dm_ck1 hF
  have hF := Option.some.inj hF
  subst hF
  exact dm_ret B (dm_nsh hz) d_Pr_word_2_8 (by decide) (by decide) hP hD hS ⟨rfl, rfl⟩
abbrev b_Pr_take_7 : ByteArray := prog_9_method_3_code
abbrev y_Pr_take_7 : MethodName := { cls := "DelayMachine$Presented", name := "take", desc := "(IS)V" }
theorem hd_Pr_take_7 : y_Pr_take_7.cls ≠ "java/lang/invoke/MethodHandle" ∧ y_Pr_take_7.cls ≠ "java/lang/invoke/VarHandle" ∧ (parseMethodDescriptor y_Pr_take_7.desc).map (fun d => d.parameters.length) = some 2 := by decide +kernel
abbrev rm_Pr_take_7 : Room := { frames := 1, cells := 0, slots := 0, locals := 22 }
def F_Pr_take_7 (x1 x2 : Int32)  (v : Nat → Int32) (f : Nat → Nat → Int32) (w : Nat → Nat) : Option ((Nat → Int32) × (Nat → Nat → Int32) × (Nat → Nat)) := (Option.bind (F_Li_put_7 x1 x2 v f w) (fun z1 => (some (z1.1, z1.2.1, z1.2.2))))
set_option maxHeartbeats 4000000 in
set_option maxRecDepth 100000 in
theorem c_Pr_take_7 (l : Launch) (G : dm_G) (g h : Nat → Nat) (x1 x2 : Int32) (v : Nat → Int32) (f : Nat → Nat → Int32) (w : Nat → Nat) (RES : (Nat → Int32) × (Nat → Nat → Int32) × (Nat → Nat)) (hF : F_Pr_take_7 x1 x2 v f w = some RES) : dm_Ct l y_Pr_take_7 b_Pr_take_7 3 none rm_Pr_take_7 G (mw G g h v f w) [.ref (g 37), .int x1, .int x2] (fun ov w' => ov = none ∧ w' = (mw G g h RES.1 RES.2.1 RES.2.2)) := by
  refine dm_Ct.of (by decide +kernel) (Nat.le_of_ble_eq_true rfl) ?_
  intro p e s m below meth c A ls B hl hP hD hS
  have hx := B.1
  have hb := B.2.1
  have hl : lv_has ls 3 [(0, .ref (g 37)), (1, .int x1), (2, .int x2)] := hl
  have hF : (Option.bind (F_Li_put_7 x1 x2 v f w) (fun z1 => (some (z1.1, z1.2.1, z1.2.2)))) = some RES := hF
  refine lv_aload_n hx hb d_Pr_take_2_0 rfl (lv_at hl 0 rfl) ?_
  refine mw_g_30_0 B hP k_219 d_Pr_take_2_1 ?_
  refine lv_iload_n hx hb d_Pr_take_2_4 rfl (lv_at hl 1 rfl) ?_
  refine lv_iload_n hx hb d_Pr_take_2_5 rfl (lv_at hl 2 rfl) ?_
  obtain ⟨z1, hcz1, hF⟩ := dm_bind hF
  refine dm_callVw B [.int x1, .int x2] (c_Li_put_7 l G g h x1 x2 v f w z1 hcz1) k_462 k_431 k_432 k_6 k_433 hd_Li_put_7 rfl ⟨by decide, by decide⟩ 21 rfl rfl hP hD hS hl.1 (rest := []) rfl (Nat.le_of_ble_eq_true rfl) d_Pr_take_2_6 ⟨by decide, by decide⟩ (fun ov w' H locs hq hP hD hS => ?_)
  obtain ⟨rfl, rfl⟩ := hq
  have hP : va_P G.1 dm_cl (mw G g h z1.1 z1.2.1 z1.2.2) H := hP
  have hD : va_D A (mw G g h z1.1 z1.2.1 z1.2.2) := hD
  refine W.eq (g2 := F0 m 9 ls []) rfl ?_
  have hF := Option.some.inj hF
  subst hF
  exact dm_retv B d_Pr_take_2_9 (by decide) (by decide) hP hD hS ⟨rfl, rfl⟩
abbrev b_Pr_word_8 : ByteArray := prog_9_method_2_code
abbrev y_Pr_word_8 : MethodName := { cls := "DelayMachine$Presented", name := "word", desc := "(I)S" }
theorem hd_Pr_word_8 : y_Pr_word_8.cls ≠ "java/lang/invoke/MethodHandle" ∧ y_Pr_word_8.cls ≠ "java/lang/invoke/VarHandle" ∧ (parseMethodDescriptor y_Pr_word_8.desc).map (fun d => d.parameters.length) = some 1 := by decide +kernel
abbrev rm_Pr_word_8 : Room := { frames := 1, cells := 0, slots := 0, locals := 21 }
def F_Pr_word_8 (x1 : Int32) (v : Nat → Int32) (f : Nat → Nat → Int32) (w : Nat → Nat)  : Option (Int32) := (Option.bind (F_Li_at_8 x1 v f w) (fun z1 => (if (z1).toInt16.toInt32 = z1 then (some z1) else none)))
set_option maxHeartbeats 4000000 in
set_option maxRecDepth 100000 in
theorem c_Pr_word_8 (l : Launch) (G : dm_G) (g h : Nat → Nat) (x1 : Int32) (v : Nat → Int32) (f : Nat → Nat → Int32) (w : Nat → Nat) (RES : Int32) (hF : F_Pr_word_8 x1 v f w = some RES) : dm_Ct l y_Pr_word_8 b_Pr_word_8 2 (some .short) rm_Pr_word_8 G (mw G g h v f w) [.ref (g 38), .int x1] (fun ov w' => ov = some (.int RES) ∧ w' = (mw G g h v f w)) := by
  refine dm_Ct.of (by decide +kernel) (Nat.le_of_ble_eq_true rfl) ?_
  intro p e s m below meth c A ls B hl hP hD hS
  have hx := B.1
  have hb := B.2.1
  have hl : lv_has ls 2 [(0, .ref (g 38)), (1, .int x1)] := hl
  have hF : (Option.bind (F_Li_at_8 x1 v f w) (fun z1 => (if (z1).toInt16.toInt32 = z1 then (some z1) else none))) = some RES := hF
  refine lv_aload_n hx hb d_Pr_word_2_0 rfl (lv_at hl 0 rfl) ?_
  refine mw_g_31_0 B hP k_219 d_Pr_word_2_1 ?_
  refine lv_iload_n hx hb d_Pr_word_2_4 rfl (lv_at hl 1 rfl) ?_
  obtain ⟨z1, hcz1, hF⟩ := dm_bind hF
  refine dm_callVw B [.int x1] (c_Li_at_8 l G g h x1 v f w z1 hcz1) k_400 k_401 k_402 k_6 k_403 hd_Li_at_8 rfl ⟨by decide, by decide⟩ 23 rfl rfl hP hD hS hl.1 (rest := []) rfl (Nat.le_of_ble_eq_true rfl) d_Pr_word_2_5 ⟨by decide, by decide⟩ (fun ov w' H locs hq hP hD hS => ?_)
  obtain ⟨rfl, rfl⟩ := hq
  have hP : va_P G.1 dm_cl (mw G g h v f w) H := hP
  have hD : va_D A (mw G g h v f w) := hD
  refine W.eq (g2 := F0 m 8 ls [.int z1]) rfl ?_
  obtain ⟨hz, hF⟩ := dm_ck1 hF
  have hF := Option.some.inj hF
  subst hF
  exact dm_ret B (dm_nsh hz) d_Pr_word_2_8 (by decide) (by decide) hP hD hS ⟨rfl, rfl⟩
abbrev b_Pr_take_8 : ByteArray := prog_9_method_3_code
abbrev y_Pr_take_8 : MethodName := { cls := "DelayMachine$Presented", name := "take", desc := "(IS)V" }
theorem hd_Pr_take_8 : y_Pr_take_8.cls ≠ "java/lang/invoke/MethodHandle" ∧ y_Pr_take_8.cls ≠ "java/lang/invoke/VarHandle" ∧ (parseMethodDescriptor y_Pr_take_8.desc).map (fun d => d.parameters.length) = some 2 := by decide +kernel
abbrev rm_Pr_take_8 : Room := { frames := 1, cells := 0, slots := 0, locals := 22 }
def F_Pr_take_8 (x1 x2 : Int32)  (v : Nat → Int32) (f : Nat → Nat → Int32) (w : Nat → Nat) : Option ((Nat → Int32) × (Nat → Nat → Int32) × (Nat → Nat)) := (Option.bind (F_Li_put_8 x1 x2 v f w) (fun z1 => (some (z1.1, z1.2.1, z1.2.2))))
set_option maxHeartbeats 4000000 in
set_option maxRecDepth 100000 in
theorem c_Pr_take_8 (l : Launch) (G : dm_G) (g h : Nat → Nat) (x1 x2 : Int32) (v : Nat → Int32) (f : Nat → Nat → Int32) (w : Nat → Nat) (RES : (Nat → Int32) × (Nat → Nat → Int32) × (Nat → Nat)) (hF : F_Pr_take_8 x1 x2 v f w = some RES) : dm_Ct l y_Pr_take_8 b_Pr_take_8 3 none rm_Pr_take_8 G (mw G g h v f w) [.ref (g 38), .int x1, .int x2] (fun ov w' => ov = none ∧ w' = (mw G g h RES.1 RES.2.1 RES.2.2)) := by
  refine dm_Ct.of (by decide +kernel) (Nat.le_of_ble_eq_true rfl) ?_
  intro p e s m below meth c A ls B hl hP hD hS
  have hx := B.1
  have hb := B.2.1
  have hl : lv_has ls 3 [(0, .ref (g 38)), (1, .int x1), (2, .int x2)] := hl
  have hF : (Option.bind (F_Li_put_8 x1 x2 v f w) (fun z1 => (some (z1.1, z1.2.1, z1.2.2)))) = some RES := hF
  refine lv_aload_n hx hb d_Pr_take_2_0 rfl (lv_at hl 0 rfl) ?_
  refine mw_g_31_0 B hP k_219 d_Pr_take_2_1 ?_
  refine lv_iload_n hx hb d_Pr_take_2_4 rfl (lv_at hl 1 rfl) ?_
  refine lv_iload_n hx hb d_Pr_take_2_5 rfl (lv_at hl 2 rfl) ?_
  obtain ⟨z1, hcz1, hF⟩ := dm_bind hF
  refine dm_callVw B [.int x1, .int x2] (c_Li_put_8 l G g h x1 x2 v f w z1 hcz1) k_462 k_431 k_432 k_6 k_433 hd_Li_put_8 rfl ⟨by decide, by decide⟩ 23 rfl rfl hP hD hS hl.1 (rest := []) rfl (Nat.le_of_ble_eq_true rfl) d_Pr_take_2_6 ⟨by decide, by decide⟩ (fun ov w' H locs hq hP hD hS => ?_)
  obtain ⟨rfl, rfl⟩ := hq
  have hP : va_P G.1 dm_cl (mw G g h z1.1 z1.2.1 z1.2.2) H := hP
  have hD : va_D A (mw G g h z1.1 z1.2.1 z1.2.2) := hD
  refine W.eq (g2 := F0 m 9 ls []) rfl ?_
  have hF := Option.some.inj hF
  subst hF
  exact dm_retv B d_Pr_take_2_9 (by decide) (by decide) hP hD hS ⟨rfl, rfl⟩
abbrev b_Rk_word_0 : ByteArray := prog_11_method_2_code
abbrev y_Rk_word_0 : MethodName := { cls := "DelayMachine$Reckoned", name := "word", desc := "(I)S" }
theorem d_Rk_word_0_0 : decode b_Rk_word_0 0 = .ok (.aload_n 0, 1) := by decide +kernel
theorem d_Rk_word_0_1 : decode b_Rk_word_0 1 = .ok (.getfield 7, 3) := by decide +kernel
theorem d_Rk_word_0_4 : decode b_Rk_word_0 4 = .ok (.getfield 17, 3) := by decide +kernel
theorem d_Rk_word_0_7 : decode b_Rk_word_0 7 = .ok (.bipush (6), 2) := by decide +kernel
theorem d_Rk_word_0_9 : decode b_Rk_word_0 9 = .ok (.aaload, 1) := by decide +kernel
theorem d_Rk_word_0_10 : decode b_Rk_word_0 10 = .ok (.iconst 0, 1) := by decide +kernel
theorem d_Rk_word_0_11 : decode b_Rk_word_0 11 = .ok (.invokevirtual 23, 3) := by decide +kernel
theorem d_Rk_word_0_14 : decode b_Rk_word_0 14 = .ok (.istore_n 2, 1) := by decide +kernel
theorem d_Rk_word_0_15 : decode b_Rk_word_0 15 = .ok (.aload_n 0, 1) := by decide +kernel
theorem d_Rk_word_0_16 : decode b_Rk_word_0 16 = .ok (.getfield 13, 3) := by decide +kernel
theorem d_Rk_word_0_19 : decode b_Rk_word_0 19 = .ok (.tableswitch (138) (1) (15) #[73, 138, 138, 138, 138, 138, 138, 138, 75, 93, 111, 113, 118, 130, 135], 73) := by decide +kernel
theorem d_Rk_word_0_92 : decode b_Rk_word_0 92 = .ok (.iconst 1, 1) := by decide +kernel
theorem d_Rk_word_0_93 : decode b_Rk_word_0 93 = .ok (.ireturn, 1) := by decide +kernel
theorem d_Rk_word_0_94 : decode b_Rk_word_0 94 = .ok (.iload_n 2, 1) := by decide +kernel
theorem d_Rk_word_0_95 : decode b_Rk_word_0 95 = .ok (.aload_n 0, 1) := by decide +kernel
theorem d_Rk_word_0_96 : decode b_Rk_word_0 96 = .ok (.getfield 7, 3) := by decide +kernel
theorem d_Rk_word_0_99 : decode b_Rk_word_0 99 = .ok (.getfield 17, 3) := by decide +kernel
theorem d_Rk_word_0_102 : decode b_Rk_word_0 102 = .ok (.bipush (7), 2) := by decide +kernel
theorem d_Rk_word_0_104 : decode b_Rk_word_0 104 = .ok (.aaload, 1) := by decide +kernel
theorem d_Rk_word_0_105 : decode b_Rk_word_0 105 = .ok (.iconst 0, 1) := by decide +kernel
theorem d_Rk_word_0_106 : decode b_Rk_word_0 106 = .ok (.invokevirtual 23, 3) := by decide +kernel
theorem d_Rk_word_0_109 : decode b_Rk_word_0 109 = .ok (.iand, 1) := by decide +kernel
theorem d_Rk_word_0_110 : decode b_Rk_word_0 110 = .ok (.i2s, 1) := by decide +kernel
theorem d_Rk_word_0_111 : decode b_Rk_word_0 111 = .ok (.ireturn, 1) := by decide +kernel
theorem d_Rk_word_0_112 : decode b_Rk_word_0 112 = .ok (.iload_n 2, 1) := by decide +kernel
theorem d_Rk_word_0_113 : decode b_Rk_word_0 113 = .ok (.aload_n 0, 1) := by decide +kernel
theorem d_Rk_word_0_114 : decode b_Rk_word_0 114 = .ok (.getfield 7, 3) := by decide +kernel
theorem d_Rk_word_0_117 : decode b_Rk_word_0 117 = .ok (.getfield 17, 3) := by decide +kernel
theorem d_Rk_word_0_120 : decode b_Rk_word_0 120 = .ok (.bipush (7), 2) := by decide +kernel
theorem d_Rk_word_0_122 : decode b_Rk_word_0 122 = .ok (.aaload, 1) := by decide +kernel
theorem d_Rk_word_0_123 : decode b_Rk_word_0 123 = .ok (.iconst 0, 1) := by decide +kernel
theorem d_Rk_word_0_124 : decode b_Rk_word_0 124 = .ok (.invokevirtual 23, 3) := by decide +kernel
theorem d_Rk_word_0_127 : decode b_Rk_word_0 127 = .ok (.ixor, 1) := by decide +kernel
theorem d_Rk_word_0_128 : decode b_Rk_word_0 128 = .ok (.i2s, 1) := by decide +kernel
theorem d_Rk_word_0_129 : decode b_Rk_word_0 129 = .ok (.ireturn, 1) := by decide +kernel
theorem d_Rk_word_0_130 : decode b_Rk_word_0 130 = .ok (.iconst (-1), 1) := by decide +kernel
theorem d_Rk_word_0_131 : decode b_Rk_word_0 131 = .ok (.ireturn, 1) := by decide +kernel
theorem d_Rk_word_0_132 : decode b_Rk_word_0 132 = .ok (.iload_n 2, 1) := by decide +kernel
theorem d_Rk_word_0_133 : decode b_Rk_word_0 133 = .ok (.iconst 1, 1) := by decide +kernel
theorem d_Rk_word_0_134 : decode b_Rk_word_0 134 = .ok (.ishr, 1) := by decide +kernel
theorem d_Rk_word_0_135 : decode b_Rk_word_0 135 = .ok (.i2s, 1) := by decide +kernel
theorem d_Rk_word_0_136 : decode b_Rk_word_0 136 = .ok (.ireturn, 1) := by decide +kernel
theorem d_Rk_word_0_137 : decode b_Rk_word_0 137 = .ok (.aload_n 0, 1) := by decide +kernel
theorem d_Rk_word_0_138 : decode b_Rk_word_0 138 = .ok (.getfield 7, 3) := by decide +kernel
theorem d_Rk_word_0_141 : decode b_Rk_word_0 141 = .ok (.getfield 29, 3) := by decide +kernel
theorem d_Rk_word_0_144 : decode b_Rk_word_0 144 = .ok (.iload_n 1, 1) := by decide +kernel
theorem d_Rk_word_0_145 : decode b_Rk_word_0 145 = .ok (.invokevirtual 33, 3) := by decide +kernel
theorem d_Rk_word_0_148 : decode b_Rk_word_0 148 = .ok (.ireturn, 1) := by decide +kernel
theorem d_Rk_word_0_149 : decode b_Rk_word_0 149 = .ok (.iload_n 2, 1) := by decide +kernel
theorem d_Rk_word_0_150 : decode b_Rk_word_0 150 = .ok (.iconst (-1), 1) := by decide +kernel
theorem d_Rk_word_0_151 : decode b_Rk_word_0 151 = .ok (.ixor, 1) := by decide +kernel
theorem d_Rk_word_0_152 : decode b_Rk_word_0 152 = .ok (.i2s, 1) := by decide +kernel
theorem d_Rk_word_0_153 : decode b_Rk_word_0 153 = .ok (.ireturn, 1) := by decide +kernel
theorem d_Rk_word_0_154 : decode b_Rk_word_0 154 = .ok (.iload_n 1, 1) := by decide +kernel
theorem d_Rk_word_0_155 : decode b_Rk_word_0 155 = .ok (.i2s, 1) := by decide +kernel
theorem d_Rk_word_0_156 : decode b_Rk_word_0 156 = .ok (.ireturn, 1) := by decide +kernel
theorem d_Rk_word_0_157 : decode b_Rk_word_0 157 = .ok (.iconst 0, 1) := by decide +kernel
theorem d_Rk_word_0_158 : decode b_Rk_word_0 158 = .ok (.ireturn, 1) := by decide +kernel
theorem hd_Rk_word_0 : y_Rk_word_0.cls ≠ "java/lang/invoke/MethodHandle" ∧ y_Rk_word_0.cls ≠ "java/lang/invoke/VarHandle" ∧ (parseMethodDescriptor y_Rk_word_0.desc).map (fun d => d.parameters.length) = some 1 := by decide +kernel
abbrev rm_Rk_word_0 : Room := { frames := 2, cells := 0, slots := 0, locals := 44 }
def F_Rk_word_0 (x1 : Int32)  (v : Nat → Int32) (f : Nat → Nat → Int32) (w : Nat → Nat) : Option (Int32 × (Nat → Int32) × (Nat → Nat → Int32) × (Nat → Nat)) := (Option.bind (F_Li_at_6 (0 : Int32) v f w) (fun z1 => (some ((0 : Int32), v, f, w))))
set_option maxHeartbeats 4000000 in
set_option maxRecDepth 100000 in
theorem c_Rk_word_0 (l : Launch) (G : dm_G) (g h : Nat → Nat) (x1 : Int32) (v : Nat → Int32) (f : Nat → Nat → Int32) (w : Nat → Nat) (RES : Int32 × (Nat → Int32) × (Nat → Nat → Int32) × (Nat → Nat)) (hF : F_Rk_word_0 x1 v f w = some RES) : dm_Ct l y_Rk_word_0 b_Rk_word_0 3 (some .short) rm_Rk_word_0 G (mw G g h v f w) [.ref (g 40), .int x1] (fun ov w' => ov = some (.int RES.1) ∧ w' = (mw G g h RES.2.1 RES.2.2.1 RES.2.2.2)) := by
  refine dm_Ct.of (by decide +kernel) (Nat.le_of_ble_eq_true rfl) ?_
  intro p e s m below meth c A ls B hl hP hD hS
  have hx := B.1
  have hb := B.2.1
  have hl : lv_has ls 3 [(0, .ref (g 40)), (1, .int x1)] := hl
  have hF : (Option.bind (F_Li_at_6 (0 : Int32) v f w) (fun z1 => (some ((0 : Int32), v, f, w)))) = some RES := hF
  refine lv_aload_n hx hb d_Rk_word_0_0 rfl (lv_at hl 0 rfl) ?_
  refine mw_g_32_0 B hP k_229 d_Rk_word_0_1 ?_
  refine mw_gn_0_1 B hP k_116 d_Rk_word_0_4 ?_
  refine lv_bipush (v := (6 : Int32)) hx hb d_Rk_word_0_7 (by decide) ?_
  refine dm_aald (v := .ref (g 16)) B hP 2 3 rfl rfl (by unfold vp_in; decide) rfl d_Rk_word_0_9 ?_
  refine lv_iconst (v := (0 : Int32)) hx hb d_Rk_word_0_10 (by decide) ?_
  obtain ⟨z1, hcz1, hF⟩ := dm_bind hF
  refine dm_callVw B [.int (0 : Int32)] (c_Li_at_6 l G g h (0 : Int32) v f w z1 hcz1) k_410 k_401 k_402 k_6 k_403 hd_Li_at_6 rfl ⟨by decide, by decide⟩ 19 rfl rfl hP hD hS hl.1 (rest := []) rfl (Nat.le_of_ble_eq_true rfl) d_Rk_word_0_11 ⟨by decide, by decide⟩ (fun ov w' H locs hq hP hD hS => ?_)
  obtain ⟨rfl, rfl⟩ := hq
  have hP : va_P G.1 dm_cl (mw G g h v f w) H := hP
  have hD : va_D A (mw G g h v f w) := hD
  refine W.eq (g2 := F0 m 14 ls [.int z1]) rfl ?_
  refine lv_istore_n (lv' := [(2, .int z1), (0, .ref (g 40)), (1, .int x1)]) hx hb d_Rk_word_0_14 rfl hl (Nat.le_of_ble_eq_true rfl) rfl (fun ls hl => ?_)
  have hl : lv_has ls 3 [(0, .ref (g 40)), (1, .int x1), (2, .int z1)] := lv_sub hl [1, 2, 0] rfl
  refine lv_aload_n hx hb d_Rk_word_0_15 rfl (lv_at hl 0 rfl) ?_
  refine mw_g_32_1 B hP k_230 d_Rk_word_0_16 ?_
  refine lv_tableOut (tgt := 157) hx hb d_Rk_word_0_19 (by decide) (by decide) ?_
  refine lv_iconst (v := (0 : Int32)) hx hb d_Rk_word_0_157 (by decide) ?_
  have hF := Option.some.inj hF
  subst hF
  exact dm_ret B (by decide) d_Rk_word_0_158 (by decide) (by decide) hP hD hS ⟨rfl, rfl⟩
abbrev b_Do_take_0 : ByteArray := prog_4_method_2_code
abbrev y_Do_take_0 : MethodName := { cls := "DelayMachine$Done", name := "take", desc := "(IS)V" }
theorem d_Do_take_0_0 : decode b_Do_take_0 0 = .ok (.aload_n 0, 1) := by decide +kernel
theorem d_Do_take_0_1 : decode b_Do_take_0 1 = .ok (.getfield 7, 3) := by decide +kernel
theorem d_Do_take_0_4 : decode b_Do_take_0 4 = .ok (.getfield 17, 3) := by decide +kernel
theorem d_Do_take_0_7 : decode b_Do_take_0 7 = .ok (.bipush (6), 2) := by decide +kernel
theorem d_Do_take_0_9 : decode b_Do_take_0 9 = .ok (.aaload, 1) := by decide +kernel
theorem d_Do_take_0_10 : decode b_Do_take_0 10 = .ok (.astore_n 3, 1) := by decide +kernel
theorem d_Do_take_0_11 : decode b_Do_take_0 11 = .ok (.aload_n 0, 1) := by decide +kernel
theorem d_Do_take_0_12 : decode b_Do_take_0 12 = .ok (.getfield 13, 3) := by decide +kernel
theorem d_Do_take_0_15 : decode b_Do_take_0 15 = .ok (.tableswitch (237) (1) (15) #[73, 237, 237, 237, 237, 237, 237, 237, 84, 100, 116, 131, 146, 200, 225], 73) := by decide +kernel
theorem d_Do_take_0_88 : decode b_Do_take_0 88 = .ok (.aload_n 0, 1) := by decide +kernel
theorem d_Do_take_0_89 : decode b_Do_take_0 89 = .ok (.getfield 7, 3) := by decide +kernel
theorem d_Do_take_0_92 : decode b_Do_take_0 92 = .ok (.iconst 0, 1) := by decide +kernel
theorem d_Do_take_0_93 : decode b_Do_take_0 93 = .ok (.putfield 23, 3) := by decide +kernel
theorem d_Do_take_0_96 : decode b_Do_take_0 96 = .ok (.goto (156), 3) := by decide +kernel
theorem d_Do_take_0_99 : decode b_Do_take_0 99 = .ok (.aload_n 3, 1) := by decide +kernel
theorem d_Do_take_0_100 : decode b_Do_take_0 100 = .ok (.iconst 0, 1) := by decide +kernel
theorem d_Do_take_0_101 : decode b_Do_take_0 101 = .ok (.aload_n 3, 1) := by decide +kernel
theorem d_Do_take_0_102 : decode b_Do_take_0 102 = .ok (.iconst 0, 1) := by decide +kernel
theorem d_Do_take_0_103 : decode b_Do_take_0 103 = .ok (.invokevirtual 27, 3) := by decide +kernel
theorem d_Do_take_0_106 : decode b_Do_take_0 106 = .ok (.iload_n 2, 1) := by decide +kernel
theorem d_Do_take_0_107 : decode b_Do_take_0 107 = .ok (.iadd, 1) := by decide +kernel
theorem d_Do_take_0_108 : decode b_Do_take_0 108 = .ok (.i2s, 1) := by decide +kernel
theorem d_Do_take_0_109 : decode b_Do_take_0 109 = .ok (.invokevirtual 33, 3) := by decide +kernel
theorem d_Do_take_0_112 : decode b_Do_take_0 112 = .ok (.goto (140), 3) := by decide +kernel
theorem d_Do_take_0_115 : decode b_Do_take_0 115 = .ok (.aload_n 3, 1) := by decide +kernel
theorem d_Do_take_0_116 : decode b_Do_take_0 116 = .ok (.iconst 0, 1) := by decide +kernel
theorem d_Do_take_0_117 : decode b_Do_take_0 117 = .ok (.aload_n 3, 1) := by decide +kernel
theorem d_Do_take_0_118 : decode b_Do_take_0 118 = .ok (.iconst 0, 1) := by decide +kernel
theorem d_Do_take_0_119 : decode b_Do_take_0 119 = .ok (.invokevirtual 27, 3) := by decide +kernel
theorem d_Do_take_0_122 : decode b_Do_take_0 122 = .ok (.iload_n 2, 1) := by decide +kernel
theorem d_Do_take_0_123 : decode b_Do_take_0 123 = .ok (.isub, 1) := by decide +kernel
theorem d_Do_take_0_124 : decode b_Do_take_0 124 = .ok (.i2s, 1) := by decide +kernel
theorem d_Do_take_0_125 : decode b_Do_take_0 125 = .ok (.invokevirtual 33, 3) := by decide +kernel
theorem d_Do_take_0_128 : decode b_Do_take_0 128 = .ok (.goto (124), 3) := by decide +kernel
theorem d_Do_take_0_131 : decode b_Do_take_0 131 = .ok (.iload_n 2, 1) := by decide +kernel
theorem d_Do_take_0_132 : decode b_Do_take_0 132 = .ok (.ifCond .ge (120), 3) := by decide +kernel
theorem d_Do_take_0_135 : decode b_Do_take_0 135 = .ok (.aload_n 0, 1) := by decide +kernel
theorem d_Do_take_0_136 : decode b_Do_take_0 136 = .ok (.getfield 7, 3) := by decide +kernel
theorem d_Do_take_0_139 : decode b_Do_take_0 139 = .ok (.iconst 1, 1) := by decide +kernel
theorem d_Do_take_0_140 : decode b_Do_take_0 140 = .ok (.putfield 37, 3) := by decide +kernel
theorem d_Do_take_0_143 : decode b_Do_take_0 143 = .ok (.goto (109), 3) := by decide +kernel
theorem d_Do_take_0_146 : decode b_Do_take_0 146 = .ok (.iload_n 2, 1) := by decide +kernel
theorem d_Do_take_0_147 : decode b_Do_take_0 147 = .ok (.ifCond .eq (105), 3) := by decide +kernel
theorem d_Do_take_0_150 : decode b_Do_take_0 150 = .ok (.aload_n 0, 1) := by decide +kernel
theorem d_Do_take_0_151 : decode b_Do_take_0 151 = .ok (.getfield 7, 3) := by decide +kernel
theorem d_Do_take_0_154 : decode b_Do_take_0 154 = .ok (.iconst 1, 1) := by decide +kernel
theorem d_Do_take_0_155 : decode b_Do_take_0 155 = .ok (.putfield 37, 3) := by decide +kernel
theorem d_Do_take_0_158 : decode b_Do_take_0 158 = .ok (.goto (94), 3) := by decide +kernel
theorem d_Do_take_0_161 : decode b_Do_take_0 161 = .ok (.aload_n 0, 1) := by decide +kernel
theorem d_Do_take_0_162 : decode b_Do_take_0 162 = .ok (.getfield 7, 3) := by decide +kernel
theorem d_Do_take_0_165 : decode b_Do_take_0 165 = .ok (.getfield 40, 3) := by decide +kernel
theorem d_Do_take_0_168 : decode b_Do_take_0 168 = .ok (.iload_n 2, 1) := by decide +kernel
theorem d_Do_take_0_169 : decode b_Do_take_0 169 = .ok (.invokevirtual 44, 3) := by decide +kernel
theorem d_Do_take_0_172 : decode b_Do_take_0 172 = .ok (.aload_n 0, 1) := by decide +kernel
theorem d_Do_take_0_173 : decode b_Do_take_0 173 = .ok (.getfield 7, 3) := by decide +kernel
theorem d_Do_take_0_176 : decode b_Do_take_0 176 = .ok (.getfield 17, 3) := by decide +kernel
theorem d_Do_take_0_179 : decode b_Do_take_0 179 = .ok (.bipush (8), 2) := by decide +kernel
theorem d_Do_take_0_181 : decode b_Do_take_0 181 = .ok (.aaload, 1) := by decide +kernel
theorem d_Do_take_0_182 : decode b_Do_take_0 182 = .ok (.getfield 50, 3) := by decide +kernel
theorem d_Do_take_0_185 : decode b_Do_take_0 185 = .ok (.iconst 0, 1) := by decide +kernel
theorem d_Do_take_0_186 : decode b_Do_take_0 186 = .ok (.iconst 0, 1) := by decide +kernel
theorem d_Do_take_0_187 : decode b_Do_take_0 187 = .ok (.sastore, 1) := by decide +kernel
theorem d_Do_take_0_188 : decode b_Do_take_0 188 = .ok (.aload_n 0, 1) := by decide +kernel
theorem d_Do_take_0_189 : decode b_Do_take_0 189 = .ok (.getfield 7, 3) := by decide +kernel
theorem d_Do_take_0_192 : decode b_Do_take_0 192 = .ok (.getfield 17, 3) := by decide +kernel
theorem d_Do_take_0_195 : decode b_Do_take_0 195 = .ok (.bipush (8), 2) := by decide +kernel
theorem d_Do_take_0_197 : decode b_Do_take_0 197 = .ok (.aaload, 1) := by decide +kernel
theorem d_Do_take_0_198 : decode b_Do_take_0 198 = .ok (.getfield 50, 3) := by decide +kernel
theorem d_Do_take_0_201 : decode b_Do_take_0 201 = .ok (.iconst 1, 1) := by decide +kernel
theorem d_Do_take_0_202 : decode b_Do_take_0 202 = .ok (.iconst 0, 1) := by decide +kernel
theorem d_Do_take_0_203 : decode b_Do_take_0 203 = .ok (.sastore, 1) := by decide +kernel
theorem d_Do_take_0_204 : decode b_Do_take_0 204 = .ok (.aload_n 0, 1) := by decide +kernel
theorem d_Do_take_0_205 : decode b_Do_take_0 205 = .ok (.getfield 7, 3) := by decide +kernel
theorem d_Do_take_0_208 : decode b_Do_take_0 208 = .ok (.iconst 1, 1) := by decide +kernel
theorem d_Do_take_0_209 : decode b_Do_take_0 209 = .ok (.putfield 54, 3) := by decide +kernel
theorem d_Do_take_0_212 : decode b_Do_take_0 212 = .ok (.goto (40), 3) := by decide +kernel
theorem d_Do_take_0_215 : decode b_Do_take_0 215 = .ok (.aload_n 0, 1) := by decide +kernel
theorem d_Do_take_0_216 : decode b_Do_take_0 216 = .ok (.getfield 7, 3) := by decide +kernel
theorem d_Do_take_0_219 : decode b_Do_take_0 219 = .ok (.getfield 57, 3) := by decide +kernel
theorem d_Do_take_0_222 : decode b_Do_take_0 222 = .ok (.iload_n 1, 1) := by decide +kernel
theorem d_Do_take_0_223 : decode b_Do_take_0 223 = .ok (.invokevirtual 61, 3) := by decide +kernel
theorem d_Do_take_0_226 : decode b_Do_take_0 226 = .ok (.ifCond .ne (26), 3) := by decide +kernel
theorem d_Do_take_0_229 : decode b_Do_take_0 229 = .ok (.aload_n 0, 1) := by decide +kernel
theorem d_Do_take_0_230 : decode b_Do_take_0 230 = .ok (.getfield 7, 3) := by decide +kernel
theorem d_Do_take_0_233 : decode b_Do_take_0 233 = .ok (.iconst 2, 1) := by decide +kernel
theorem d_Do_take_0_234 : decode b_Do_take_0 234 = .ok (.invokevirtual 67, 3) := by decide +kernel
theorem d_Do_take_0_237 : decode b_Do_take_0 237 = .ok (.goto (15), 3) := by decide +kernel
theorem d_Do_take_0_240 : decode b_Do_take_0 240 = .ok (.aload_n 0, 1) := by decide +kernel
theorem d_Do_take_0_241 : decode b_Do_take_0 241 = .ok (.getfield 7, 3) := by decide +kernel
theorem d_Do_take_0_244 : decode b_Do_take_0 244 = .ok (.iload_n 1, 1) := by decide +kernel
theorem d_Do_take_0_245 : decode b_Do_take_0 245 = .ok (.iload_n 2, 1) := by decide +kernel
theorem d_Do_take_0_246 : decode b_Do_take_0 246 = .ok (.invokevirtual 71, 3) := by decide +kernel
theorem d_Do_take_0_249 : decode b_Do_take_0 249 = .ok (.goto (3), 3) := by decide +kernel
theorem d_Do_take_0_252 : decode b_Do_take_0 252 = .ok (.return_, 1) := by decide +kernel
theorem hd_Do_take_0 : y_Do_take_0.cls ≠ "java/lang/invoke/MethodHandle" ∧ y_Do_take_0.cls ≠ "java/lang/invoke/VarHandle" ∧ (parseMethodDescriptor y_Do_take_0.desc).map (fun d => d.parameters.length) = some 2 := by decide +kernel
abbrev rm_Do_take_0 : Room := { frames := 2, cells := 0, slots := 0, locals := 43 }
def F_Do_take_0 (x1 x2 : Int32)  (v : Nat → Int32) (f : Nat → Nat → Int32) (w : Nat → Nat) : Option ((Nat → Int32) × (Nat → Nat → Int32) × (Nat → Nat)) := (some (v, f, w))
set_option maxHeartbeats 4000000 in
set_option maxRecDepth 100000 in
theorem c_Do_take_0 (l : Launch) (G : dm_G) (g h : Nat → Nat) (x1 x2 : Int32) (v : Nat → Int32) (f : Nat → Nat → Int32) (w : Nat → Nat) (RES : (Nat → Int32) × (Nat → Nat → Int32) × (Nat → Nat)) (hF : F_Do_take_0 x1 x2 v f w = some RES) : dm_Ct l y_Do_take_0 b_Do_take_0 4 none rm_Do_take_0 G (mw G g h v f w) [.ref (g 60), .int x1, .int x2] (fun ov w' => ov = none ∧ w' = (mw G g h RES.1 RES.2.1 RES.2.2)) := by
  refine dm_Ct.of (by decide +kernel) (Nat.le_of_ble_eq_true rfl) ?_
  intro p e s m below meth c A ls B hl hP hD hS
  have hx := B.1
  have hb := B.2.1
  have hl : lv_has ls 4 [(0, .ref (g 60)), (1, .int x1), (2, .int x2)] := hl
  have hF : (some (v, f, w)) = some RES := hF
  refine lv_aload_n hx hb d_Do_take_0_0 rfl (lv_at hl 0 rfl) ?_
  refine mw_g_41_0 B hP k_242 d_Do_take_0_1 ?_
  refine mw_gn_0_1 B hP k_117 d_Do_take_0_4 ?_
  refine lv_bipush (v := (6 : Int32)) hx hb d_Do_take_0_7 (by decide) ?_
  refine dm_aald (v := .ref (g 16)) B hP 2 3 rfl rfl (by unfold vp_in; decide) rfl d_Do_take_0_9 ?_
  refine lv_astore_n (lv' := [(3, .ref (g 16)), (0, .ref (g 60)), (1, .int x1), (2, .int x2)]) hx hb d_Do_take_0_10 rfl hl (Nat.le_of_ble_eq_true rfl) rfl (fun ls hl => ?_)
  have hl : lv_has ls 4 [(0, .ref (g 60)), (1, .int x1), (2, .int x2), (3, .ref (g 16))] := lv_sub hl [1, 2, 3, 0] rfl
  refine lv_aload_n hx hb d_Do_take_0_11 rfl (lv_at hl 0 rfl) ?_
  refine mw_g_41_1 B hP k_243 d_Do_take_0_12 ?_
  refine lv_tableOut (tgt := 252) hx hb d_Do_take_0_15 (by decide) (by decide) ?_
  have hF := Option.some.inj hF
  subst hF
  exact dm_retv B d_Do_take_0_252 (by decide) (by decide) hP hD hS ⟨rfl, rfl⟩
abbrev b_Rk_word_1 : ByteArray := prog_11_method_2_code
abbrev y_Rk_word_1 : MethodName := { cls := "DelayMachine$Reckoned", name := "word", desc := "(I)S" }
theorem hd_Rk_word_1 : y_Rk_word_1.cls ≠ "java/lang/invoke/MethodHandle" ∧ y_Rk_word_1.cls ≠ "java/lang/invoke/VarHandle" ∧ (parseMethodDescriptor y_Rk_word_1.desc).map (fun d => d.parameters.length) = some 1 := by decide +kernel
abbrev rm_Rk_word_1 : Room := { frames := 2, cells := 0, slots := 0, locals := 44 }
def F_Rk_word_1 (x1 : Int32)  (v : Nat → Int32) (f : Nat → Nat → Int32) (w : Nat → Nat) : Option (Int32 × (Nat → Int32) × (Nat → Nat → Int32) × (Nat → Nat)) := (Option.bind (F_Li_at_6 (0 : Int32) v f w) (fun z1 => (some ((1 : Int32), v, f, w))))
set_option maxHeartbeats 4000000 in
set_option maxRecDepth 100000 in
theorem c_Rk_word_1 (l : Launch) (G : dm_G) (g h : Nat → Nat) (x1 : Int32) (v : Nat → Int32) (f : Nat → Nat → Int32) (w : Nat → Nat) (RES : Int32 × (Nat → Int32) × (Nat → Nat → Int32) × (Nat → Nat)) (hF : F_Rk_word_1 x1 v f w = some RES) : dm_Ct l y_Rk_word_1 b_Rk_word_1 3 (some .short) rm_Rk_word_1 G (mw G g h v f w) [.ref (g 41), .int x1] (fun ov w' => ov = some (.int RES.1) ∧ w' = (mw G g h RES.2.1 RES.2.2.1 RES.2.2.2)) := by
  refine dm_Ct.of (by decide +kernel) (Nat.le_of_ble_eq_true rfl) ?_
  intro p e s m below meth c A ls B hl hP hD hS
  have hx := B.1
  have hb := B.2.1
  have hl : lv_has ls 3 [(0, .ref (g 41)), (1, .int x1)] := hl
  have hF : (Option.bind (F_Li_at_6 (0 : Int32) v f w) (fun z1 => (some ((1 : Int32), v, f, w)))) = some RES := hF
  refine lv_aload_n hx hb d_Rk_word_0_0 rfl (lv_at hl 0 rfl) ?_
  refine mw_g_33_0 B hP k_229 d_Rk_word_0_1 ?_
  refine mw_gn_0_1 B hP k_116 d_Rk_word_0_4 ?_
  refine lv_bipush (v := (6 : Int32)) hx hb d_Rk_word_0_7 (by decide) ?_
  refine dm_aald (v := .ref (g 16)) B hP 2 3 rfl rfl (by unfold vp_in; decide) rfl d_Rk_word_0_9 ?_
  refine lv_iconst (v := (0 : Int32)) hx hb d_Rk_word_0_10 (by decide) ?_
  obtain ⟨z1, hcz1, hF⟩ := dm_bind hF
  refine dm_callVw B [.int (0 : Int32)] (c_Li_at_6 l G g h (0 : Int32) v f w z1 hcz1) k_410 k_401 k_402 k_6 k_403 hd_Li_at_6 rfl ⟨by decide, by decide⟩ 19 rfl rfl hP hD hS hl.1 (rest := []) rfl (Nat.le_of_ble_eq_true rfl) d_Rk_word_0_11 ⟨by decide, by decide⟩ (fun ov w' H locs hq hP hD hS => ?_)
  obtain ⟨rfl, rfl⟩ := hq
  have hP : va_P G.1 dm_cl (mw G g h v f w) H := hP
  have hD : va_D A (mw G g h v f w) := hD
  refine W.eq (g2 := F0 m 14 ls [.int z1]) rfl ?_
  refine lv_istore_n (lv' := [(2, .int z1), (0, .ref (g 41)), (1, .int x1)]) hx hb d_Rk_word_0_14 rfl hl (Nat.le_of_ble_eq_true rfl) rfl (fun ls hl => ?_)
  have hl : lv_has ls 3 [(0, .ref (g 41)), (1, .int x1), (2, .int z1)] := lv_sub hl [1, 2, 0] rfl
  refine lv_aload_n hx hb d_Rk_word_0_15 rfl (lv_at hl 0 rfl) ?_
  refine mw_g_33_1 B hP k_230 d_Rk_word_0_16 ?_
  refine lv_tableIn (off := 73) (tgt := 92) hx hb d_Rk_word_0_19 (by decide) (by decide) rfl (by decide) ?_
  refine lv_iconst (v := (1 : Int32)) hx hb d_Rk_word_0_92 (by decide) ?_
  have hF := Option.some.inj hF
  subst hF
  exact dm_ret B (by decide) d_Rk_word_0_93 (by decide) (by decide) hP hD hS ⟨rfl, rfl⟩
abbrev b_Do_take_1 : ByteArray := prog_4_method_2_code
abbrev y_Do_take_1 : MethodName := { cls := "DelayMachine$Done", name := "take", desc := "(IS)V" }
theorem hd_Do_take_1 : y_Do_take_1.cls ≠ "java/lang/invoke/MethodHandle" ∧ y_Do_take_1.cls ≠ "java/lang/invoke/VarHandle" ∧ (parseMethodDescriptor y_Do_take_1.desc).map (fun d => d.parameters.length) = some 2 := by decide +kernel
abbrev rm_Do_take_1 : Room := { frames := 2, cells := 0, slots := 0, locals := 43 }
def F_Do_take_1 (x1 x2 : Int32)  (v : Nat → Int32) (f : Nat → Nat → Int32) (w : Nat → Nat) : Option ((Nat → Int32) × (Nat → Nat → Int32) × (Nat → Nat)) := (some ((va_up v 9 (0 : Int32)), f, w))
set_option maxHeartbeats 4000000 in
set_option maxRecDepth 100000 in
theorem c_Do_take_1 (l : Launch) (G : dm_G) (g h : Nat → Nat) (x1 x2 : Int32) (v : Nat → Int32) (f : Nat → Nat → Int32) (w : Nat → Nat) (RES : (Nat → Int32) × (Nat → Nat → Int32) × (Nat → Nat)) (hF : F_Do_take_1 x1 x2 v f w = some RES) : dm_Ct l y_Do_take_1 b_Do_take_1 4 none rm_Do_take_1 G (mw G g h v f w) [.ref (g 61), .int x1, .int x2] (fun ov w' => ov = none ∧ w' = (mw G g h RES.1 RES.2.1 RES.2.2)) := by
  refine dm_Ct.of (by decide +kernel) (Nat.le_of_ble_eq_true rfl) ?_
  intro p e s m below meth c A ls B hl hP hD hS
  have hx := B.1
  have hb := B.2.1
  have hl : lv_has ls 4 [(0, .ref (g 61)), (1, .int x1), (2, .int x2)] := hl
  have hF : (some ((va_up v 9 (0 : Int32)), f, w)) = some RES := hF
  refine lv_aload_n hx hb d_Do_take_0_0 rfl (lv_at hl 0 rfl) ?_
  refine mw_g_42_0 B hP k_242 d_Do_take_0_1 ?_
  refine mw_gn_0_1 B hP k_117 d_Do_take_0_4 ?_
  refine lv_bipush (v := (6 : Int32)) hx hb d_Do_take_0_7 (by decide) ?_
  refine dm_aald (v := .ref (g 16)) B hP 2 3 rfl rfl (by unfold vp_in; decide) rfl d_Do_take_0_9 ?_
  refine lv_astore_n (lv' := [(3, .ref (g 16)), (0, .ref (g 61)), (1, .int x1), (2, .int x2)]) hx hb d_Do_take_0_10 rfl hl (Nat.le_of_ble_eq_true rfl) rfl (fun ls hl => ?_)
  have hl : lv_has ls 4 [(0, .ref (g 61)), (1, .int x1), (2, .int x2), (3, .ref (g 16))] := lv_sub hl [1, 2, 3, 0] rfl
  refine lv_aload_n hx hb d_Do_take_0_11 rfl (lv_at hl 0 rfl) ?_
  refine mw_g_42_1 B hP k_243 d_Do_take_0_12 ?_
  refine lv_tableIn (off := 73) (tgt := 88) hx hb d_Do_take_0_15 (by decide) (by decide) rfl (by decide) ?_
  refine lv_aload_n hx hb d_Do_take_0_88 rfl (lv_at hl 0 rfl) ?_
  refine mw_g_42_0 B hP k_242 d_Do_take_0_89 ?_
  refine lv_iconst (v := (0 : Int32)) hx hb d_Do_take_0_92 (by decide) ?_
  refine mw_pn_0_9 (x := (0 : Int32)) B hP hD hS (by decide) k_132 d_Do_take_0_93 (fun H locs hP hD hS => ?_)
  refine lv_goto (tgt := 252) hx hb d_Do_take_0_96 (by decide) ?_
  have hF := Option.some.inj hF
  subst hF
  exact dm_retv B d_Do_take_0_252 (by decide) (by decide) hP hD hS ⟨rfl, rfl⟩
abbrev b_Rk_word_9 : ByteArray := prog_11_method_2_code
abbrev y_Rk_word_9 : MethodName := { cls := "DelayMachine$Reckoned", name := "word", desc := "(I)S" }
theorem hd_Rk_word_9 : y_Rk_word_9.cls ≠ "java/lang/invoke/MethodHandle" ∧ y_Rk_word_9.cls ≠ "java/lang/invoke/VarHandle" ∧ (parseMethodDescriptor y_Rk_word_9.desc).map (fun d => d.parameters.length) = some 1 := by decide +kernel
abbrev rm_Rk_word_9 : Room := { frames := 2, cells := 0, slots := 0, locals := 44 }
def F_Rk_word_9 (x1 : Int32)  (v : Nat → Int32) (f : Nat → Nat → Int32) (w : Nat → Nat) : Option (Int32 × (Nat → Int32) × (Nat → Nat → Int32) × (Nat → Nat)) := (Option.bind (F_Li_at_6 (0 : Int32) v f w) (fun z1 => (Option.bind (F_Li_at_7 (0 : Int32) v f w) (fun z2 => (some ((z1 &&& z2).toInt16.toInt32, v, f, w))))))
set_option maxHeartbeats 4000000 in
set_option maxRecDepth 100000 in
theorem c_Rk_word_9 (l : Launch) (G : dm_G) (g h : Nat → Nat) (x1 : Int32) (v : Nat → Int32) (f : Nat → Nat → Int32) (w : Nat → Nat) (RES : Int32 × (Nat → Int32) × (Nat → Nat → Int32) × (Nat → Nat)) (hF : F_Rk_word_9 x1 v f w = some RES) : dm_Ct l y_Rk_word_9 b_Rk_word_9 3 (some .short) rm_Rk_word_9 G (mw G g h v f w) [.ref (g 49), .int x1] (fun ov w' => ov = some (.int RES.1) ∧ w' = (mw G g h RES.2.1 RES.2.2.1 RES.2.2.2)) := by
  refine dm_Ct.of (by decide +kernel) (Nat.le_of_ble_eq_true rfl) ?_
  intro p e s m below meth c A ls B hl hP hD hS
  have hx := B.1
  have hb := B.2.1
  have hl : lv_has ls 3 [(0, .ref (g 49)), (1, .int x1)] := hl
  have hF : (Option.bind (F_Li_at_6 (0 : Int32) v f w) (fun z1 => (Option.bind (F_Li_at_7 (0 : Int32) v f w) (fun z2 => (some ((z1 &&& z2).toInt16.toInt32, v, f, w)))))) = some RES := hF
  refine lv_aload_n hx hb d_Rk_word_0_0 rfl (lv_at hl 0 rfl) ?_
  refine mw_g_34_0 B hP k_229 d_Rk_word_0_1 ?_
  refine mw_gn_0_1 B hP k_116 d_Rk_word_0_4 ?_
  refine lv_bipush (v := (6 : Int32)) hx hb d_Rk_word_0_7 (by decide) ?_
  refine dm_aald (v := .ref (g 16)) B hP 2 3 rfl rfl (by unfold vp_in; decide) rfl d_Rk_word_0_9 ?_
  refine lv_iconst (v := (0 : Int32)) hx hb d_Rk_word_0_10 (by decide) ?_
  obtain ⟨z1, hcz1, hF⟩ := dm_bind hF
  refine dm_callVw B [.int (0 : Int32)] (c_Li_at_6 l G g h (0 : Int32) v f w z1 hcz1) k_410 k_401 k_402 k_6 k_403 hd_Li_at_6 rfl ⟨by decide, by decide⟩ 19 rfl rfl hP hD hS hl.1 (rest := []) rfl (Nat.le_of_ble_eq_true rfl) d_Rk_word_0_11 ⟨by decide, by decide⟩ (fun ov w' H locs hq hP hD hS => ?_)
  obtain ⟨rfl, rfl⟩ := hq
  have hP : va_P G.1 dm_cl (mw G g h v f w) H := hP
  have hD : va_D A (mw G g h v f w) := hD
  refine W.eq (g2 := F0 m 14 ls [.int z1]) rfl ?_
  refine lv_istore_n (lv' := [(2, .int z1), (0, .ref (g 49)), (1, .int x1)]) hx hb d_Rk_word_0_14 rfl hl (Nat.le_of_ble_eq_true rfl) rfl (fun ls hl => ?_)
  have hl : lv_has ls 3 [(0, .ref (g 49)), (1, .int x1), (2, .int z1)] := lv_sub hl [1, 2, 0] rfl
  refine lv_aload_n hx hb d_Rk_word_0_15 rfl (lv_at hl 0 rfl) ?_
  refine mw_g_34_1 B hP k_230 d_Rk_word_0_16 ?_
  refine lv_tableIn (off := 75) (tgt := 94) hx hb d_Rk_word_0_19 (by decide) (by decide) rfl (by decide) ?_
  refine lv_iload_n hx hb d_Rk_word_0_94 rfl (lv_at hl 2 rfl) ?_
  refine lv_aload_n hx hb d_Rk_word_0_95 rfl (lv_at hl 0 rfl) ?_
  refine mw_g_34_0 B hP k_229 d_Rk_word_0_96 ?_
  refine mw_gn_0_1 B hP k_116 d_Rk_word_0_99 ?_
  refine lv_bipush (v := (7 : Int32)) hx hb d_Rk_word_0_102 (by decide) ?_
  refine dm_aald (v := .ref (g 17)) B hP 2 3 rfl rfl (by unfold vp_in; decide) rfl d_Rk_word_0_104 ?_
  refine lv_iconst (v := (0 : Int32)) hx hb d_Rk_word_0_105 (by decide) ?_
  obtain ⟨z2, hcz2, hF⟩ := dm_bind hF
  refine dm_callVw B [.int (0 : Int32)] (c_Li_at_7 l G g h (0 : Int32) v f w z2 hcz2) k_410 k_401 k_402 k_6 k_403 hd_Li_at_7 rfl ⟨by decide, by decide⟩ 21 rfl rfl hP hD hS hl.1 (rest := [.int z1]) rfl (Nat.le_of_ble_eq_true rfl) d_Rk_word_0_106 ⟨by decide, by decide⟩ (fun ov w' H locs hq hP hD hS => ?_)
  obtain ⟨rfl, rfl⟩ := hq
  have hP : va_P G.1 dm_cl (mw G g h v f w) H := hP
  have hD : va_D A (mw G g h v f w) := hD
  refine W.eq (g2 := F0 m 109 ls [.int z2, .int z1]) rfl ?_
  refine lv_iand hx hb d_Rk_word_0_109 ?_
  refine lv_i2s (v := (z1 &&& z2).toInt16.toInt32) hx hb d_Rk_word_0_110 rfl ?_
  have hF := Option.some.inj hF
  subst hF
  exact dm_ret B (pk_ns _) d_Rk_word_0_111 (by decide) (by decide) hP hD hS ⟨rfl, rfl⟩
abbrev b_Do_take_9 : ByteArray := prog_4_method_2_code
abbrev y_Do_take_9 : MethodName := { cls := "DelayMachine$Done", name := "take", desc := "(IS)V" }
theorem hd_Do_take_9 : y_Do_take_9.cls ≠ "java/lang/invoke/MethodHandle" ∧ y_Do_take_9.cls ≠ "java/lang/invoke/VarHandle" ∧ (parseMethodDescriptor y_Do_take_9.desc).map (fun d => d.parameters.length) = some 2 := by decide +kernel
abbrev rm_Do_take_9 : Room := { frames := 2, cells := 0, slots := 0, locals := 43 }
def F_Do_take_9 (x1 x2 : Int32)  (v : Nat → Int32) (f : Nat → Nat → Int32) (w : Nat → Nat) : Option ((Nat → Int32) × (Nat → Nat → Int32) × (Nat → Nat)) := (Option.bind (F_Li_at_6 (0 : Int32) v f w) (fun z1 => (Option.bind (F_Li_put_6 (0 : Int32) (z1 + x2).toInt16.toInt32 v f w) (fun z2 => (some (z2.1, z2.2.1, z2.2.2))))))
set_option maxHeartbeats 4000000 in
set_option maxRecDepth 100000 in
theorem c_Do_take_9 (l : Launch) (G : dm_G) (g h : Nat → Nat) (x1 x2 : Int32) (v : Nat → Int32) (f : Nat → Nat → Int32) (w : Nat → Nat) (RES : (Nat → Int32) × (Nat → Nat → Int32) × (Nat → Nat)) (hF : F_Do_take_9 x1 x2 v f w = some RES) : dm_Ct l y_Do_take_9 b_Do_take_9 4 none rm_Do_take_9 G (mw G g h v f w) [.ref (g 69), .int x1, .int x2] (fun ov w' => ov = none ∧ w' = (mw G g h RES.1 RES.2.1 RES.2.2)) := by
  refine dm_Ct.of (by decide +kernel) (Nat.le_of_ble_eq_true rfl) ?_
  intro p e s m below meth c A ls B hl hP hD hS
  have hx := B.1
  have hb := B.2.1
  have hl : lv_has ls 4 [(0, .ref (g 69)), (1, .int x1), (2, .int x2)] := hl
  have hF : (Option.bind (F_Li_at_6 (0 : Int32) v f w) (fun z1 => (Option.bind (F_Li_put_6 (0 : Int32) (z1 + x2).toInt16.toInt32 v f w) (fun z2 => (some (z2.1, z2.2.1, z2.2.2)))))) = some RES := hF
  refine lv_aload_n hx hb d_Do_take_0_0 rfl (lv_at hl 0 rfl) ?_
  refine mw_g_43_0 B hP k_242 d_Do_take_0_1 ?_
  refine mw_gn_0_1 B hP k_117 d_Do_take_0_4 ?_
  refine lv_bipush (v := (6 : Int32)) hx hb d_Do_take_0_7 (by decide) ?_
  refine dm_aald (v := .ref (g 16)) B hP 2 3 rfl rfl (by unfold vp_in; decide) rfl d_Do_take_0_9 ?_
  refine lv_astore_n (lv' := [(3, .ref (g 16)), (0, .ref (g 69)), (1, .int x1), (2, .int x2)]) hx hb d_Do_take_0_10 rfl hl (Nat.le_of_ble_eq_true rfl) rfl (fun ls hl => ?_)
  have hl : lv_has ls 4 [(0, .ref (g 69)), (1, .int x1), (2, .int x2), (3, .ref (g 16))] := lv_sub hl [1, 2, 3, 0] rfl
  refine lv_aload_n hx hb d_Do_take_0_11 rfl (lv_at hl 0 rfl) ?_
  refine mw_g_43_1 B hP k_243 d_Do_take_0_12 ?_
  refine lv_tableIn (off := 84) (tgt := 99) hx hb d_Do_take_0_15 (by decide) (by decide) rfl (by decide) ?_
  refine lv_aload_n hx hb d_Do_take_0_99 rfl (lv_at hl 3 rfl) ?_
  refine lv_iconst (v := (0 : Int32)) hx hb d_Do_take_0_100 (by decide) ?_
  refine lv_aload_n hx hb d_Do_take_0_101 rfl (lv_at hl 3 rfl) ?_
  refine lv_iconst (v := (0 : Int32)) hx hb d_Do_take_0_102 (by decide) ?_
  obtain ⟨z1, hcz1, hF⟩ := dm_bind hF
  refine dm_callVw B [.int (0 : Int32)] (c_Li_at_6 l G g h (0 : Int32) v f w z1 hcz1) k_429 k_401 k_402 k_6 k_403 hd_Li_at_6 rfl ⟨by decide, by decide⟩ 19 rfl rfl hP hD hS hl.1 (rest := [.int (0 : Int32), .ref (g 16)]) rfl (Nat.le_of_ble_eq_true rfl) d_Do_take_0_103 ⟨by decide, by decide⟩ (fun ov w' H locs hq hP hD hS => ?_)
  obtain ⟨rfl, rfl⟩ := hq
  have hP : va_P G.1 dm_cl (mw G g h v f w) H := hP
  have hD : va_D A (mw G g h v f w) := hD
  refine W.eq (g2 := F0 m 106 ls [.int z1, .int (0 : Int32), .ref (g 16)]) rfl ?_
  refine lv_iload_n hx hb d_Do_take_0_106 rfl (lv_at hl 2 rfl) ?_
  refine lv_iadd hx hb d_Do_take_0_107 ?_
  refine lv_i2s (v := (z1 + x2).toInt16.toInt32) hx hb d_Do_take_0_108 rfl ?_
  obtain ⟨z2, hcz2, hF⟩ := dm_bind hF
  refine dm_callVw B [.int (0 : Int32), .int (z1 + x2).toInt16.toInt32] (c_Li_put_6 l G g h (0 : Int32) (z1 + x2).toInt16.toInt32 v f w z2 hcz2) k_430 k_431 k_432 k_6 k_433 hd_Li_put_6 rfl ⟨by decide, by decide⟩ 19 rfl rfl hP hD hS hl.1 (rest := []) rfl (Nat.le_of_ble_eq_true rfl) d_Do_take_0_109 ⟨by decide, by decide⟩ (fun ov w' H locs hq hP hD hS => ?_)
  obtain ⟨rfl, rfl⟩ := hq
  have hP : va_P G.1 dm_cl (mw G g h z2.1 z2.2.1 z2.2.2) H := hP
  have hD : va_D A (mw G g h z2.1 z2.2.1 z2.2.2) := hD
  refine W.eq (g2 := F0 m 112 ls []) rfl ?_
  refine lv_goto (tgt := 252) hx hb d_Do_take_0_112 (by decide) ?_
  have hF := Option.some.inj hF
  subst hF
  exact dm_retv B d_Do_take_0_252 (by decide) (by decide) hP hD hS ⟨rfl, rfl⟩
abbrev b_Rk_word_10 : ByteArray := prog_11_method_2_code
abbrev y_Rk_word_10 : MethodName := { cls := "DelayMachine$Reckoned", name := "word", desc := "(I)S" }
theorem hd_Rk_word_10 : y_Rk_word_10.cls ≠ "java/lang/invoke/MethodHandle" ∧ y_Rk_word_10.cls ≠ "java/lang/invoke/VarHandle" ∧ (parseMethodDescriptor y_Rk_word_10.desc).map (fun d => d.parameters.length) = some 1 := by decide +kernel
abbrev rm_Rk_word_10 : Room := { frames := 2, cells := 0, slots := 0, locals := 44 }
def F_Rk_word_10 (x1 : Int32)  (v : Nat → Int32) (f : Nat → Nat → Int32) (w : Nat → Nat) : Option (Int32 × (Nat → Int32) × (Nat → Nat → Int32) × (Nat → Nat)) := (Option.bind (F_Li_at_6 (0 : Int32) v f w) (fun z1 => (Option.bind (F_Li_at_7 (0 : Int32) v f w) (fun z2 => (some ((z1 ^^^ z2).toInt16.toInt32, v, f, w))))))
set_option maxHeartbeats 4000000 in
set_option maxRecDepth 100000 in
theorem c_Rk_word_10 (l : Launch) (G : dm_G) (g h : Nat → Nat) (x1 : Int32) (v : Nat → Int32) (f : Nat → Nat → Int32) (w : Nat → Nat) (RES : Int32 × (Nat → Int32) × (Nat → Nat → Int32) × (Nat → Nat)) (hF : F_Rk_word_10 x1 v f w = some RES) : dm_Ct l y_Rk_word_10 b_Rk_word_10 3 (some .short) rm_Rk_word_10 G (mw G g h v f w) [.ref (g 50), .int x1] (fun ov w' => ov = some (.int RES.1) ∧ w' = (mw G g h RES.2.1 RES.2.2.1 RES.2.2.2)) := by
  refine dm_Ct.of (by decide +kernel) (Nat.le_of_ble_eq_true rfl) ?_
  intro p e s m below meth c A ls B hl hP hD hS
  have hx := B.1
  have hb := B.2.1
  have hl : lv_has ls 3 [(0, .ref (g 50)), (1, .int x1)] := hl
  have hF : (Option.bind (F_Li_at_6 (0 : Int32) v f w) (fun z1 => (Option.bind (F_Li_at_7 (0 : Int32) v f w) (fun z2 => (some ((z1 ^^^ z2).toInt16.toInt32, v, f, w)))))) = some RES := hF
  refine lv_aload_n hx hb d_Rk_word_0_0 rfl (lv_at hl 0 rfl) ?_
  refine mw_g_35_0 B hP k_229 d_Rk_word_0_1 ?_
  refine mw_gn_0_1 B hP k_116 d_Rk_word_0_4 ?_
  refine lv_bipush (v := (6 : Int32)) hx hb d_Rk_word_0_7 (by decide) ?_
  refine dm_aald (v := .ref (g 16)) B hP 2 3 rfl rfl (by unfold vp_in; decide) rfl d_Rk_word_0_9 ?_
  refine lv_iconst (v := (0 : Int32)) hx hb d_Rk_word_0_10 (by decide) ?_
  obtain ⟨z1, hcz1, hF⟩ := dm_bind hF
  refine dm_callVw B [.int (0 : Int32)] (c_Li_at_6 l G g h (0 : Int32) v f w z1 hcz1) k_410 k_401 k_402 k_6 k_403 hd_Li_at_6 rfl ⟨by decide, by decide⟩ 19 rfl rfl hP hD hS hl.1 (rest := []) rfl (Nat.le_of_ble_eq_true rfl) d_Rk_word_0_11 ⟨by decide, by decide⟩ (fun ov w' H locs hq hP hD hS => ?_)
  obtain ⟨rfl, rfl⟩ := hq
  have hP : va_P G.1 dm_cl (mw G g h v f w) H := hP
  have hD : va_D A (mw G g h v f w) := hD
  refine W.eq (g2 := F0 m 14 ls [.int z1]) rfl ?_
  refine lv_istore_n (lv' := [(2, .int z1), (0, .ref (g 50)), (1, .int x1)]) hx hb d_Rk_word_0_14 rfl hl (Nat.le_of_ble_eq_true rfl) rfl (fun ls hl => ?_)
  have hl : lv_has ls 3 [(0, .ref (g 50)), (1, .int x1), (2, .int z1)] := lv_sub hl [1, 2, 0] rfl
  refine lv_aload_n hx hb d_Rk_word_0_15 rfl (lv_at hl 0 rfl) ?_
  refine mw_g_35_1 B hP k_230 d_Rk_word_0_16 ?_
  refine lv_tableIn (off := 93) (tgt := 112) hx hb d_Rk_word_0_19 (by decide) (by decide) rfl (by decide) ?_
  refine lv_iload_n hx hb d_Rk_word_0_112 rfl (lv_at hl 2 rfl) ?_
  refine lv_aload_n hx hb d_Rk_word_0_113 rfl (lv_at hl 0 rfl) ?_
  refine mw_g_35_0 B hP k_229 d_Rk_word_0_114 ?_
  refine mw_gn_0_1 B hP k_116 d_Rk_word_0_117 ?_
  refine lv_bipush (v := (7 : Int32)) hx hb d_Rk_word_0_120 (by decide) ?_
  refine dm_aald (v := .ref (g 17)) B hP 2 3 rfl rfl (by unfold vp_in; decide) rfl d_Rk_word_0_122 ?_
  refine lv_iconst (v := (0 : Int32)) hx hb d_Rk_word_0_123 (by decide) ?_
  obtain ⟨z2, hcz2, hF⟩ := dm_bind hF
  refine dm_callVw B [.int (0 : Int32)] (c_Li_at_7 l G g h (0 : Int32) v f w z2 hcz2) k_410 k_401 k_402 k_6 k_403 hd_Li_at_7 rfl ⟨by decide, by decide⟩ 21 rfl rfl hP hD hS hl.1 (rest := [.int z1]) rfl (Nat.le_of_ble_eq_true rfl) d_Rk_word_0_124 ⟨by decide, by decide⟩ (fun ov w' H locs hq hP hD hS => ?_)
  obtain ⟨rfl, rfl⟩ := hq
  have hP : va_P G.1 dm_cl (mw G g h v f w) H := hP
  have hD : va_D A (mw G g h v f w) := hD
  refine W.eq (g2 := F0 m 127 ls [.int z2, .int z1]) rfl ?_
  refine lv_ixor hx hb d_Rk_word_0_127 ?_
  refine lv_i2s (v := (z1 ^^^ z2).toInt16.toInt32) hx hb d_Rk_word_0_128 rfl ?_
  have hF := Option.some.inj hF
  subst hF
  exact dm_ret B (pk_ns _) d_Rk_word_0_129 (by decide) (by decide) hP hD hS ⟨rfl, rfl⟩
abbrev b_Do_take_10 : ByteArray := prog_4_method_2_code
abbrev y_Do_take_10 : MethodName := { cls := "DelayMachine$Done", name := "take", desc := "(IS)V" }
theorem hd_Do_take_10 : y_Do_take_10.cls ≠ "java/lang/invoke/MethodHandle" ∧ y_Do_take_10.cls ≠ "java/lang/invoke/VarHandle" ∧ (parseMethodDescriptor y_Do_take_10.desc).map (fun d => d.parameters.length) = some 2 := by decide +kernel
abbrev rm_Do_take_10 : Room := { frames := 2, cells := 0, slots := 0, locals := 43 }
def F_Do_take_10 (x1 x2 : Int32)  (v : Nat → Int32) (f : Nat → Nat → Int32) (w : Nat → Nat) : Option ((Nat → Int32) × (Nat → Nat → Int32) × (Nat → Nat)) := (Option.bind (F_Li_at_6 (0 : Int32) v f w) (fun z1 => (Option.bind (F_Li_put_6 (0 : Int32) (z1 - x2).toInt16.toInt32 v f w) (fun z2 => (some (z2.1, z2.2.1, z2.2.2))))))
set_option maxHeartbeats 4000000 in
set_option maxRecDepth 100000 in
theorem c_Do_take_10 (l : Launch) (G : dm_G) (g h : Nat → Nat) (x1 x2 : Int32) (v : Nat → Int32) (f : Nat → Nat → Int32) (w : Nat → Nat) (RES : (Nat → Int32) × (Nat → Nat → Int32) × (Nat → Nat)) (hF : F_Do_take_10 x1 x2 v f w = some RES) : dm_Ct l y_Do_take_10 b_Do_take_10 4 none rm_Do_take_10 G (mw G g h v f w) [.ref (g 70), .int x1, .int x2] (fun ov w' => ov = none ∧ w' = (mw G g h RES.1 RES.2.1 RES.2.2)) := by
  refine dm_Ct.of (by decide +kernel) (Nat.le_of_ble_eq_true rfl) ?_
  intro p e s m below meth c A ls B hl hP hD hS
  have hx := B.1
  have hb := B.2.1
  have hl : lv_has ls 4 [(0, .ref (g 70)), (1, .int x1), (2, .int x2)] := hl
  have hF : (Option.bind (F_Li_at_6 (0 : Int32) v f w) (fun z1 => (Option.bind (F_Li_put_6 (0 : Int32) (z1 - x2).toInt16.toInt32 v f w) (fun z2 => (some (z2.1, z2.2.1, z2.2.2)))))) = some RES := hF
  refine lv_aload_n hx hb d_Do_take_0_0 rfl (lv_at hl 0 rfl) ?_
  refine mw_g_44_0 B hP k_242 d_Do_take_0_1 ?_
  refine mw_gn_0_1 B hP k_117 d_Do_take_0_4 ?_
  refine lv_bipush (v := (6 : Int32)) hx hb d_Do_take_0_7 (by decide) ?_
  refine dm_aald (v := .ref (g 16)) B hP 2 3 rfl rfl (by unfold vp_in; decide) rfl d_Do_take_0_9 ?_
  refine lv_astore_n (lv' := [(3, .ref (g 16)), (0, .ref (g 70)), (1, .int x1), (2, .int x2)]) hx hb d_Do_take_0_10 rfl hl (Nat.le_of_ble_eq_true rfl) rfl (fun ls hl => ?_)
  have hl : lv_has ls 4 [(0, .ref (g 70)), (1, .int x1), (2, .int x2), (3, .ref (g 16))] := lv_sub hl [1, 2, 3, 0] rfl
  refine lv_aload_n hx hb d_Do_take_0_11 rfl (lv_at hl 0 rfl) ?_
  refine mw_g_44_1 B hP k_243 d_Do_take_0_12 ?_
  refine lv_tableIn (off := 100) (tgt := 115) hx hb d_Do_take_0_15 (by decide) (by decide) rfl (by decide) ?_
  refine lv_aload_n hx hb d_Do_take_0_115 rfl (lv_at hl 3 rfl) ?_
  refine lv_iconst (v := (0 : Int32)) hx hb d_Do_take_0_116 (by decide) ?_
  refine lv_aload_n hx hb d_Do_take_0_117 rfl (lv_at hl 3 rfl) ?_
  refine lv_iconst (v := (0 : Int32)) hx hb d_Do_take_0_118 (by decide) ?_
  obtain ⟨z1, hcz1, hF⟩ := dm_bind hF
  refine dm_callVw B [.int (0 : Int32)] (c_Li_at_6 l G g h (0 : Int32) v f w z1 hcz1) k_429 k_401 k_402 k_6 k_403 hd_Li_at_6 rfl ⟨by decide, by decide⟩ 19 rfl rfl hP hD hS hl.1 (rest := [.int (0 : Int32), .ref (g 16)]) rfl (Nat.le_of_ble_eq_true rfl) d_Do_take_0_119 ⟨by decide, by decide⟩ (fun ov w' H locs hq hP hD hS => ?_)
  obtain ⟨rfl, rfl⟩ := hq
  have hP : va_P G.1 dm_cl (mw G g h v f w) H := hP
  have hD : va_D A (mw G g h v f w) := hD
  refine W.eq (g2 := F0 m 122 ls [.int z1, .int (0 : Int32), .ref (g 16)]) rfl ?_
  refine lv_iload_n hx hb d_Do_take_0_122 rfl (lv_at hl 2 rfl) ?_
  refine lv_isub hx hb d_Do_take_0_123 ?_
  refine lv_i2s (v := (z1 - x2).toInt16.toInt32) hx hb d_Do_take_0_124 rfl ?_
  obtain ⟨z2, hcz2, hF⟩ := dm_bind hF
  refine dm_callVw B [.int (0 : Int32), .int (z1 - x2).toInt16.toInt32] (c_Li_put_6 l G g h (0 : Int32) (z1 - x2).toInt16.toInt32 v f w z2 hcz2) k_430 k_431 k_432 k_6 k_433 hd_Li_put_6 rfl ⟨by decide, by decide⟩ 19 rfl rfl hP hD hS hl.1 (rest := []) rfl (Nat.le_of_ble_eq_true rfl) d_Do_take_0_125 ⟨by decide, by decide⟩ (fun ov w' H locs hq hP hD hS => ?_)
  obtain ⟨rfl, rfl⟩ := hq
  have hP : va_P G.1 dm_cl (mw G g h z2.1 z2.2.1 z2.2.2) H := hP
  have hD : va_D A (mw G g h z2.1 z2.2.1 z2.2.2) := hD
  refine W.eq (g2 := F0 m 128 ls []) rfl ?_
  refine lv_goto (tgt := 252) hx hb d_Do_take_0_128 (by decide) ?_
  have hF := Option.some.inj hF
  subst hF
  exact dm_retv B d_Do_take_0_252 (by decide) (by decide) hP hD hS ⟨rfl, rfl⟩
abbrev b_Rk_word_11 : ByteArray := prog_11_method_2_code
abbrev y_Rk_word_11 : MethodName := { cls := "DelayMachine$Reckoned", name := "word", desc := "(I)S" }
theorem hd_Rk_word_11 : y_Rk_word_11.cls ≠ "java/lang/invoke/MethodHandle" ∧ y_Rk_word_11.cls ≠ "java/lang/invoke/VarHandle" ∧ (parseMethodDescriptor y_Rk_word_11.desc).map (fun d => d.parameters.length) = some 1 := by decide +kernel
abbrev rm_Rk_word_11 : Room := { frames := 2, cells := 0, slots := 0, locals := 44 }
def F_Rk_word_11 (x1 : Int32)  (v : Nat → Int32) (f : Nat → Nat → Int32) (w : Nat → Nat) : Option (Int32 × (Nat → Int32) × (Nat → Nat → Int32) × (Nat → Nat)) := (Option.bind (F_Li_at_6 (0 : Int32) v f w) (fun z1 => (some ((-1 : Int32), v, f, w))))
set_option maxHeartbeats 4000000 in
set_option maxRecDepth 100000 in
theorem c_Rk_word_11 (l : Launch) (G : dm_G) (g h : Nat → Nat) (x1 : Int32) (v : Nat → Int32) (f : Nat → Nat → Int32) (w : Nat → Nat) (RES : Int32 × (Nat → Int32) × (Nat → Nat → Int32) × (Nat → Nat)) (hF : F_Rk_word_11 x1 v f w = some RES) : dm_Ct l y_Rk_word_11 b_Rk_word_11 3 (some .short) rm_Rk_word_11 G (mw G g h v f w) [.ref (g 51), .int x1] (fun ov w' => ov = some (.int RES.1) ∧ w' = (mw G g h RES.2.1 RES.2.2.1 RES.2.2.2)) := by
  refine dm_Ct.of (by decide +kernel) (Nat.le_of_ble_eq_true rfl) ?_
  intro p e s m below meth c A ls B hl hP hD hS
  have hx := B.1
  have hb := B.2.1
  have hl : lv_has ls 3 [(0, .ref (g 51)), (1, .int x1)] := hl
  have hF : (Option.bind (F_Li_at_6 (0 : Int32) v f w) (fun z1 => (some ((-1 : Int32), v, f, w)))) = some RES := hF
  refine lv_aload_n hx hb d_Rk_word_0_0 rfl (lv_at hl 0 rfl) ?_
  refine mw_g_36_0 B hP k_229 d_Rk_word_0_1 ?_
  refine mw_gn_0_1 B hP k_116 d_Rk_word_0_4 ?_
  refine lv_bipush (v := (6 : Int32)) hx hb d_Rk_word_0_7 (by decide) ?_
  refine dm_aald (v := .ref (g 16)) B hP 2 3 rfl rfl (by unfold vp_in; decide) rfl d_Rk_word_0_9 ?_
  refine lv_iconst (v := (0 : Int32)) hx hb d_Rk_word_0_10 (by decide) ?_
  obtain ⟨z1, hcz1, hF⟩ := dm_bind hF
  refine dm_callVw B [.int (0 : Int32)] (c_Li_at_6 l G g h (0 : Int32) v f w z1 hcz1) k_410 k_401 k_402 k_6 k_403 hd_Li_at_6 rfl ⟨by decide, by decide⟩ 19 rfl rfl hP hD hS hl.1 (rest := []) rfl (Nat.le_of_ble_eq_true rfl) d_Rk_word_0_11 ⟨by decide, by decide⟩ (fun ov w' H locs hq hP hD hS => ?_)
  obtain ⟨rfl, rfl⟩ := hq
  have hP : va_P G.1 dm_cl (mw G g h v f w) H := hP
  have hD : va_D A (mw G g h v f w) := hD
  refine W.eq (g2 := F0 m 14 ls [.int z1]) rfl ?_
  refine lv_istore_n (lv' := [(2, .int z1), (0, .ref (g 51)), (1, .int x1)]) hx hb d_Rk_word_0_14 rfl hl (Nat.le_of_ble_eq_true rfl) rfl (fun ls hl => ?_)
  have hl : lv_has ls 3 [(0, .ref (g 51)), (1, .int x1), (2, .int z1)] := lv_sub hl [1, 2, 0] rfl
  refine lv_aload_n hx hb d_Rk_word_0_15 rfl (lv_at hl 0 rfl) ?_
  refine mw_g_36_1 B hP k_230 d_Rk_word_0_16 ?_
  refine lv_tableIn (off := 111) (tgt := 130) hx hb d_Rk_word_0_19 (by decide) (by decide) rfl (by decide) ?_
  refine lv_iconst (v := (-1 : Int32)) hx hb d_Rk_word_0_130 (by decide) ?_
  have hF := Option.some.inj hF
  subst hF
  exact dm_ret B (by decide) d_Rk_word_0_131 (by decide) (by decide) hP hD hS ⟨rfl, rfl⟩
abbrev b_Do_take_11 : ByteArray := prog_4_method_2_code
abbrev y_Do_take_11 : MethodName := { cls := "DelayMachine$Done", name := "take", desc := "(IS)V" }
theorem hd_Do_take_11 : y_Do_take_11.cls ≠ "java/lang/invoke/MethodHandle" ∧ y_Do_take_11.cls ≠ "java/lang/invoke/VarHandle" ∧ (parseMethodDescriptor y_Do_take_11.desc).map (fun d => d.parameters.length) = some 2 := by decide +kernel
abbrev rm_Do_take_11 : Room := { frames := 2, cells := 0, slots := 0, locals := 43 }
def F_Do_take_11 (x1 x2 : Int32)  (v : Nat → Int32) (f : Nat → Nat → Int32) (w : Nat → Nat) : Option ((Nat → Int32) × (Nat → Nat → Int32) × (Nat → Nat)) := (if (0 : Int32) ≤ x2 then (some (v, f, w)) else (some ((va_up v 13 (1 : Int32)), f, w)))
set_option maxHeartbeats 4000000 in
set_option maxRecDepth 100000 in
theorem c_Do_take_11 (l : Launch) (G : dm_G) (g h : Nat → Nat) (x1 x2 : Int32) (v : Nat → Int32) (f : Nat → Nat → Int32) (w : Nat → Nat) (RES : (Nat → Int32) × (Nat → Nat → Int32) × (Nat → Nat)) (hF : F_Do_take_11 x1 x2 v f w = some RES) : dm_Ct l y_Do_take_11 b_Do_take_11 4 none rm_Do_take_11 G (mw G g h v f w) [.ref (g 71), .int x1, .int x2] (fun ov w' => ov = none ∧ w' = (mw G g h RES.1 RES.2.1 RES.2.2)) := by
  refine dm_Ct.of (by decide +kernel) (Nat.le_of_ble_eq_true rfl) ?_
  intro p e s m below meth c A ls B hl hP hD hS
  have hx := B.1
  have hb := B.2.1
  have hl : lv_has ls 4 [(0, .ref (g 71)), (1, .int x1), (2, .int x2)] := hl
  have hF : (if (0 : Int32) ≤ x2 then (some (v, f, w)) else (some ((va_up v 13 (1 : Int32)), f, w))) = some RES := hF
  refine lv_aload_n hx hb d_Do_take_0_0 rfl (lv_at hl 0 rfl) ?_
  refine mw_g_45_0 B hP k_242 d_Do_take_0_1 ?_
  refine mw_gn_0_1 B hP k_117 d_Do_take_0_4 ?_
  refine lv_bipush (v := (6 : Int32)) hx hb d_Do_take_0_7 (by decide) ?_
  refine dm_aald (v := .ref (g 16)) B hP 2 3 rfl rfl (by unfold vp_in; decide) rfl d_Do_take_0_9 ?_
  refine lv_astore_n (lv' := [(3, .ref (g 16)), (0, .ref (g 71)), (1, .int x1), (2, .int x2)]) hx hb d_Do_take_0_10 rfl hl (Nat.le_of_ble_eq_true rfl) rfl (fun ls hl => ?_)
  have hl : lv_has ls 4 [(0, .ref (g 71)), (1, .int x1), (2, .int x2), (3, .ref (g 16))] := lv_sub hl [1, 2, 3, 0] rfl
  refine lv_aload_n hx hb d_Do_take_0_11 rfl (lv_at hl 0 rfl) ?_
  refine mw_g_45_1 B hP k_243 d_Do_take_0_12 ?_
  refine lv_tableIn (off := 116) (tgt := 131) hx hb d_Do_take_0_15 (by decide) (by decide) rfl (by decide) ?_
  refine lv_iload_n hx hb d_Do_take_0_131 rfl (lv_at hl 2 rfl) ?_
  refine lv_if_ge (tgt := 252) hx hb d_Do_take_0_132 (by decide) (fun (hh : (0 : Int32) ≤ x2) => ?_) (fun (hh : ¬ (0 : Int32) ≤ x2) => ?_)
  · rw [if_pos hh] at hF
    have hF := Option.some.inj hF
    subst hF
    exact dm_retv B d_Do_take_0_252 (by decide) (by decide) hP hD hS ⟨rfl, rfl⟩
  · rw [if_neg hh] at hF
    refine lv_aload_n hx hb d_Do_take_0_135 rfl (lv_at hl 0 rfl) ?_
    refine mw_g_45_0 B hP k_242 d_Do_take_0_136 ?_
    refine lv_iconst (v := (1 : Int32)) hx hb d_Do_take_0_139 (by decide) ?_
    refine mw_pn_0_13 (x := (1 : Int32)) B hP hD hS (by decide) k_139 d_Do_take_0_140 (fun H locs hP hD hS => ?_)
    refine lv_goto (tgt := 252) hx hb d_Do_take_0_143 (by decide) ?_
    have hF := Option.some.inj hF
    subst hF
    exact dm_retv B d_Do_take_0_252 (by decide) (by decide) hP hD hS ⟨rfl, rfl⟩
abbrev b_Rk_word_12 : ByteArray := prog_11_method_2_code
abbrev y_Rk_word_12 : MethodName := { cls := "DelayMachine$Reckoned", name := "word", desc := "(I)S" }
theorem hd_Rk_word_12 : y_Rk_word_12.cls ≠ "java/lang/invoke/MethodHandle" ∧ y_Rk_word_12.cls ≠ "java/lang/invoke/VarHandle" ∧ (parseMethodDescriptor y_Rk_word_12.desc).map (fun d => d.parameters.length) = some 1 := by decide +kernel
abbrev rm_Rk_word_12 : Room := { frames := 2, cells := 0, slots := 0, locals := 44 }
def F_Rk_word_12 (x1 : Int32)  (v : Nat → Int32) (f : Nat → Nat → Int32) (w : Nat → Nat) : Option (Int32 × (Nat → Int32) × (Nat → Nat → Int32) × (Nat → Nat)) := (Option.bind (F_Li_at_6 (0 : Int32) v f w) (fun z1 => (some ((z1 >>> ((1 : Int32) &&& 31)).toInt16.toInt32, v, f, w))))
set_option maxHeartbeats 4000000 in
set_option maxRecDepth 100000 in
theorem c_Rk_word_12 (l : Launch) (G : dm_G) (g h : Nat → Nat) (x1 : Int32) (v : Nat → Int32) (f : Nat → Nat → Int32) (w : Nat → Nat) (RES : Int32 × (Nat → Int32) × (Nat → Nat → Int32) × (Nat → Nat)) (hF : F_Rk_word_12 x1 v f w = some RES) : dm_Ct l y_Rk_word_12 b_Rk_word_12 3 (some .short) rm_Rk_word_12 G (mw G g h v f w) [.ref (g 52), .int x1] (fun ov w' => ov = some (.int RES.1) ∧ w' = (mw G g h RES.2.1 RES.2.2.1 RES.2.2.2)) := by
  refine dm_Ct.of (by decide +kernel) (Nat.le_of_ble_eq_true rfl) ?_
  intro p e s m below meth c A ls B hl hP hD hS
  have hx := B.1
  have hb := B.2.1
  have hl : lv_has ls 3 [(0, .ref (g 52)), (1, .int x1)] := hl
  have hF : (Option.bind (F_Li_at_6 (0 : Int32) v f w) (fun z1 => (some ((z1 >>> ((1 : Int32) &&& 31)).toInt16.toInt32, v, f, w)))) = some RES := hF
  refine lv_aload_n hx hb d_Rk_word_0_0 rfl (lv_at hl 0 rfl) ?_
  refine mw_g_37_0 B hP k_229 d_Rk_word_0_1 ?_
  refine mw_gn_0_1 B hP k_116 d_Rk_word_0_4 ?_
  refine lv_bipush (v := (6 : Int32)) hx hb d_Rk_word_0_7 (by decide) ?_
  refine dm_aald (v := .ref (g 16)) B hP 2 3 rfl rfl (by unfold vp_in; decide) rfl d_Rk_word_0_9 ?_
  refine lv_iconst (v := (0 : Int32)) hx hb d_Rk_word_0_10 (by decide) ?_
  obtain ⟨z1, hcz1, hF⟩ := dm_bind hF
  refine dm_callVw B [.int (0 : Int32)] (c_Li_at_6 l G g h (0 : Int32) v f w z1 hcz1) k_410 k_401 k_402 k_6 k_403 hd_Li_at_6 rfl ⟨by decide, by decide⟩ 19 rfl rfl hP hD hS hl.1 (rest := []) rfl (Nat.le_of_ble_eq_true rfl) d_Rk_word_0_11 ⟨by decide, by decide⟩ (fun ov w' H locs hq hP hD hS => ?_)
  obtain ⟨rfl, rfl⟩ := hq
  have hP : va_P G.1 dm_cl (mw G g h v f w) H := hP
  have hD : va_D A (mw G g h v f w) := hD
  refine W.eq (g2 := F0 m 14 ls [.int z1]) rfl ?_
  refine lv_istore_n (lv' := [(2, .int z1), (0, .ref (g 52)), (1, .int x1)]) hx hb d_Rk_word_0_14 rfl hl (Nat.le_of_ble_eq_true rfl) rfl (fun ls hl => ?_)
  have hl : lv_has ls 3 [(0, .ref (g 52)), (1, .int x1), (2, .int z1)] := lv_sub hl [1, 2, 0] rfl
  refine lv_aload_n hx hb d_Rk_word_0_15 rfl (lv_at hl 0 rfl) ?_
  refine mw_g_37_1 B hP k_230 d_Rk_word_0_16 ?_
  refine lv_tableIn (off := 113) (tgt := 132) hx hb d_Rk_word_0_19 (by decide) (by decide) rfl (by decide) ?_
  refine lv_iload_n hx hb d_Rk_word_0_132 rfl (lv_at hl 2 rfl) ?_
  refine lv_iconst (v := (1 : Int32)) hx hb d_Rk_word_0_133 (by decide) ?_
  refine lv_ishr hx hb d_Rk_word_0_134 ?_
  refine lv_i2s (v := (z1 >>> ((1 : Int32) &&& 31)).toInt16.toInt32) hx hb d_Rk_word_0_135 rfl ?_
  have hF := Option.some.inj hF
  subst hF
  exact dm_ret B (pk_ns _) d_Rk_word_0_136 (by decide) (by decide) hP hD hS ⟨rfl, rfl⟩
abbrev b_Do_take_12 : ByteArray := prog_4_method_2_code
abbrev y_Do_take_12 : MethodName := { cls := "DelayMachine$Done", name := "take", desc := "(IS)V" }
theorem hd_Do_take_12 : y_Do_take_12.cls ≠ "java/lang/invoke/MethodHandle" ∧ y_Do_take_12.cls ≠ "java/lang/invoke/VarHandle" ∧ (parseMethodDescriptor y_Do_take_12.desc).map (fun d => d.parameters.length) = some 2 := by decide +kernel
abbrev rm_Do_take_12 : Room := { frames := 2, cells := 0, slots := 0, locals := 43 }
def F_Do_take_12 (x1 x2 : Int32)  (v : Nat → Int32) (f : Nat → Nat → Int32) (w : Nat → Nat) : Option ((Nat → Int32) × (Nat → Nat → Int32) × (Nat → Nat)) := (if x2 = (0 : Int32) then (some (v, f, w)) else (some ((va_up v 13 (1 : Int32)), f, w)))
set_option maxHeartbeats 4000000 in
set_option maxRecDepth 100000 in
theorem c_Do_take_12 (l : Launch) (G : dm_G) (g h : Nat → Nat) (x1 x2 : Int32) (v : Nat → Int32) (f : Nat → Nat → Int32) (w : Nat → Nat) (RES : (Nat → Int32) × (Nat → Nat → Int32) × (Nat → Nat)) (hF : F_Do_take_12 x1 x2 v f w = some RES) : dm_Ct l y_Do_take_12 b_Do_take_12 4 none rm_Do_take_12 G (mw G g h v f w) [.ref (g 72), .int x1, .int x2] (fun ov w' => ov = none ∧ w' = (mw G g h RES.1 RES.2.1 RES.2.2)) := by
  refine dm_Ct.of (by decide +kernel) (Nat.le_of_ble_eq_true rfl) ?_
  intro p e s m below meth c A ls B hl hP hD hS
  have hx := B.1
  have hb := B.2.1
  have hl : lv_has ls 4 [(0, .ref (g 72)), (1, .int x1), (2, .int x2)] := hl
  have hF : (if x2 = (0 : Int32) then (some (v, f, w)) else (some ((va_up v 13 (1 : Int32)), f, w))) = some RES := hF
  refine lv_aload_n hx hb d_Do_take_0_0 rfl (lv_at hl 0 rfl) ?_
  refine mw_g_46_0 B hP k_242 d_Do_take_0_1 ?_
  refine mw_gn_0_1 B hP k_117 d_Do_take_0_4 ?_
  refine lv_bipush (v := (6 : Int32)) hx hb d_Do_take_0_7 (by decide) ?_
  refine dm_aald (v := .ref (g 16)) B hP 2 3 rfl rfl (by unfold vp_in; decide) rfl d_Do_take_0_9 ?_
  refine lv_astore_n (lv' := [(3, .ref (g 16)), (0, .ref (g 72)), (1, .int x1), (2, .int x2)]) hx hb d_Do_take_0_10 rfl hl (Nat.le_of_ble_eq_true rfl) rfl (fun ls hl => ?_)
  have hl : lv_has ls 4 [(0, .ref (g 72)), (1, .int x1), (2, .int x2), (3, .ref (g 16))] := lv_sub hl [1, 2, 3, 0] rfl
  refine lv_aload_n hx hb d_Do_take_0_11 rfl (lv_at hl 0 rfl) ?_
  refine mw_g_46_1 B hP k_243 d_Do_take_0_12 ?_
  refine lv_tableIn (off := 131) (tgt := 146) hx hb d_Do_take_0_15 (by decide) (by decide) rfl (by decide) ?_
  refine lv_iload_n hx hb d_Do_take_0_146 rfl (lv_at hl 2 rfl) ?_
  refine lv_if_eq (tgt := 252) hx hb d_Do_take_0_147 (by decide) (fun (hh : x2 = (0 : Int32)) => ?_) (fun (hh : ¬ x2 = (0 : Int32)) => ?_)
  · rw [if_pos hh] at hF
    have hF := Option.some.inj hF
    subst hF
    exact dm_retv B d_Do_take_0_252 (by decide) (by decide) hP hD hS ⟨rfl, rfl⟩
  · rw [if_neg hh] at hF
    refine lv_aload_n hx hb d_Do_take_0_150 rfl (lv_at hl 0 rfl) ?_
    refine mw_g_46_0 B hP k_242 d_Do_take_0_151 ?_
    refine lv_iconst (v := (1 : Int32)) hx hb d_Do_take_0_154 (by decide) ?_
    refine mw_pn_0_13 (x := (1 : Int32)) B hP hD hS (by decide) k_139 d_Do_take_0_155 (fun H locs hP hD hS => ?_)
    refine lv_goto (tgt := 252) hx hb d_Do_take_0_158 (by decide) ?_
    have hF := Option.some.inj hF
    subst hF
    exact dm_retv B d_Do_take_0_252 (by decide) (by decide) hP hD hS ⟨rfl, rfl⟩
abbrev b_Rk_word_13 : ByteArray := prog_11_method_2_code
abbrev y_Rk_word_13 : MethodName := { cls := "DelayMachine$Reckoned", name := "word", desc := "(I)S" }
theorem hd_Rk_word_13 : y_Rk_word_13.cls ≠ "java/lang/invoke/MethodHandle" ∧ y_Rk_word_13.cls ≠ "java/lang/invoke/VarHandle" ∧ (parseMethodDescriptor y_Rk_word_13.desc).map (fun d => d.parameters.length) = some 1 := by decide +kernel
abbrev rm_Rk_word_13 : Room := { frames := 2, cells := 0, slots := 0, locals := 44 }
def F_Rk_word_13 (x1 : Int32)  (v : Nat → Int32) (f : Nat → Nat → Int32) (w : Nat → Nat) : Option (Int32 × (Nat → Int32) × (Nat → Nat → Int32) × (Nat → Nat)) := (Option.bind (F_Li_at_6 (0 : Int32) v f w) (fun z1 => (Option.bind (F_Re_take x1 v f w) (fun z2 => (if (z2.1).toInt16.toInt32 = z2.1 then (some (z2.1, z2.2.1, z2.2.2.1, z2.2.2.2)) else none)))))
set_option maxHeartbeats 4000000 in
set_option maxRecDepth 100000 in
theorem c_Rk_word_13 (l : Launch) (G : dm_G) (g h : Nat → Nat) (x1 : Int32) (v : Nat → Int32) (f : Nat → Nat → Int32) (w : Nat → Nat) (RES : Int32 × (Nat → Int32) × (Nat → Nat → Int32) × (Nat → Nat)) (hF : F_Rk_word_13 x1 v f w = some RES) : dm_Ct l y_Rk_word_13 b_Rk_word_13 3 (some .short) rm_Rk_word_13 G (mw G g h v f w) [.ref (g 53), .int x1] (fun ov w' => ov = some (.int RES.1) ∧ w' = (mw G g h RES.2.1 RES.2.2.1 RES.2.2.2)) := by
  refine dm_Ct.of (by decide +kernel) (Nat.le_of_ble_eq_true rfl) ?_
  intro p e s m below meth c A ls B hl hP hD hS
  have hx := B.1
  have hb := B.2.1
  have hl : lv_has ls 3 [(0, .ref (g 53)), (1, .int x1)] := hl
  have hF : (Option.bind (F_Li_at_6 (0 : Int32) v f w) (fun z1 => (Option.bind (F_Re_take x1 v f w) (fun z2 => (if (z2.1).toInt16.toInt32 = z2.1 then (some (z2.1, z2.2.1, z2.2.2.1, z2.2.2.2)) else none))))) = some RES := hF
  refine lv_aload_n hx hb d_Rk_word_0_0 rfl (lv_at hl 0 rfl) ?_
  refine mw_g_38_0 B hP k_229 d_Rk_word_0_1 ?_
  refine mw_gn_0_1 B hP k_116 d_Rk_word_0_4 ?_
  refine lv_bipush (v := (6 : Int32)) hx hb d_Rk_word_0_7 (by decide) ?_
  refine dm_aald (v := .ref (g 16)) B hP 2 3 rfl rfl (by unfold vp_in; decide) rfl d_Rk_word_0_9 ?_
  refine lv_iconst (v := (0 : Int32)) hx hb d_Rk_word_0_10 (by decide) ?_
  obtain ⟨z1, hcz1, hF⟩ := dm_bind hF
  refine dm_callVw B [.int (0 : Int32)] (c_Li_at_6 l G g h (0 : Int32) v f w z1 hcz1) k_410 k_401 k_402 k_6 k_403 hd_Li_at_6 rfl ⟨by decide, by decide⟩ 19 rfl rfl hP hD hS hl.1 (rest := []) rfl (Nat.le_of_ble_eq_true rfl) d_Rk_word_0_11 ⟨by decide, by decide⟩ (fun ov w' H locs hq hP hD hS => ?_)
  obtain ⟨rfl, rfl⟩ := hq
  have hP : va_P G.1 dm_cl (mw G g h v f w) H := hP
  have hD : va_D A (mw G g h v f w) := hD
  refine W.eq (g2 := F0 m 14 ls [.int z1]) rfl ?_
  refine lv_istore_n (lv' := [(2, .int z1), (0, .ref (g 53)), (1, .int x1)]) hx hb d_Rk_word_0_14 rfl hl (Nat.le_of_ble_eq_true rfl) rfl (fun ls hl => ?_)
  have hl : lv_has ls 3 [(0, .ref (g 53)), (1, .int x1), (2, .int z1)] := lv_sub hl [1, 2, 0] rfl
  refine lv_aload_n hx hb d_Rk_word_0_15 rfl (lv_at hl 0 rfl) ?_
  refine mw_g_38_1 B hP k_230 d_Rk_word_0_16 ?_
  refine lv_tableIn (off := 118) (tgt := 137) hx hb d_Rk_word_0_19 (by decide) (by decide) rfl (by decide) ?_
  refine lv_aload_n hx hb d_Rk_word_0_137 rfl (lv_at hl 0 rfl) ?_
  refine mw_g_38_0 B hP k_229 d_Rk_word_0_138 ?_
  refine mw_gn_0_3 B hP k_123 d_Rk_word_0_141 ?_
  refine lv_iload_n hx hb d_Rk_word_0_144 rfl (lv_at hl 1 rfl) ?_
  obtain ⟨z2, hcz2, hF⟩ := dm_bind hF
  refine dm_callVw B [.int x1] (c_Re_take l G g h x1 v f w z2 hcz2) k_411 k_412 k_413 k_4 k_414 hd_Re_take rfl ⟨by decide, by decide⟩ 4 rfl rfl hP hD hS hl.1 (rest := []) rfl (Nat.le_of_ble_eq_true rfl) d_Rk_word_0_145 ⟨by decide, by decide⟩ (fun ov w' H locs hq hP hD hS => ?_)
  obtain ⟨rfl, rfl⟩ := hq
  have hP : va_P G.1 dm_cl (mw G g h z2.2.1 z2.2.2.1 z2.2.2.2) H := hP
  have hD : va_D A (mw G g h z2.2.1 z2.2.2.1 z2.2.2.2) := hD
  refine W.eq (g2 := F0 m 148 ls [.int z2.1]) rfl ?_
  obtain ⟨hz, hF⟩ := dm_ck1 hF
  have hF := Option.some.inj hF
  subst hF
  exact dm_ret B (dm_nsh hz) d_Rk_word_0_148 (by decide) (by decide) hP hD hS ⟨rfl, rfl⟩
abbrev b_Do_take_13 : ByteArray := prog_4_method_2_code
abbrev y_Do_take_13 : MethodName := { cls := "DelayMachine$Done", name := "take", desc := "(IS)V" }
theorem hd_Do_take_13 : y_Do_take_13.cls ≠ "java/lang/invoke/MethodHandle" ∧ y_Do_take_13.cls ≠ "java/lang/invoke/VarHandle" ∧ (parseMethodDescriptor y_Do_take_13.desc).map (fun d => d.parameters.length) = some 2 := by decide +kernel
abbrev rm_Do_take_13 : Room := { frames := 2, cells := 0, slots := 0, locals := 43 }
def F_Do_take_13 (x1 x2 : Int32)  (v : Nat → Int32) (f : Nat → Nat → Int32) (w : Nat → Nat) : Option ((Nat → Int32) × (Nat → Nat → Int32) × (Nat → Nat)) := (Option.bind (F_Mu_begin x2 v f w) (fun z1 => (some ((va_up z1.1 14 (1 : Int32)), (va_up (va_up z1.2.1 8 (upd (z1.2.1 8) (0 : Int32).toNatClampNeg (0 : Int32).toInt16.toInt32)) 8 (upd (upd (z1.2.1 8) (0 : Int32).toNatClampNeg (0 : Int32).toInt16.toInt32) (1 : Int32).toNatClampNeg (0 : Int32).toInt16.toInt32)), z1.2.2))))
set_option maxHeartbeats 4000000 in
set_option maxRecDepth 100000 in
theorem c_Do_take_13 (l : Launch) (G : dm_G) (g h : Nat → Nat) (x1 x2 : Int32) (v : Nat → Int32) (f : Nat → Nat → Int32) (w : Nat → Nat) (RES : (Nat → Int32) × (Nat → Nat → Int32) × (Nat → Nat)) (hF : F_Do_take_13 x1 x2 v f w = some RES) : dm_Ct l y_Do_take_13 b_Do_take_13 4 none rm_Do_take_13 G (mw G g h v f w) [.ref (g 73), .int x1, .int x2] (fun ov w' => ov = none ∧ w' = (mw G g h RES.1 RES.2.1 RES.2.2)) := by
  refine dm_Ct.of (by decide +kernel) (Nat.le_of_ble_eq_true rfl) ?_
  intro p e s m below meth c A ls B hl hP hD hS
  have hx := B.1
  have hb := B.2.1
  have hl : lv_has ls 4 [(0, .ref (g 73)), (1, .int x1), (2, .int x2)] := hl
  have hF : (Option.bind (F_Mu_begin x2 v f w) (fun z1 => (some ((va_up z1.1 14 (1 : Int32)), (va_up (va_up z1.2.1 8 (upd (z1.2.1 8) (0 : Int32).toNatClampNeg (0 : Int32).toInt16.toInt32)) 8 (upd (upd (z1.2.1 8) (0 : Int32).toNatClampNeg (0 : Int32).toInt16.toInt32) (1 : Int32).toNatClampNeg (0 : Int32).toInt16.toInt32)), z1.2.2)))) = some RES := hF
  refine lv_aload_n hx hb d_Do_take_0_0 rfl (lv_at hl 0 rfl) ?_
  refine mw_g_47_0 B hP k_242 d_Do_take_0_1 ?_
  refine mw_gn_0_1 B hP k_117 d_Do_take_0_4 ?_
  refine lv_bipush (v := (6 : Int32)) hx hb d_Do_take_0_7 (by decide) ?_
  refine dm_aald (v := .ref (g 16)) B hP 2 3 rfl rfl (by unfold vp_in; decide) rfl d_Do_take_0_9 ?_
  refine lv_astore_n (lv' := [(3, .ref (g 16)), (0, .ref (g 73)), (1, .int x1), (2, .int x2)]) hx hb d_Do_take_0_10 rfl hl (Nat.le_of_ble_eq_true rfl) rfl (fun ls hl => ?_)
  have hl : lv_has ls 4 [(0, .ref (g 73)), (1, .int x1), (2, .int x2), (3, .ref (g 16))] := lv_sub hl [1, 2, 3, 0] rfl
  refine lv_aload_n hx hb d_Do_take_0_11 rfl (lv_at hl 0 rfl) ?_
  refine mw_g_47_1 B hP k_243 d_Do_take_0_12 ?_
  refine lv_tableIn (off := 146) (tgt := 161) hx hb d_Do_take_0_15 (by decide) (by decide) rfl (by decide) ?_
  refine lv_aload_n hx hb d_Do_take_0_161 rfl (lv_at hl 0 rfl) ?_
  refine mw_g_47_0 B hP k_242 d_Do_take_0_162 ?_
  refine mw_gn_0_2 B hP k_120 d_Do_take_0_165 ?_
  refine lv_iload_n hx hb d_Do_take_0_168 rfl (lv_at hl 2 rfl) ?_
  obtain ⟨z1, hcz1, hF⟩ := dm_bind hF
  refine dm_callVw B [.int x2] (c_Mu_begin l G g h x2 v f w z1 hcz1) k_434 k_435 k_436 k_3 k_437 hd_Mu_begin rfl ⟨by decide, by decide⟩ 3 rfl rfl hP hD hS hl.1 (rest := []) rfl (Nat.le_of_ble_eq_true rfl) d_Do_take_0_169 ⟨by decide, by decide⟩ (fun ov w' H locs hq hP hD hS => ?_)
  obtain ⟨rfl, rfl⟩ := hq
  have hP : va_P G.1 dm_cl (mw G g h z1.1 z1.2.1 z1.2.2) H := hP
  have hD : va_D A (mw G g h z1.1 z1.2.1 z1.2.2) := hD
  refine W.eq (g2 := F0 m 172 ls []) rfl ?_
  refine lv_aload_n hx hb d_Do_take_0_172 rfl (lv_at hl 0 rfl) ?_
  refine mw_g_47_0 B hP k_242 d_Do_take_0_173 ?_
  refine mw_gn_0_1 B hP k_117 d_Do_take_0_176 ?_
  refine lv_bipush (v := (8 : Int32)) hx hb d_Do_take_0_179 (by decide) ?_
  refine dm_aald (v := .ref (g 18)) B hP 2 3 rfl rfl (by unfold vp_in; decide) rfl d_Do_take_0_181 ?_
  refine mw_gn_23_0 B hP k_207 d_Do_take_0_182 ?_
  refine lv_iconst (v := (0 : Int32)) hx hb d_Do_take_0_185 (by decide) ?_
  refine lv_iconst (v := (0 : Int32)) hx hb d_Do_take_0_186 (by decide) ?_
  refine mw_s_24 (F := (z1.2.1 8)) B hP hD hS rfl (by unfold vp_in; decide) d_Do_take_0_187 (fun H locs hP hD hS => ?_)
  refine lv_aload_n hx hb d_Do_take_0_188 rfl (lv_at hl 0 rfl) ?_
  refine mw_g_47_0 B hP k_242 d_Do_take_0_189 ?_
  refine mw_gn_0_1 B hP k_117 d_Do_take_0_192 ?_
  refine lv_bipush (v := (8 : Int32)) hx hb d_Do_take_0_195 (by decide) ?_
  refine dm_aald (v := .ref (g 18)) B hP 2 3 rfl rfl (by unfold vp_in; decide) rfl d_Do_take_0_197 ?_
  refine mw_gn_23_0 B hP k_207 d_Do_take_0_198 ?_
  refine lv_iconst (v := (1 : Int32)) hx hb d_Do_take_0_201 (by decide) ?_
  refine lv_iconst (v := (0 : Int32)) hx hb d_Do_take_0_202 (by decide) ?_
  refine mw_s_24 (F := (upd (z1.2.1 8) (0 : Int32).toNatClampNeg (0 : Int32).toInt16.toInt32)) B hP hD hS rfl (by unfold vp_in; decide) d_Do_take_0_203 (fun H locs hP hD hS => ?_)
  refine lv_aload_n hx hb d_Do_take_0_204 rfl (lv_at hl 0 rfl) ?_
  refine mw_g_47_0 B hP k_242 d_Do_take_0_205 ?_
  refine lv_iconst (v := (1 : Int32)) hx hb d_Do_take_0_208 (by decide) ?_
  refine mw_pn_0_14 (x := (1 : Int32)) B hP hD hS (by decide) k_141 d_Do_take_0_209 (fun H locs hP hD hS => ?_)
  refine lv_goto (tgt := 252) hx hb d_Do_take_0_212 (by decide) ?_
  have hF := Option.some.inj hF
  subst hF
  exact dm_retv B d_Do_take_0_252 (by decide) (by decide) hP hD hS ⟨rfl, rfl⟩
abbrev b_Rk_word_14 : ByteArray := prog_11_method_2_code
abbrev y_Rk_word_14 : MethodName := { cls := "DelayMachine$Reckoned", name := "word", desc := "(I)S" }
theorem hd_Rk_word_14 : y_Rk_word_14.cls ≠ "java/lang/invoke/MethodHandle" ∧ y_Rk_word_14.cls ≠ "java/lang/invoke/VarHandle" ∧ (parseMethodDescriptor y_Rk_word_14.desc).map (fun d => d.parameters.length) = some 1 := by decide +kernel
abbrev rm_Rk_word_14 : Room := { frames := 2, cells := 0, slots := 0, locals := 44 }
def F_Rk_word_14 (x1 : Int32)  (v : Nat → Int32) (f : Nat → Nat → Int32) (w : Nat → Nat) : Option (Int32 × (Nat → Int32) × (Nat → Nat → Int32) × (Nat → Nat)) := (Option.bind (F_Li_at_6 (0 : Int32) v f w) (fun z1 => (some ((z1 ^^^ (-1 : Int32)).toInt16.toInt32, v, f, w))))
set_option maxHeartbeats 4000000 in
set_option maxRecDepth 100000 in
theorem c_Rk_word_14 (l : Launch) (G : dm_G) (g h : Nat → Nat) (x1 : Int32) (v : Nat → Int32) (f : Nat → Nat → Int32) (w : Nat → Nat) (RES : Int32 × (Nat → Int32) × (Nat → Nat → Int32) × (Nat → Nat)) (hF : F_Rk_word_14 x1 v f w = some RES) : dm_Ct l y_Rk_word_14 b_Rk_word_14 3 (some .short) rm_Rk_word_14 G (mw G g h v f w) [.ref (g 54), .int x1] (fun ov w' => ov = some (.int RES.1) ∧ w' = (mw G g h RES.2.1 RES.2.2.1 RES.2.2.2)) := by
  refine dm_Ct.of (by decide +kernel) (Nat.le_of_ble_eq_true rfl) ?_
  intro p e s m below meth c A ls B hl hP hD hS
  have hx := B.1
  have hb := B.2.1
  have hl : lv_has ls 3 [(0, .ref (g 54)), (1, .int x1)] := hl
  have hF : (Option.bind (F_Li_at_6 (0 : Int32) v f w) (fun z1 => (some ((z1 ^^^ (-1 : Int32)).toInt16.toInt32, v, f, w)))) = some RES := hF
  refine lv_aload_n hx hb d_Rk_word_0_0 rfl (lv_at hl 0 rfl) ?_
  refine mw_g_39_0 B hP k_229 d_Rk_word_0_1 ?_
  refine mw_gn_0_1 B hP k_116 d_Rk_word_0_4 ?_
  refine lv_bipush (v := (6 : Int32)) hx hb d_Rk_word_0_7 (by decide) ?_
  refine dm_aald (v := .ref (g 16)) B hP 2 3 rfl rfl (by unfold vp_in; decide) rfl d_Rk_word_0_9 ?_
  refine lv_iconst (v := (0 : Int32)) hx hb d_Rk_word_0_10 (by decide) ?_
  obtain ⟨z1, hcz1, hF⟩ := dm_bind hF
  refine dm_callVw B [.int (0 : Int32)] (c_Li_at_6 l G g h (0 : Int32) v f w z1 hcz1) k_410 k_401 k_402 k_6 k_403 hd_Li_at_6 rfl ⟨by decide, by decide⟩ 19 rfl rfl hP hD hS hl.1 (rest := []) rfl (Nat.le_of_ble_eq_true rfl) d_Rk_word_0_11 ⟨by decide, by decide⟩ (fun ov w' H locs hq hP hD hS => ?_)
  obtain ⟨rfl, rfl⟩ := hq
  have hP : va_P G.1 dm_cl (mw G g h v f w) H := hP
  have hD : va_D A (mw G g h v f w) := hD
  refine W.eq (g2 := F0 m 14 ls [.int z1]) rfl ?_
  refine lv_istore_n (lv' := [(2, .int z1), (0, .ref (g 54)), (1, .int x1)]) hx hb d_Rk_word_0_14 rfl hl (Nat.le_of_ble_eq_true rfl) rfl (fun ls hl => ?_)
  have hl : lv_has ls 3 [(0, .ref (g 54)), (1, .int x1), (2, .int z1)] := lv_sub hl [1, 2, 0] rfl
  refine lv_aload_n hx hb d_Rk_word_0_15 rfl (lv_at hl 0 rfl) ?_
  refine mw_g_39_1 B hP k_230 d_Rk_word_0_16 ?_
  refine lv_tableIn (off := 130) (tgt := 149) hx hb d_Rk_word_0_19 (by decide) (by decide) rfl (by decide) ?_
  refine lv_iload_n hx hb d_Rk_word_0_149 rfl (lv_at hl 2 rfl) ?_
  refine lv_iconst (v := (-1 : Int32)) hx hb d_Rk_word_0_150 (by decide) ?_
  refine lv_ixor hx hb d_Rk_word_0_151 ?_
  refine lv_i2s (v := (z1 ^^^ (-1 : Int32)).toInt16.toInt32) hx hb d_Rk_word_0_152 rfl ?_
  have hF := Option.some.inj hF
  subst hF
  exact dm_ret B (pk_ns _) d_Rk_word_0_153 (by decide) (by decide) hP hD hS ⟨rfl, rfl⟩
abbrev b_Do_take_14 : ByteArray := prog_4_method_2_code
abbrev y_Do_take_14 : MethodName := { cls := "DelayMachine$Done", name := "take", desc := "(IS)V" }
theorem hd_Do_take_14 : y_Do_take_14.cls ≠ "java/lang/invoke/MethodHandle" ∧ y_Do_take_14.cls ≠ "java/lang/invoke/VarHandle" ∧ (parseMethodDescriptor y_Do_take_14.desc).map (fun d => d.parameters.length) = some 2 := by decide +kernel
abbrev rm_Do_take_14 : Room := { frames := 2, cells := 0, slots := 0, locals := 43 }
def F_Do_take_14 (x1 x2 : Int32)  (v : Nat → Int32) (f : Nat → Nat → Int32) (w : Nat → Nat) : Option ((Nat → Int32) × (Nat → Nat → Int32) × (Nat → Nat)) := (Option.bind (F_Re_feed x1 v f w) (fun z1 => (if z1.1 = (0 : Int32) then (Option.bind (F_Ma_fail (2 : Int32) z1.2.1 z1.2.2.1 z1.2.2.2) (fun z2 => (some (z2.1, z2.2.1, z2.2.2)))) else (some (z1.2.1, z1.2.2.1, z1.2.2.2)))))
set_option maxHeartbeats 4000000 in
set_option maxRecDepth 100000 in
theorem c_Do_take_14 (l : Launch) (G : dm_G) (g h : Nat → Nat) (x1 x2 : Int32) (v : Nat → Int32) (f : Nat → Nat → Int32) (w : Nat → Nat) (RES : (Nat → Int32) × (Nat → Nat → Int32) × (Nat → Nat)) (hF : F_Do_take_14 x1 x2 v f w = some RES) : dm_Ct l y_Do_take_14 b_Do_take_14 4 none rm_Do_take_14 G (mw G g h v f w) [.ref (g 74), .int x1, .int x2] (fun ov w' => ov = none ∧ w' = (mw G g h RES.1 RES.2.1 RES.2.2)) := by
  refine dm_Ct.of (by decide +kernel) (Nat.le_of_ble_eq_true rfl) ?_
  intro p e s m below meth c A ls B hl hP hD hS
  have hx := B.1
  have hb := B.2.1
  have hl : lv_has ls 4 [(0, .ref (g 74)), (1, .int x1), (2, .int x2)] := hl
  have hF : (Option.bind (F_Re_feed x1 v f w) (fun z1 => (if z1.1 = (0 : Int32) then (Option.bind (F_Ma_fail (2 : Int32) z1.2.1 z1.2.2.1 z1.2.2.2) (fun z2 => (some (z2.1, z2.2.1, z2.2.2)))) else (some (z1.2.1, z1.2.2.1, z1.2.2.2))))) = some RES := hF
  refine lv_aload_n hx hb d_Do_take_0_0 rfl (lv_at hl 0 rfl) ?_
  refine mw_g_48_0 B hP k_242 d_Do_take_0_1 ?_
  refine mw_gn_0_1 B hP k_117 d_Do_take_0_4 ?_
  refine lv_bipush (v := (6 : Int32)) hx hb d_Do_take_0_7 (by decide) ?_
  refine dm_aald (v := .ref (g 16)) B hP 2 3 rfl rfl (by unfold vp_in; decide) rfl d_Do_take_0_9 ?_
  refine lv_astore_n (lv' := [(3, .ref (g 16)), (0, .ref (g 74)), (1, .int x1), (2, .int x2)]) hx hb d_Do_take_0_10 rfl hl (Nat.le_of_ble_eq_true rfl) rfl (fun ls hl => ?_)
  have hl : lv_has ls 4 [(0, .ref (g 74)), (1, .int x1), (2, .int x2), (3, .ref (g 16))] := lv_sub hl [1, 2, 3, 0] rfl
  refine lv_aload_n hx hb d_Do_take_0_11 rfl (lv_at hl 0 rfl) ?_
  refine mw_g_48_1 B hP k_243 d_Do_take_0_12 ?_
  refine lv_tableIn (off := 200) (tgt := 215) hx hb d_Do_take_0_15 (by decide) (by decide) rfl (by decide) ?_
  refine lv_aload_n hx hb d_Do_take_0_215 rfl (lv_at hl 0 rfl) ?_
  refine mw_g_48_0 B hP k_242 d_Do_take_0_216 ?_
  refine mw_gn_0_3 B hP k_124 d_Do_take_0_219 ?_
  refine lv_iload_n hx hb d_Do_take_0_222 rfl (lv_at hl 1 rfl) ?_
  obtain ⟨z1, hcz1, hF⟩ := dm_bind hF
  refine dm_callVw B [.int x1] (c_Re_feed l G g h x1 v f w z1 hcz1) k_439 k_440 k_441 k_4 k_442 hd_Re_feed rfl ⟨by decide, by decide⟩ 4 rfl rfl hP hD hS hl.1 (rest := []) rfl (Nat.le_of_ble_eq_true rfl) d_Do_take_0_223 ⟨by decide, by decide⟩ (fun ov w' H locs hq hP hD hS => ?_)
  obtain ⟨rfl, rfl⟩ := hq
  have hP : va_P G.1 dm_cl (mw G g h z1.2.1 z1.2.2.1 z1.2.2.2) H := hP
  have hD : va_D A (mw G g h z1.2.1 z1.2.2.1 z1.2.2.2) := hD
  refine W.eq (g2 := F0 m 226 ls [.int z1.1]) rfl ?_
  refine lv_if_ne (tgt := 252) hx hb d_Do_take_0_226 (by decide) (fun (hh : ¬ z1.1 = (0 : Int32)) => ?_) (fun (hh : z1.1 = (0 : Int32)) => ?_)
  · rw [if_neg hh] at hF
    have hF := Option.some.inj hF
    subst hF
    exact dm_retv B d_Do_take_0_252 (by decide) (by decide) hP hD hS ⟨rfl, rfl⟩
  · rw [if_pos hh] at hF
    refine lv_aload_n hx hb d_Do_take_0_229 rfl (lv_at hl 0 rfl) ?_
    refine mw_g_48_0 B hP k_242 d_Do_take_0_230 ?_
    refine lv_iconst (v := (2 : Int32)) hx hb d_Do_take_0_233 (by decide) ?_
    obtain ⟨z2, hcz2, hF⟩ := dm_bind hF
    refine dm_callVw B [.int (2 : Int32)] (c_Ma_fail l G g h (2 : Int32) z1.2.1 z1.2.2.1 z1.2.2.2 z2 hcz2) k_447 k_448 k_449 k_2 k_450 hd_Ma_fail rfl ⟨by decide, by decide⟩ 0 rfl rfl hP hD hS hl.1 (rest := []) rfl (Nat.le_of_ble_eq_true rfl) d_Do_take_0_234 ⟨by decide, by decide⟩ (fun ov w' H locs hq hP hD hS => ?_)
    obtain ⟨rfl, rfl⟩ := hq
    have hP : va_P G.1 dm_cl (mw G g h z2.1 z2.2.1 z2.2.2) H := hP
    have hD : va_D A (mw G g h z2.1 z2.2.1 z2.2.2) := hD
    refine W.eq (g2 := F0 m 237 ls []) rfl ?_
    refine lv_goto (tgt := 252) hx hb d_Do_take_0_237 (by decide) ?_
    have hF := Option.some.inj hF
    subst hF
    exact dm_retv B d_Do_take_0_252 (by decide) (by decide) hP hD hS ⟨rfl, rfl⟩
abbrev b_Rk_word_15 : ByteArray := prog_11_method_2_code
abbrev y_Rk_word_15 : MethodName := { cls := "DelayMachine$Reckoned", name := "word", desc := "(I)S" }
theorem hd_Rk_word_15 : y_Rk_word_15.cls ≠ "java/lang/invoke/MethodHandle" ∧ y_Rk_word_15.cls ≠ "java/lang/invoke/VarHandle" ∧ (parseMethodDescriptor y_Rk_word_15.desc).map (fun d => d.parameters.length) = some 1 := by decide +kernel
abbrev rm_Rk_word_15 : Room := { frames := 2, cells := 0, slots := 0, locals := 44 }
def F_Rk_word_15 (x1 : Int32)  (v : Nat → Int32) (f : Nat → Nat → Int32) (w : Nat → Nat) : Option (Int32 × (Nat → Int32) × (Nat → Nat → Int32) × (Nat → Nat)) := (Option.bind (F_Li_at_6 (0 : Int32) v f w) (fun z1 => (some (x1.toInt16.toInt32, v, f, w))))
set_option maxHeartbeats 4000000 in
set_option maxRecDepth 100000 in
theorem c_Rk_word_15 (l : Launch) (G : dm_G) (g h : Nat → Nat) (x1 : Int32) (v : Nat → Int32) (f : Nat → Nat → Int32) (w : Nat → Nat) (RES : Int32 × (Nat → Int32) × (Nat → Nat → Int32) × (Nat → Nat)) (hF : F_Rk_word_15 x1 v f w = some RES) : dm_Ct l y_Rk_word_15 b_Rk_word_15 3 (some .short) rm_Rk_word_15 G (mw G g h v f w) [.ref (g 55), .int x1] (fun ov w' => ov = some (.int RES.1) ∧ w' = (mw G g h RES.2.1 RES.2.2.1 RES.2.2.2)) := by
  refine dm_Ct.of (by decide +kernel) (Nat.le_of_ble_eq_true rfl) ?_
  intro p e s m below meth c A ls B hl hP hD hS
  have hx := B.1
  have hb := B.2.1
  have hl : lv_has ls 3 [(0, .ref (g 55)), (1, .int x1)] := hl
  have hF : (Option.bind (F_Li_at_6 (0 : Int32) v f w) (fun z1 => (some (x1.toInt16.toInt32, v, f, w)))) = some RES := hF
  refine lv_aload_n hx hb d_Rk_word_0_0 rfl (lv_at hl 0 rfl) ?_
  refine mw_g_40_0 B hP k_229 d_Rk_word_0_1 ?_
  refine mw_gn_0_1 B hP k_116 d_Rk_word_0_4 ?_
  refine lv_bipush (v := (6 : Int32)) hx hb d_Rk_word_0_7 (by decide) ?_
  refine dm_aald (v := .ref (g 16)) B hP 2 3 rfl rfl (by unfold vp_in; decide) rfl d_Rk_word_0_9 ?_
  refine lv_iconst (v := (0 : Int32)) hx hb d_Rk_word_0_10 (by decide) ?_
  obtain ⟨z1, hcz1, hF⟩ := dm_bind hF
  refine dm_callVw B [.int (0 : Int32)] (c_Li_at_6 l G g h (0 : Int32) v f w z1 hcz1) k_410 k_401 k_402 k_6 k_403 hd_Li_at_6 rfl ⟨by decide, by decide⟩ 19 rfl rfl hP hD hS hl.1 (rest := []) rfl (Nat.le_of_ble_eq_true rfl) d_Rk_word_0_11 ⟨by decide, by decide⟩ (fun ov w' H locs hq hP hD hS => ?_)
  obtain ⟨rfl, rfl⟩ := hq
  have hP : va_P G.1 dm_cl (mw G g h v f w) H := hP
  have hD : va_D A (mw G g h v f w) := hD
  refine W.eq (g2 := F0 m 14 ls [.int z1]) rfl ?_
  refine lv_istore_n (lv' := [(2, .int z1), (0, .ref (g 55)), (1, .int x1)]) hx hb d_Rk_word_0_14 rfl hl (Nat.le_of_ble_eq_true rfl) rfl (fun ls hl => ?_)
  have hl : lv_has ls 3 [(0, .ref (g 55)), (1, .int x1), (2, .int z1)] := lv_sub hl [1, 2, 0] rfl
  refine lv_aload_n hx hb d_Rk_word_0_15 rfl (lv_at hl 0 rfl) ?_
  refine mw_g_40_1 B hP k_230 d_Rk_word_0_16 ?_
  refine lv_tableIn (off := 135) (tgt := 154) hx hb d_Rk_word_0_19 (by decide) (by decide) rfl (by decide) ?_
  refine lv_iload_n hx hb d_Rk_word_0_154 rfl (lv_at hl 1 rfl) ?_
  refine lv_i2s (v := x1.toInt16.toInt32) hx hb d_Rk_word_0_155 rfl ?_
  have hF := Option.some.inj hF
  subst hF
  exact dm_ret B (pk_ns _) d_Rk_word_0_156 (by decide) (by decide) hP hD hS ⟨rfl, rfl⟩
abbrev b_Do_take_15 : ByteArray := prog_4_method_2_code
abbrev y_Do_take_15 : MethodName := { cls := "DelayMachine$Done", name := "take", desc := "(IS)V" }
theorem hd_Do_take_15 : y_Do_take_15.cls ≠ "java/lang/invoke/MethodHandle" ∧ y_Do_take_15.cls ≠ "java/lang/invoke/VarHandle" ∧ (parseMethodDescriptor y_Do_take_15.desc).map (fun d => d.parameters.length) = some 2 := by decide +kernel
abbrev rm_Do_take_15 : Room := { frames := 2, cells := 0, slots := 0, locals := 43 }
def F_Do_take_15 (x1 x2 : Int32)  (v : Nat → Int32) (f : Nat → Nat → Int32) (w : Nat → Nat) : Option ((Nat → Int32) × (Nat → Nat → Int32) × (Nat → Nat)) := (Option.bind (F_Ma_punch x1 x2 v f w) (fun z1 => (some (z1.1, z1.2.1, z1.2.2))))
set_option maxHeartbeats 4000000 in
set_option maxRecDepth 100000 in
theorem c_Do_take_15 (l : Launch) (G : dm_G) (g h : Nat → Nat) (x1 x2 : Int32) (v : Nat → Int32) (f : Nat → Nat → Int32) (w : Nat → Nat) (RES : (Nat → Int32) × (Nat → Nat → Int32) × (Nat → Nat)) (hF : F_Do_take_15 x1 x2 v f w = some RES) : dm_Ct l y_Do_take_15 b_Do_take_15 4 none rm_Do_take_15 G (mw G g h v f w) [.ref (g 75), .int x1, .int x2] (fun ov w' => ov = none ∧ w' = (mw G g h RES.1 RES.2.1 RES.2.2)) := by
  refine dm_Ct.of (by decide +kernel) (Nat.le_of_ble_eq_true rfl) ?_
  intro p e s m below meth c A ls B hl hP hD hS
  have hx := B.1
  have hb := B.2.1
  have hl : lv_has ls 4 [(0, .ref (g 75)), (1, .int x1), (2, .int x2)] := hl
  have hF : (Option.bind (F_Ma_punch x1 x2 v f w) (fun z1 => (some (z1.1, z1.2.1, z1.2.2)))) = some RES := hF
  refine lv_aload_n hx hb d_Do_take_0_0 rfl (lv_at hl 0 rfl) ?_
  refine mw_g_49_0 B hP k_242 d_Do_take_0_1 ?_
  refine mw_gn_0_1 B hP k_117 d_Do_take_0_4 ?_
  refine lv_bipush (v := (6 : Int32)) hx hb d_Do_take_0_7 (by decide) ?_
  refine dm_aald (v := .ref (g 16)) B hP 2 3 rfl rfl (by unfold vp_in; decide) rfl d_Do_take_0_9 ?_
  refine lv_astore_n (lv' := [(3, .ref (g 16)), (0, .ref (g 75)), (1, .int x1), (2, .int x2)]) hx hb d_Do_take_0_10 rfl hl (Nat.le_of_ble_eq_true rfl) rfl (fun ls hl => ?_)
  have hl : lv_has ls 4 [(0, .ref (g 75)), (1, .int x1), (2, .int x2), (3, .ref (g 16))] := lv_sub hl [1, 2, 3, 0] rfl
  refine lv_aload_n hx hb d_Do_take_0_11 rfl (lv_at hl 0 rfl) ?_
  refine mw_g_49_1 B hP k_243 d_Do_take_0_12 ?_
  refine lv_tableIn (off := 225) (tgt := 240) hx hb d_Do_take_0_15 (by decide) (by decide) rfl (by decide) ?_
  refine lv_aload_n hx hb d_Do_take_0_240 rfl (lv_at hl 0 rfl) ?_
  refine mw_g_49_0 B hP k_242 d_Do_take_0_241 ?_
  refine lv_iload_n hx hb d_Do_take_0_244 rfl (lv_at hl 1 rfl) ?_
  refine lv_iload_n hx hb d_Do_take_0_245 rfl (lv_at hl 2 rfl) ?_
  obtain ⟨z1, hcz1, hF⟩ := dm_bind hF
  refine dm_callVw B [.int x1, .int x2] (c_Ma_punch l G g h x1 x2 v f w z1 hcz1) k_451 k_452 k_453 k_2 k_454 hd_Ma_punch rfl ⟨by decide, by decide⟩ 0 rfl rfl hP hD hS hl.1 (rest := []) rfl (Nat.le_of_ble_eq_true rfl) d_Do_take_0_246 ⟨by decide, by decide⟩ (fun ov w' H locs hq hP hD hS => ?_)
  obtain ⟨rfl, rfl⟩ := hq
  have hP : va_P G.1 dm_cl (mw G g h z1.1 z1.2.1 z1.2.2) H := hP
  have hD : va_D A (mw G g h z1.1 z1.2.1 z1.2.2) := hD
  refine W.eq (g2 := F0 m 249 ls []) rfl ?_
  refine lv_goto (tgt := 252) hx hb d_Do_take_0_249 (by decide) ?_
  have hF := Option.some.inj hF
  subst hF
  exact dm_retv B d_Do_take_0_252 (by decide) (by decide) hP hD hS ⟨rfl, rfl⟩
