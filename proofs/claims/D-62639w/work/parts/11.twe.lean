abbrev b_Mo_firstOf : ByteArray := prog_16_method_34_code
abbrev y_Mo_firstOf : MethodName := { cls := "DelayMachineModel", name := "firstOf", desc := "(I)I" }
theorem d_Mo_firstOf_0 : decode b_Mo_firstOf 0 = .ok (.iconst 0, 1) := by decide +kernel
theorem d_Mo_firstOf_1 : decode b_Mo_firstOf 1 = .ok (.istore_n 2, 1) := by decide +kernel
theorem d_Mo_firstOf_2 : decode b_Mo_firstOf 2 = .ok (.aload_n 0, 1) := by decide +kernel
theorem d_Mo_firstOf_3 : decode b_Mo_firstOf 3 = .ok (.getfield 57, 3) := by decide +kernel
theorem d_Mo_firstOf_6 : decode b_Mo_firstOf 6 = .ok (.iload_n 2, 1) := by decide +kernel
theorem d_Mo_firstOf_7 : decode b_Mo_firstOf 7 = .ok (.iaload, 1) := by decide +kernel
theorem d_Mo_firstOf_8 : decode b_Mo_firstOf 8 = .ok (.iload_n 1, 1) := by decide +kernel
theorem d_Mo_firstOf_9 : decode b_Mo_firstOf 9 = .ok (.if_icmp .eq (9), 3) := by decide +kernel
theorem d_Mo_firstOf_12 : decode b_Mo_firstOf 12 = .ok (.iinc 2 (1), 3) := by decide +kernel
theorem d_Mo_firstOf_15 : decode b_Mo_firstOf 15 = .ok (.goto (-13), 3) := by decide +kernel
theorem d_Mo_firstOf_18 : decode b_Mo_firstOf 18 = .ok (.iload_n 2, 1) := by decide +kernel
theorem d_Mo_firstOf_19 : decode b_Mo_firstOf 19 = .ok (.ireturn, 1) := by decide +kernel
theorem hd_Mo_firstOf : y_Mo_firstOf.cls ≠ "java/lang/invoke/MethodHandle" ∧ y_Mo_firstOf.cls ≠ "java/lang/invoke/VarHandle" ∧ (parseMethodDescriptor y_Mo_firstOf.desc).map (fun d => d.parameters.length) = some 1 := by decide +kernel
abbrev rm_Mo_firstOf : Room := { frames := 0, cells := 0, slots := 0, locals := 0 }
def F_Mo_firstOf_2 (x1 : Int32) (v : Nat → Int32) (f : Nat → Nat → Int32)  : Nat → Int32 → Option (Int32)
  | 0, _ => none
  | n + 1, l2 => (if l2 < 0 ∨ 64 ≤ l2.toNatClampNeg then none else (if ((f 38) l2.toNatClampNeg) = x1 then (some l2) else (F_Mo_firstOf_2 x1 v f n (l2 + (1 : Int32)))))
def F_Mo_firstOf (x1 : Int32) (v : Nat → Int32) (f : Nat → Nat → Int32)  : Option (Int32) := (F_Mo_firstOf_2 x1 v f 100 (0 : Int32))
set_option maxHeartbeats 4000000 in
set_option maxRecDepth 100000 in
theorem c_Mo_firstOf (l : Launch) (G : dm_G) (g : Nat → Nat) (x1 : Int32) (v : Nat → Int32) (f : Nat → Nat → Int32) (RES : Int32) (hF : F_Mo_firstOf x1 v f = some RES) : dm_Ct l y_Mo_firstOf b_Mo_firstOf 3 (some .int) rm_Mo_firstOf G (tw G g v f) [.ref (g 0), .int x1] (fun ov w' => ov = some (.int RES) ∧ w' = (tw G g v f)) := by
  refine dm_Ct.of (by decide +kernel) (Nat.le_of_ble_eq_true rfl) ?_
  intro p e s m below meth c A ls B hl hP hD hS
  have hx := B.1
  have hb := B.2.1
  have hl : lv_has ls 3 [(0, .ref (g 0)), (1, .int x1)] := hl
  have K2 : ∀ (n2 : Nat) (ls : Array Slot) (H : Heap) (locs : List Loc) (l2 : Int32) , lv_has ls 3 [(0, .ref (g 0)), (1, .int x1), (2, .int l2)] → va_P G.1 dm_cl (tw G g v f) H → va_D A (tw G g v f) → va_S A s.heap H locs → F_Mo_firstOf_2 x1 v f n2 l2  = some RES → W p l e rm_Mo_firstOf s m ([.ref (g 0), .int x1] : List Value).toArray below meth c H locs 0 0 (dm_Z below G s ([.ref (g 0), .int x1] : List Value).toArray A rm_Mo_firstOf.cells rm_Mo_firstOf.slots (fun ov w' => ov = some (.int RES) ∧ w' = (tw G g v f))) (F0 m 2 ls []) := by
    intro n2
    induction n2 with
    | zero => intro ls H locs l2 hl hP hD hS hF; cases hF
    | succ n2 ih2 =>
      intro ls H locs l2 hl hP hD hS hF
      have hF : (if l2 < 0 ∨ 64 ≤ l2.toNatClampNeg then none else (if ((f 38) l2.toNatClampNeg) = x1 then (some l2) else (F_Mo_firstOf_2 x1 v f n2 (l2 + (1 : Int32))))) = some RES := hF
      refine lv_aload_n hx hb d_Mo_firstOf_2 rfl (lv_at hl 0 rfl) ?_
      refine tw_g_0_38 B hP k_763 d_Mo_firstOf_3 ?_
      refine lv_iload_n hx hb d_Mo_firstOf_6 rfl (lv_at hl 2 rfl) ?_
      obtain ⟨hi, hF⟩ := dm_chk hF
      refine tw_a_14 (F := (f 38)) B hP rfl hi d_Mo_firstOf_7 ?_
      refine lv_iload_n hx hb d_Mo_firstOf_8 rfl (lv_at hl 1 rfl) ?_
      refine lv_icmp_eq (tgt := 18) hx hb d_Mo_firstOf_9 (by decide) (fun (hh : ((f 38) l2.toNatClampNeg) = x1) => ?_) (fun (hh : ¬ ((f 38) l2.toNatClampNeg) = x1) => ?_)
      · rw [if_pos hh] at hF
        refine lv_iload_n hx hb d_Mo_firstOf_18 rfl (lv_at hl 2 rfl) ?_
        have hF := Option.some.inj hF
        subst hF
        exact dm_ret B rfl d_Mo_firstOf_19 (by decide) (by decide) hP hD hS ⟨rfl, rfl⟩
      · rw [if_neg hh] at hF
        refine lv_iinc (k := 2) (v := (l2 + (1 : Int32))) (lv' := [(2, .int (l2 + (1 : Int32))), (0, .ref (g 0)), (1, .int x1)]) hx hb d_Mo_firstOf_12 hl rfl (congrArg (fun q => l2 + q) (by decide)) (Nat.le_of_ble_eq_true rfl) rfl (fun ls hl => ?_)
        have hl : lv_has ls 3 [(0, .ref (g 0)), (1, .int x1), (2, .int (l2 + (1 : Int32)))] := lv_sub hl [1, 2, 0] rfl
        refine lv_goto (tgt := 2) hx hb d_Mo_firstOf_15 (by decide) ?_
        exact ih2 ls _ _ (l2 + (1 : Int32)) (lv_sub hl [0, 1, 2] rfl) hP hD hS hF
  have hF : (F_Mo_firstOf_2 x1 v f 100 (0 : Int32)) = some RES := hF
  refine lv_iconst (v := (0 : Int32)) hx hb d_Mo_firstOf_0 (by decide) ?_
  refine lv_istore_n (lv' := [(2, .int (0 : Int32)), (0, .ref (g 0)), (1, .int x1)]) hx hb d_Mo_firstOf_1 rfl hl (Nat.le_of_ble_eq_true rfl) rfl (fun ls hl => ?_)
  have hl : lv_has ls 3 [(0, .ref (g 0)), (1, .int x1), (2, .int (0 : Int32))] := lv_sub hl [1, 2, 0] rfl
  exact K2 100 ls _ _ (0 : Int32) (lv_sub hl [0, 1, 2] rfl) hP hD hS hF
abbrev b_Mo_isSecond : ByteArray := prog_16_method_36_code
abbrev y_Mo_isSecond : MethodName := { cls := "DelayMachineModel", name := "isSecond", desc := "(I)Z" }
theorem d_Mo_isSecond_0 : decode b_Mo_isSecond 0 = .ok (.aload_n 0, 1) := by decide +kernel
theorem d_Mo_isSecond_1 : decode b_Mo_isSecond 1 = .ok (.getfield 57, 3) := by decide +kernel
theorem d_Mo_isSecond_4 : decode b_Mo_isSecond 4 = .ok (.iload_n 1, 1) := by decide +kernel
theorem d_Mo_isSecond_5 : decode b_Mo_isSecond 5 = .ok (.iaload, 1) := by decide +kernel
theorem d_Mo_isSecond_6 : decode b_Mo_isSecond 6 = .ok (.aload_n 0, 1) := by decide +kernel
theorem d_Mo_isSecond_7 : decode b_Mo_isSecond 7 = .ok (.getfield 57, 3) := by decide +kernel
theorem d_Mo_isSecond_10 : decode b_Mo_isSecond 10 = .ok (.iload_n 1, 1) := by decide +kernel
theorem d_Mo_isSecond_11 : decode b_Mo_isSecond 11 = .ok (.iconst 2, 1) := by decide +kernel
theorem d_Mo_isSecond_12 : decode b_Mo_isSecond 12 = .ok (.isub, 1) := by decide +kernel
theorem d_Mo_isSecond_13 : decode b_Mo_isSecond 13 = .ok (.iaload, 1) := by decide +kernel
theorem d_Mo_isSecond_14 : decode b_Mo_isSecond 14 = .ok (.if_icmp .ne (20), 3) := by decide +kernel
theorem d_Mo_isSecond_17 : decode b_Mo_isSecond 17 = .ok (.aload_n 0, 1) := by decide +kernel
theorem d_Mo_isSecond_18 : decode b_Mo_isSecond 18 = .ok (.getfield 51, 3) := by decide +kernel
theorem d_Mo_isSecond_21 : decode b_Mo_isSecond 21 = .ok (.iload_n 1, 1) := by decide +kernel
theorem d_Mo_isSecond_22 : decode b_Mo_isSecond 22 = .ok (.iconst 2, 1) := by decide +kernel
theorem d_Mo_isSecond_23 : decode b_Mo_isSecond 23 = .ok (.isub, 1) := by decide +kernel
theorem d_Mo_isSecond_24 : decode b_Mo_isSecond 24 = .ok (.iaload, 1) := by decide +kernel
theorem d_Mo_isSecond_25 : decode b_Mo_isSecond 25 = .ok (.bipush (11), 2) := by decide +kernel
theorem d_Mo_isSecond_27 : decode b_Mo_isSecond 27 = .ok (.if_icmp .ne (7), 3) := by decide +kernel
theorem d_Mo_isSecond_30 : decode b_Mo_isSecond 30 = .ok (.iconst 1, 1) := by decide +kernel
theorem d_Mo_isSecond_31 : decode b_Mo_isSecond 31 = .ok (.goto (4), 3) := by decide +kernel
theorem d_Mo_isSecond_34 : decode b_Mo_isSecond 34 = .ok (.iconst 0, 1) := by decide +kernel
theorem d_Mo_isSecond_35 : decode b_Mo_isSecond 35 = .ok (.ireturn, 1) := by decide +kernel
theorem hd_Mo_isSecond : y_Mo_isSecond.cls ≠ "java/lang/invoke/MethodHandle" ∧ y_Mo_isSecond.cls ≠ "java/lang/invoke/VarHandle" ∧ (parseMethodDescriptor y_Mo_isSecond.desc).map (fun d => d.parameters.length) = some 1 := by decide +kernel
abbrev rm_Mo_isSecond : Room := { frames := 0, cells := 0, slots := 0, locals := 0 }
def F_Mo_isSecond_34 (x1 : Int32) (v : Nat → Int32) (f : Nat → Nat → Int32)    : Option (Int32) := (some (0 : Int32))
def F_Mo_isSecond (x1 : Int32) (v : Nat → Int32) (f : Nat → Nat → Int32)  : Option (Int32) := (if x1 < 0 ∨ 64 ≤ x1.toNatClampNeg then none else (if (x1 - (2 : Int32)) < 0 ∨ 64 ≤ (x1 - (2 : Int32)).toNatClampNeg then none else (if ((f 38) x1.toNatClampNeg) = ((f 38) (x1 - (2 : Int32)).toNatClampNeg) then (if (x1 - (2 : Int32)) < 0 ∨ 64 ≤ (x1 - (2 : Int32)).toNatClampNeg then none else (if ((f 36) (x1 - (2 : Int32)).toNatClampNeg) = (11 : Int32) then (some (1 : Int32)) else (F_Mo_isSecond_34 x1 v f))) else (F_Mo_isSecond_34 x1 v f))))
set_option maxHeartbeats 4000000 in
set_option maxRecDepth 100000 in
theorem c_Mo_isSecond (l : Launch) (G : dm_G) (g : Nat → Nat) (x1 : Int32) (v : Nat → Int32) (f : Nat → Nat → Int32) (RES : Int32) (hF : F_Mo_isSecond x1 v f = some RES) : dm_Ct l y_Mo_isSecond b_Mo_isSecond 2 (some .boolean) rm_Mo_isSecond G (tw G g v f) [.ref (g 0), .int x1] (fun ov w' => ov = some (.int RES) ∧ w' = (tw G g v f)) := by
  refine dm_Ct.of (by decide +kernel) (Nat.le_of_ble_eq_true rfl) ?_
  intro p e s m below meth c A ls B hl hP hD hS
  have hx := B.1
  have hb := B.2.1
  have hl : lv_has ls 2 [(0, .ref (g 0)), (1, .int x1)] := hl
  have K34 : ∀ (ls : Array Slot) (H : Heap) (locs : List Loc)  , lv_has ls 2 [] → va_P G.1 dm_cl (tw G g v f) H → va_D A (tw G g v f) → va_S A s.heap H locs → F_Mo_isSecond_34 x1 v f   = some RES → W p l e rm_Mo_isSecond s m ([.ref (g 0), .int x1] : List Value).toArray below meth c H locs 0 0 (dm_Z below G s ([.ref (g 0), .int x1] : List Value).toArray A rm_Mo_isSecond.cells rm_Mo_isSecond.slots (fun ov w' => ov = some (.int RES) ∧ w' = (tw G g v f))) (F0 m 34 ls []) := by
    intro ls H locs  hl hP hD hS hF
    have hF : (some (0 : Int32)) = some RES := hF
    refine lv_iconst (v := (0 : Int32)) hx hb d_Mo_isSecond_34 (by decide) ?_
    have hF := Option.some.inj hF
    subst hF
    exact dm_ret B (by decide) d_Mo_isSecond_35 (by decide) (by decide) hP hD hS ⟨rfl, rfl⟩
  have hF : (if x1 < 0 ∨ 64 ≤ x1.toNatClampNeg then none else (if (x1 - (2 : Int32)) < 0 ∨ 64 ≤ (x1 - (2 : Int32)).toNatClampNeg then none else (if ((f 38) x1.toNatClampNeg) = ((f 38) (x1 - (2 : Int32)).toNatClampNeg) then (if (x1 - (2 : Int32)) < 0 ∨ 64 ≤ (x1 - (2 : Int32)).toNatClampNeg then none else (if ((f 36) (x1 - (2 : Int32)).toNatClampNeg) = (11 : Int32) then (some (1 : Int32)) else (F_Mo_isSecond_34 x1 v f))) else (F_Mo_isSecond_34 x1 v f)))) = some RES := hF
  refine lv_aload_n hx hb d_Mo_isSecond_0 rfl (lv_at hl 0 rfl) ?_
  refine tw_g_0_38 B hP k_763 d_Mo_isSecond_1 ?_
  refine lv_iload_n hx hb d_Mo_isSecond_4 rfl (lv_at hl 1 rfl) ?_
  obtain ⟨hi, hF⟩ := dm_chk hF
  refine tw_a_14 (F := (f 38)) B hP rfl hi d_Mo_isSecond_5 ?_
  refine lv_aload_n hx hb d_Mo_isSecond_6 rfl (lv_at hl 0 rfl) ?_
  refine tw_g_0_38 B hP k_763 d_Mo_isSecond_7 ?_
  refine lv_iload_n hx hb d_Mo_isSecond_10 rfl (lv_at hl 1 rfl) ?_
  refine lv_iconst (v := (2 : Int32)) hx hb d_Mo_isSecond_11 (by decide) ?_
  refine lv_isub hx hb d_Mo_isSecond_12 ?_
  obtain ⟨hi, hF⟩ := dm_chk hF
  refine tw_a_14 (F := (f 38)) B hP rfl hi d_Mo_isSecond_13 ?_
  refine lv_icmp_ne (tgt := 34) hx hb d_Mo_isSecond_14 (by decide) (fun (hh : ¬ ((f 38) x1.toNatClampNeg) = ((f 38) (x1 - (2 : Int32)).toNatClampNeg)) => ?_) (fun (hh : ((f 38) x1.toNatClampNeg) = ((f 38) (x1 - (2 : Int32)).toNatClampNeg)) => ?_)
  · rw [if_neg hh] at hF
    exact K34 ls _ _  (lv_sub hl [] rfl) hP hD hS hF
  · rw [if_pos hh] at hF
    refine lv_aload_n hx hb d_Mo_isSecond_17 rfl (lv_at hl 0 rfl) ?_
    refine tw_g_0_36 B hP k_761 d_Mo_isSecond_18 ?_
    refine lv_iload_n hx hb d_Mo_isSecond_21 rfl (lv_at hl 1 rfl) ?_
    refine lv_iconst (v := (2 : Int32)) hx hb d_Mo_isSecond_22 (by decide) ?_
    refine lv_isub hx hb d_Mo_isSecond_23 ?_
    obtain ⟨hi, hF⟩ := dm_chk hF
    refine tw_a_12 (F := (f 36)) B hP rfl hi d_Mo_isSecond_24 ?_
    refine lv_bipush (v := (11 : Int32)) hx hb d_Mo_isSecond_25 (by decide) ?_
    refine lv_icmp_ne (tgt := 34) hx hb d_Mo_isSecond_27 (by decide) (fun (hh : ¬ ((f 36) (x1 - (2 : Int32)).toNatClampNeg) = (11 : Int32)) => ?_) (fun (hh : ((f 36) (x1 - (2 : Int32)).toNatClampNeg) = (11 : Int32)) => ?_)
    · rw [if_neg hh] at hF
      exact K34 ls _ _  (lv_sub hl [] rfl) hP hD hS hF
    · rw [if_pos hh] at hF
      refine lv_iconst (v := (1 : Int32)) hx hb d_Mo_isSecond_30 (by decide) ?_
      refine lv_goto (tgt := 35) hx hb d_Mo_isSecond_31 (by decide) ?_
      have hF := Option.some.inj hF
      subst hF
      exact dm_ret B (by decide) d_Mo_isSecond_35 (by decide) (by decide) hP hD hS ⟨rfl, rfl⟩
abbrev b_Mo_write : ByteArray := prog_16_method_35_code
abbrev y_Mo_write : MethodName := { cls := "DelayMachineModel", name := "write", desc := "(I)V" }
theorem d_Mo_write_0 : decode b_Mo_write 0 = .ok (.aload_n 0, 1) := by decide +kernel
theorem d_Mo_write_1 : decode b_Mo_write 1 = .ok (.getfield 60, 3) := by decide +kernel
theorem d_Mo_write_4 : decode b_Mo_write 4 = .ok (.iload_n 1, 1) := by decide +kernel
theorem d_Mo_write_5 : decode b_Mo_write 5 = .ok (.iaload, 1) := by decide +kernel
theorem d_Mo_write_6 : decode b_Mo_write 6 = .ok (.istore_n 2, 1) := by decide +kernel
theorem d_Mo_write_7 : decode b_Mo_write 7 = .ok (.aload_n 0, 1) := by decide +kernel
theorem d_Mo_write_8 : decode b_Mo_write 8 = .ok (.getfield 48, 3) := by decide +kernel
theorem d_Mo_write_11 : decode b_Mo_write 11 = .ok (.iload_n 1, 1) := by decide +kernel
theorem d_Mo_write_12 : decode b_Mo_write 12 = .ok (.iaload, 1) := by decide +kernel
theorem d_Mo_write_13 : decode b_Mo_write 13 = .ok (.aload_n 0, 1) := by decide +kernel
theorem d_Mo_write_14 : decode b_Mo_write 14 = .ok (.getfield 51, 3) := by decide +kernel
theorem d_Mo_write_17 : decode b_Mo_write 17 = .ok (.iload_n 1, 1) := by decide +kernel
theorem d_Mo_write_18 : decode b_Mo_write 18 = .ok (.iaload, 1) := by decide +kernel
theorem d_Mo_write_19 : decode b_Mo_write 19 = .ok (.iconst 4, 1) := by decide +kernel
theorem d_Mo_write_20 : decode b_Mo_write 20 = .ok (.ishl, 1) := by decide +kernel
theorem d_Mo_write_21 : decode b_Mo_write 21 = .ok (.ior, 1) := by decide +kernel
theorem d_Mo_write_22 : decode b_Mo_write 22 = .ok (.aload_n 0, 1) := by decide +kernel
theorem d_Mo_write_23 : decode b_Mo_write 23 = .ok (.getfield 63, 3) := by decide +kernel
theorem d_Mo_write_26 : decode b_Mo_write 26 = .ok (.iload_n 1, 1) := by decide +kernel
theorem d_Mo_write_27 : decode b_Mo_write 27 = .ok (.iaload, 1) := by decide +kernel
theorem d_Mo_write_28 : decode b_Mo_write 28 = .ok (.bipush (10), 2) := by decide +kernel
theorem d_Mo_write_30 : decode b_Mo_write 30 = .ok (.ishl, 1) := by decide +kernel
theorem d_Mo_write_31 : decode b_Mo_write 31 = .ok (.ior, 1) := by decide +kernel
theorem d_Mo_write_32 : decode b_Mo_write 32 = .ok (.istore_n 3, 1) := by decide +kernel
theorem d_Mo_write_33 : decode b_Mo_write 33 = .ok (.aload_n 0, 1) := by decide +kernel
theorem d_Mo_write_34 : decode b_Mo_write 34 = .ok (.getfield 48, 3) := by decide +kernel
theorem d_Mo_write_37 : decode b_Mo_write 37 = .ok (.iload_n 1, 1) := by decide +kernel
theorem d_Mo_write_38 : decode b_Mo_write 38 = .ok (.iaload, 1) := by decide +kernel
theorem d_Mo_write_39 : decode b_Mo_write 39 = .ok (.ifCond .ne (16), 3) := by decide +kernel
theorem d_Mo_write_42 : decode b_Mo_write 42 = .ok (.aload_n 0, 1) := by decide +kernel
theorem d_Mo_write_43 : decode b_Mo_write 43 = .ok (.getfield 51, 3) := by decide +kernel
theorem d_Mo_write_46 : decode b_Mo_write 46 = .ok (.iload_n 1, 1) := by decide +kernel
theorem d_Mo_write_47 : decode b_Mo_write 47 = .ok (.iaload, 1) := by decide +kernel
theorem d_Mo_write_48 : decode b_Mo_write 48 = .ok (.ifCond .ne (7), 3) := by decide +kernel
theorem d_Mo_write_51 : decode b_Mo_write 51 = .ok (.iconst 1, 1) := by decide +kernel
theorem d_Mo_write_52 : decode b_Mo_write 52 = .ok (.goto (4), 3) := by decide +kernel
theorem d_Mo_write_55 : decode b_Mo_write 55 = .ok (.iconst 0, 1) := by decide +kernel
theorem d_Mo_write_56 : decode b_Mo_write 56 = .ok (.istore 4, 2) := by decide +kernel
theorem d_Mo_write_58 : decode b_Mo_write 58 = .ok (.iload 4, 2) := by decide +kernel
theorem d_Mo_write_60 : decode b_Mo_write 60 = .ok (.ifCond .eq (41), 3) := by decide +kernel
theorem d_Mo_write_63 : decode b_Mo_write 63 = .ok (.iload_n 1, 1) := by decide +kernel
theorem d_Mo_write_64 : decode b_Mo_write 64 = .ok (.ifCond .le (37), 3) := by decide +kernel
theorem d_Mo_write_67 : decode b_Mo_write 67 = .ok (.aload_n 0, 1) := by decide +kernel
theorem d_Mo_write_68 : decode b_Mo_write 68 = .ok (.getfield 51, 3) := by decide +kernel
theorem d_Mo_write_71 : decode b_Mo_write 71 = .ok (.iload_n 1, 1) := by decide +kernel
theorem d_Mo_write_72 : decode b_Mo_write 72 = .ok (.iconst 1, 1) := by decide +kernel
theorem d_Mo_write_73 : decode b_Mo_write 73 = .ok (.isub, 1) := by decide +kernel
theorem d_Mo_write_74 : decode b_Mo_write 74 = .ok (.iaload, 1) := by decide +kernel
theorem d_Mo_write_75 : decode b_Mo_write 75 = .ok (.ifCond .ne (26), 3) := by decide +kernel
theorem d_Mo_write_78 : decode b_Mo_write 78 = .ok (.aload_n 0, 1) := by decide +kernel
theorem d_Mo_write_79 : decode b_Mo_write 79 = .ok (.getfield 48, 3) := by decide +kernel
theorem d_Mo_write_82 : decode b_Mo_write 82 = .ok (.iload_n 1, 1) := by decide +kernel
theorem d_Mo_write_83 : decode b_Mo_write 83 = .ok (.iconst 1, 1) := by decide +kernel
theorem d_Mo_write_84 : decode b_Mo_write 84 = .ok (.isub, 1) := by decide +kernel
theorem d_Mo_write_85 : decode b_Mo_write 85 = .ok (.iaload, 1) := by decide +kernel
theorem d_Mo_write_86 : decode b_Mo_write 86 = .ok (.ifCond .ne (15), 3) := by decide +kernel
theorem d_Mo_write_89 : decode b_Mo_write 89 = .ok (.aload_n 0, 1) := by decide +kernel
theorem d_Mo_write_90 : decode b_Mo_write 90 = .ok (.iload_n 1, 1) := by decide +kernel
theorem d_Mo_write_91 : decode b_Mo_write 91 = .ok (.invokevirtual 223, 3) := by decide +kernel
theorem d_Mo_write_94 : decode b_Mo_write 94 = .ok (.ifCond .eq (7), 3) := by decide +kernel
theorem d_Mo_write_97 : decode b_Mo_write 97 = .ok (.iconst 1, 1) := by decide +kernel
theorem d_Mo_write_98 : decode b_Mo_write 98 = .ok (.goto (4), 3) := by decide +kernel
theorem d_Mo_write_101 : decode b_Mo_write 101 = .ok (.iconst 0, 1) := by decide +kernel
theorem d_Mo_write_102 : decode b_Mo_write 102 = .ok (.istore 5, 2) := by decide +kernel
theorem d_Mo_write_104 : decode b_Mo_write 104 = .ok (.iload 4, 2) := by decide +kernel
theorem d_Mo_write_106 : decode b_Mo_write 106 = .ok (.ifCond .eq (42), 3) := by decide +kernel
theorem d_Mo_write_109 : decode b_Mo_write 109 = .ok (.iload 5, 2) := by decide +kernel
theorem d_Mo_write_111 : decode b_Mo_write 111 = .ok (.ifCond .eq (26), 3) := by decide +kernel
theorem d_Mo_write_114 : decode b_Mo_write 114 = .ok (.aload_n 0, 1) := by decide +kernel
theorem d_Mo_write_115 : decode b_Mo_write 115 = .ok (.getfield 60, 3) := by decide +kernel
theorem d_Mo_write_118 : decode b_Mo_write 118 = .ok (.aload_n 0, 1) := by decide +kernel
theorem d_Mo_write_119 : decode b_Mo_write 119 = .ok (.aload_n 0, 1) := by decide +kernel
theorem d_Mo_write_120 : decode b_Mo_write 120 = .ok (.getfield 45, 3) := by decide +kernel
theorem d_Mo_write_123 : decode b_Mo_write 123 = .ok (.aload_n 0, 1) := by decide +kernel
theorem d_Mo_write_124 : decode b_Mo_write 124 = .ok (.getfield 57, 3) := by decide +kernel
theorem d_Mo_write_127 : decode b_Mo_write 127 = .ok (.iload_n 1, 1) := by decide +kernel
theorem d_Mo_write_128 : decode b_Mo_write 128 = .ok (.iaload, 1) := by decide +kernel
theorem d_Mo_write_129 : decode b_Mo_write 129 = .ok (.iaload, 1) := by decide +kernel
theorem d_Mo_write_130 : decode b_Mo_write 130 = .ok (.invokevirtual 226, 3) := by decide +kernel
theorem d_Mo_write_133 : decode b_Mo_write 133 = .ok (.iaload, 1) := by decide +kernel
theorem d_Mo_write_134 : decode b_Mo_write 134 = .ok (.goto (36), 3) := by decide +kernel
theorem d_Mo_write_137 : decode b_Mo_write 137 = .ok (.aload_n 0, 1) := by decide +kernel
theorem d_Mo_write_138 : decode b_Mo_write 138 = .ok (.getfield 60, 3) := by decide +kernel
theorem d_Mo_write_141 : decode b_Mo_write 141 = .ok (.iload_n 1, 1) := by decide +kernel
theorem d_Mo_write_142 : decode b_Mo_write 142 = .ok (.iconst 2, 1) := by decide +kernel
theorem d_Mo_write_143 : decode b_Mo_write 143 = .ok (.iadd, 1) := by decide +kernel
theorem d_Mo_write_144 : decode b_Mo_write 144 = .ok (.iaload, 1) := by decide +kernel
theorem d_Mo_write_145 : decode b_Mo_write 145 = .ok (.goto (25), 3) := by decide +kernel
theorem d_Mo_write_148 : decode b_Mo_write 148 = .ok (.iload_n 1, 1) := by decide +kernel
theorem d_Mo_write_149 : decode b_Mo_write 149 = .ok (.iconst 1, 1) := by decide +kernel
theorem d_Mo_write_150 : decode b_Mo_write 150 = .ok (.iadd, 1) := by decide +kernel
theorem d_Mo_write_151 : decode b_Mo_write 151 = .ok (.aload_n 0, 1) := by decide +kernel
theorem d_Mo_write_152 : decode b_Mo_write 152 = .ok (.getfield 209, 3) := by decide +kernel
theorem d_Mo_write_155 : decode b_Mo_write 155 = .ok (.if_icmp .ge (14), 3) := by decide +kernel
theorem d_Mo_write_158 : decode b_Mo_write 158 = .ok (.aload_n 0, 1) := by decide +kernel
theorem d_Mo_write_159 : decode b_Mo_write 159 = .ok (.getfield 60, 3) := by decide +kernel
theorem d_Mo_write_162 : decode b_Mo_write 162 = .ok (.iload_n 1, 1) := by decide +kernel
theorem d_Mo_write_163 : decode b_Mo_write 163 = .ok (.iconst 1, 1) := by decide +kernel
theorem d_Mo_write_164 : decode b_Mo_write 164 = .ok (.iadd, 1) := by decide +kernel
theorem d_Mo_write_165 : decode b_Mo_write 165 = .ok (.iaload, 1) := by decide +kernel
theorem d_Mo_write_166 : decode b_Mo_write 166 = .ok (.goto (4), 3) := by decide +kernel
theorem d_Mo_write_169 : decode b_Mo_write 169 = .ok (.iconst 0, 1) := by decide +kernel
theorem d_Mo_write_170 : decode b_Mo_write 170 = .ok (.istore 6, 2) := by decide +kernel
theorem d_Mo_write_172 : decode b_Mo_write 172 = .ok (.aload_n 0, 1) := by decide +kernel
theorem d_Mo_write_173 : decode b_Mo_write 173 = .ok (.getfield 51, 3) := by decide +kernel
theorem d_Mo_write_176 : decode b_Mo_write 176 = .ok (.iload_n 1, 1) := by decide +kernel
theorem d_Mo_write_177 : decode b_Mo_write 177 = .ok (.iaload, 1) := by decide +kernel
theorem d_Mo_write_178 : decode b_Mo_write 178 = .ok (.iconst 1, 1) := by decide +kernel
theorem d_Mo_write_179 : decode b_Mo_write 179 = .ok (.if_icmp .ne (14), 3) := by decide +kernel
theorem d_Mo_write_182 : decode b_Mo_write 182 = .ok (.aload_n 0, 1) := by decide +kernel
theorem d_Mo_write_183 : decode b_Mo_write 183 = .ok (.getfield 7, 3) := by decide +kernel
theorem d_Mo_write_186 : decode b_Mo_write 186 = .ok (.iload_n 2, 1) := by decide +kernel
theorem d_Mo_write_187 : decode b_Mo_write 187 = .ok (.ldc 229, 2) := by decide +kernel
theorem d_Mo_write_189 : decode b_Mo_write 189 = .ok (.iastore, 1) := by decide +kernel
theorem d_Mo_write_190 : decode b_Mo_write 190 = .ok (.goto (31), 3) := by decide +kernel
theorem d_Mo_write_193 : decode b_Mo_write 193 = .ok (.aload_n 0, 1) := by decide +kernel
theorem d_Mo_write_194 : decode b_Mo_write 194 = .ok (.getfield 7, 3) := by decide +kernel
theorem d_Mo_write_197 : decode b_Mo_write 197 = .ok (.iload_n 2, 1) := by decide +kernel
theorem d_Mo_write_198 : decode b_Mo_write 198 = .ok (.iload_n 3, 1) := by decide +kernel
theorem d_Mo_write_199 : decode b_Mo_write 199 = .ok (.iload 6, 2) := by decide +kernel
theorem d_Mo_write_201 : decode b_Mo_write 201 = .ok (.iload_n 2, 1) := by decide +kernel
theorem d_Mo_write_202 : decode b_Mo_write 202 = .ok (.isub, 1) := by decide +kernel
theorem d_Mo_write_203 : decode b_Mo_write 203 = .ok (.iconst 2, 1) := by decide +kernel
theorem d_Mo_write_204 : decode b_Mo_write 204 = .ok (.isub, 1) := by decide +kernel
theorem d_Mo_write_205 : decode b_Mo_write 205 = .ok (.bipush (31), 2) := by decide +kernel
theorem d_Mo_write_207 : decode b_Mo_write 207 = .ok (.iand, 1) := by decide +kernel
theorem d_Mo_write_208 : decode b_Mo_write 208 = .ok (.bipush (15), 2) := by decide +kernel
theorem d_Mo_write_210 : decode b_Mo_write 210 = .ok (.ishl, 1) := by decide +kernel
theorem d_Mo_write_211 : decode b_Mo_write 211 = .ok (.ior, 1) := by decide +kernel
theorem d_Mo_write_212 : decode b_Mo_write 212 = .ok (.iload 6, 2) := by decide +kernel
theorem d_Mo_write_214 : decode b_Mo_write 214 = .ok (.iconst 5, 1) := by decide +kernel
theorem d_Mo_write_215 : decode b_Mo_write 215 = .ok (.ishr, 1) := by decide +kernel
theorem d_Mo_write_216 : decode b_Mo_write 216 = .ok (.bipush (20), 2) := by decide +kernel
theorem d_Mo_write_218 : decode b_Mo_write 218 = .ok (.ishl, 1) := by decide +kernel
theorem d_Mo_write_219 : decode b_Mo_write 219 = .ok (.ior, 1) := by decide +kernel
theorem d_Mo_write_220 : decode b_Mo_write 220 = .ok (.iastore, 1) := by decide +kernel
theorem d_Mo_write_221 : decode b_Mo_write 221 = .ok (.return_, 1) := by decide +kernel
theorem hd_Mo_write : y_Mo_write.cls ≠ "java/lang/invoke/MethodHandle" ∧ y_Mo_write.cls ≠ "java/lang/invoke/VarHandle" ∧ (parseMethodDescriptor y_Mo_write.desc).map (fun d => d.parameters.length) = some 1 := by decide +kernel
abbrev rm_Mo_write : Room := { frames := 1, cells := 0, slots := 0, locals := 22 }
def F_Mo_write_170 (x1 : Int32)   (l2 : Int32) (l3 : Int32) (s0 : Int32) (v : Nat → Int32) (f : Nat → Nat → Int32) : Option ((Nat → Int32) × (Nat → Nat → Int32)) := (if x1 < 0 ∨ 64 ≤ x1.toNatClampNeg then none else (if ((f 36) x1.toNatClampNeg) = (1 : Int32) then (if l2 < 0 ∨ 64 ≤ l2.toNatClampNeg then none else (some (v, (va_up f 0 (upd (f 0) l2.toNatClampNeg (1015824 : Int32)))))) else (if l2 < 0 ∨ 64 ≤ l2.toNatClampNeg then none else (some (v, (va_up f 0 (upd (f 0) l2.toNatClampNeg ((l3 ||| ((((s0 - l2) - (2 : Int32)) &&& (31 : Int32)) <<< ((15 : Int32) &&& 31))) ||| ((s0 >>> ((5 : Int32) &&& 31)) <<< ((20 : Int32) &&& 31))))))))))
def F_Mo_write_102 (x1 : Int32)   (l2 : Int32) (l3 : Int32) (l4 : Int32) (s0 : Int32) (v : Nat → Int32) (f : Nat → Nat → Int32) : Option ((Nat → Int32) × (Nat → Nat → Int32)) := (if l4 = (0 : Int32) then (if (v 34) ≤ (x1 + (1 : Int32)) then (F_Mo_write_170 x1 l2 l3 (0 : Int32) v f) else (if (x1 + (1 : Int32)) < 0 ∨ 64 ≤ (x1 + (1 : Int32)).toNatClampNeg then none else (F_Mo_write_170 x1 l2 l3 ((f 39) (x1 + (1 : Int32)).toNatClampNeg) v f))) else (if s0 = (0 : Int32) then (if (x1 + (2 : Int32)) < 0 ∨ 64 ≤ (x1 + (2 : Int32)).toNatClampNeg then none else (F_Mo_write_170 x1 l2 l3 ((f 39) (x1 + (2 : Int32)).toNatClampNeg) v f)) else (if x1 < 0 ∨ 64 ≤ x1.toNatClampNeg then none else (if ((f 38) x1.toNatClampNeg) < 0 ∨ 12 ≤ ((f 38) x1.toNatClampNeg).toNatClampNeg then none else (Option.bind (F_Mo_firstOf ((f 33) ((f 38) x1.toNatClampNeg).toNatClampNeg) v f) (fun z1 => (if z1 < 0 ∨ 64 ≤ z1.toNatClampNeg then none else (F_Mo_write_170 x1 l2 l3 ((f 39) z1.toNatClampNeg) v f))))))))
def F_Mo_write_101 (x1 : Int32)   (l2 : Int32) (l3 : Int32) (l4 : Int32) (v : Nat → Int32) (f : Nat → Nat → Int32) : Option ((Nat → Int32) × (Nat → Nat → Int32)) := (F_Mo_write_102 x1 l2 l3 l4 (0 : Int32) v f)
def F_Mo_write_56 (x1 : Int32)   (l2 : Int32) (l3 : Int32) (s0 : Int32) (v : Nat → Int32) (f : Nat → Nat → Int32) : Option ((Nat → Int32) × (Nat → Nat → Int32)) := (if s0 = (0 : Int32) then (F_Mo_write_101 x1 l2 l3 s0 v f) else (if x1 ≤ (0 : Int32) then (F_Mo_write_101 x1 l2 l3 s0 v f) else (if (x1 - (1 : Int32)) < 0 ∨ 64 ≤ (x1 - (1 : Int32)).toNatClampNeg then none else (if ((f 36) (x1 - (1 : Int32)).toNatClampNeg) = (0 : Int32) then (if (x1 - (1 : Int32)) < 0 ∨ 64 ≤ (x1 - (1 : Int32)).toNatClampNeg then none else (if ((f 35) (x1 - (1 : Int32)).toNatClampNeg) = (0 : Int32) then (Option.bind (F_Mo_isSecond x1 v f) (fun z1 => (if z1 = (0 : Int32) then (F_Mo_write_101 x1 l2 l3 s0 v f) else (F_Mo_write_102 x1 l2 l3 s0 (1 : Int32) v f)))) else (F_Mo_write_101 x1 l2 l3 s0 v f))) else (F_Mo_write_101 x1 l2 l3 s0 v f)))))
def F_Mo_write_55 (x1 : Int32)   (l2 : Int32) (l3 : Int32) (v : Nat → Int32) (f : Nat → Nat → Int32) : Option ((Nat → Int32) × (Nat → Nat → Int32)) := (F_Mo_write_56 x1 l2 l3 (0 : Int32) v f)
def F_Mo_write (x1 : Int32)  (v : Nat → Int32) (f : Nat → Nat → Int32) : Option ((Nat → Int32) × (Nat → Nat → Int32)) := (if x1 < 0 ∨ 64 ≤ x1.toNatClampNeg then none else (if x1 < 0 ∨ 64 ≤ x1.toNatClampNeg then none else (if x1 < 0 ∨ 64 ≤ x1.toNatClampNeg then none else (if x1 < 0 ∨ 64 ≤ x1.toNatClampNeg then none else (if x1 < 0 ∨ 64 ≤ x1.toNatClampNeg then none else (if ((f 35) x1.toNatClampNeg) = (0 : Int32) then (if x1 < 0 ∨ 64 ≤ x1.toNatClampNeg then none else (if ((f 36) x1.toNatClampNeg) = (0 : Int32) then (F_Mo_write_56 x1 ((f 39) x1.toNatClampNeg) ((((f 35) x1.toNatClampNeg) ||| (((f 36) x1.toNatClampNeg) <<< ((4 : Int32) &&& 31))) ||| (((f 40) x1.toNatClampNeg) <<< ((10 : Int32) &&& 31))) (1 : Int32) v f) else (F_Mo_write_55 x1 ((f 39) x1.toNatClampNeg) ((((f 35) x1.toNatClampNeg) ||| (((f 36) x1.toNatClampNeg) <<< ((4 : Int32) &&& 31))) ||| (((f 40) x1.toNatClampNeg) <<< ((10 : Int32) &&& 31))) v f))) else (F_Mo_write_55 x1 ((f 39) x1.toNatClampNeg) ((((f 35) x1.toNatClampNeg) ||| (((f 36) x1.toNatClampNeg) <<< ((4 : Int32) &&& 31))) ||| (((f 40) x1.toNatClampNeg) <<< ((10 : Int32) &&& 31))) v f)))))))
set_option maxHeartbeats 4000000 in
set_option maxRecDepth 100000 in
theorem c_Mo_write (l : Launch) (G : dm_G) (g : Nat → Nat) (x1 : Int32) (v : Nat → Int32) (f : Nat → Nat → Int32) (RES : (Nat → Int32) × (Nat → Nat → Int32)) (hF : F_Mo_write x1 v f = some RES) : dm_Ct l y_Mo_write b_Mo_write 7 none rm_Mo_write G (tw G g v f) [.ref (g 0), .int x1] (fun ov w' => ov = none ∧ w' = (tw G g RES.1 RES.2)) := by
  refine dm_Ct.of (by decide +kernel) (Nat.le_of_ble_eq_true rfl) ?_
  intro p e s m below meth c A ls B hl hP hD hS
  have hx := B.1
  have hb := B.2.1
  have hl : lv_has ls 7 [(0, .ref (g 0)), (1, .int x1)] := hl
  have K170 : ∀ (ls : Array Slot) (H : Heap) (locs : List Loc) (l2 : Int32) (l3 : Int32) (s0 : Int32) (v : Nat → Int32) (f : Nat → Nat → Int32), lv_has ls 7 [(0, .ref (g 0)), (1, .int x1), (2, .int l2), (3, .int l3)] → va_P G.1 dm_cl (tw G g v f) H → va_D A (tw G g v f) → va_S A s.heap H locs → F_Mo_write_170 x1 l2 l3 s0 v f = some RES → W p l e rm_Mo_write s m ([.ref (g 0), .int x1] : List Value).toArray below meth c H locs 0 0 (dm_Z below G s ([.ref (g 0), .int x1] : List Value).toArray A rm_Mo_write.cells rm_Mo_write.slots (fun ov w' => ov = none ∧ w' = (tw G g RES.1 RES.2))) (F0 m 170 ls [.int s0]) := by
    intro ls H locs l2 l3 s0 v f hl hP hD hS hF
    have hF : (if x1 < 0 ∨ 64 ≤ x1.toNatClampNeg then none else (if ((f 36) x1.toNatClampNeg) = (1 : Int32) then (if l2 < 0 ∨ 64 ≤ l2.toNatClampNeg then none else (some (v, (va_up f 0 (upd (f 0) l2.toNatClampNeg (1015824 : Int32)))))) else (if l2 < 0 ∨ 64 ≤ l2.toNatClampNeg then none else (some (v, (va_up f 0 (upd (f 0) l2.toNatClampNeg ((l3 ||| ((((s0 - l2) - (2 : Int32)) &&& (31 : Int32)) <<< ((15 : Int32) &&& 31))) ||| ((s0 >>> ((5 : Int32) &&& 31)) <<< ((20 : Int32) &&& 31)))))))))) = some RES := hF
    refine lv_istore (lv' := [(6, .int s0), (0, .ref (g 0)), (1, .int x1), (2, .int l2), (3, .int l3)]) hx hb d_Mo_write_170 hl (Nat.le_of_ble_eq_true rfl) rfl (fun ls hl => ?_)
    have hl : lv_has ls 7 [(0, .ref (g 0)), (1, .int x1), (2, .int l2), (3, .int l3), (6, .int s0)] := lv_sub hl [1, 2, 3, 4, 0] rfl
    refine lv_aload_n hx hb d_Mo_write_172 rfl (lv_at hl 0 rfl) ?_
    refine tw_g_0_36 B hP k_761 d_Mo_write_173 ?_
    refine lv_iload_n hx hb d_Mo_write_176 rfl (lv_at hl 1 rfl) ?_
    obtain ⟨hi, hF⟩ := dm_chk hF
    refine tw_a_12 (F := (f 36)) B hP rfl hi d_Mo_write_177 ?_
    refine lv_iconst (v := (1 : Int32)) hx hb d_Mo_write_178 (by decide) ?_
    refine lv_icmp_ne (tgt := 193) hx hb d_Mo_write_179 (by decide) (fun (hh : ¬ ((f 36) x1.toNatClampNeg) = (1 : Int32)) => ?_) (fun (hh : ((f 36) x1.toNatClampNeg) = (1 : Int32)) => ?_)
    · rw [if_neg hh] at hF
      refine lv_aload_n hx hb d_Mo_write_193 rfl (lv_at hl 0 rfl) ?_
      refine tw_g_0_0 B hP k_725 d_Mo_write_194 ?_
      refine lv_iload_n hx hb d_Mo_write_197 rfl (lv_at hl 2 rfl) ?_
      refine lv_iload_n hx hb d_Mo_write_198 rfl (lv_at hl 3 rfl) ?_
      refine lv_iload hx hb d_Mo_write_199 (lv_at hl 4 rfl) ?_
      refine lv_iload_n hx hb d_Mo_write_201 rfl (lv_at hl 2 rfl) ?_
      refine lv_isub hx hb d_Mo_write_202 ?_
      refine lv_iconst (v := (2 : Int32)) hx hb d_Mo_write_203 (by decide) ?_
      refine lv_isub hx hb d_Mo_write_204 ?_
      refine lv_bipush (v := (31 : Int32)) hx hb d_Mo_write_205 (by decide) ?_
      refine lv_iand hx hb d_Mo_write_207 ?_
      refine lv_bipush (v := (15 : Int32)) hx hb d_Mo_write_208 (by decide) ?_
      refine lv_ishl hx hb d_Mo_write_210 ?_
      refine lv_ior hx hb d_Mo_write_211 ?_
      refine lv_iload hx hb d_Mo_write_212 (lv_at hl 4 rfl) ?_
      refine lv_iconst (v := (5 : Int32)) hx hb d_Mo_write_214 (by decide) ?_
      refine lv_ishr hx hb d_Mo_write_215 ?_
      refine lv_bipush (v := (20 : Int32)) hx hb d_Mo_write_216 (by decide) ?_
      refine lv_ishl hx hb d_Mo_write_218 ?_
      refine lv_ior hx hb d_Mo_write_219 ?_
      obtain ⟨hi, hF⟩ := dm_chk hF
      refine tw_s_1 (F := (f 0)) B hP hD hS rfl hi d_Mo_write_220 (fun H locs hP hD hS => ?_)
      have hF := Option.some.inj hF
      subst hF
      exact dm_retv B d_Mo_write_221 (by decide) (by decide) hP hD hS ⟨rfl, rfl⟩
    · rw [if_pos hh] at hF
      refine lv_aload_n hx hb d_Mo_write_182 rfl (lv_at hl 0 rfl) ?_
      refine tw_g_0_0 B hP k_725 d_Mo_write_183 ?_
      refine lv_iload_n hx hb d_Mo_write_186 rfl (lv_at hl 2 rfl) ?_
      refine dm_ldc B k_996 d_Mo_write_187 ?_
      obtain ⟨hi, hF⟩ := dm_chk hF
      refine tw_s_1 (F := (f 0)) B hP hD hS rfl hi d_Mo_write_189 (fun H locs hP hD hS => ?_)
      refine lv_goto (tgt := 221) hx hb d_Mo_write_190 (by decide) ?_
      have hF := Option.some.inj hF
      subst hF
      exact dm_retv B d_Mo_write_221 (by decide) (by decide) hP hD hS ⟨rfl, rfl⟩
  have K102 : ∀ (ls : Array Slot) (H : Heap) (locs : List Loc) (l2 : Int32) (l3 : Int32) (l4 : Int32) (s0 : Int32) (v : Nat → Int32) (f : Nat → Nat → Int32), lv_has ls 7 [(0, .ref (g 0)), (1, .int x1), (2, .int l2), (3, .int l3), (4, .int l4)] → va_P G.1 dm_cl (tw G g v f) H → va_D A (tw G g v f) → va_S A s.heap H locs → F_Mo_write_102 x1 l2 l3 l4 s0 v f = some RES → W p l e rm_Mo_write s m ([.ref (g 0), .int x1] : List Value).toArray below meth c H locs 0 0 (dm_Z below G s ([.ref (g 0), .int x1] : List Value).toArray A rm_Mo_write.cells rm_Mo_write.slots (fun ov w' => ov = none ∧ w' = (tw G g RES.1 RES.2))) (F0 m 102 ls [.int s0]) := by
    intro ls H locs l2 l3 l4 s0 v f hl hP hD hS hF
    have hF : (if l4 = (0 : Int32) then (if (v 34) ≤ (x1 + (1 : Int32)) then (F_Mo_write_170 x1 l2 l3 (0 : Int32) v f) else (if (x1 + (1 : Int32)) < 0 ∨ 64 ≤ (x1 + (1 : Int32)).toNatClampNeg then none else (F_Mo_write_170 x1 l2 l3 ((f 39) (x1 + (1 : Int32)).toNatClampNeg) v f))) else (if s0 = (0 : Int32) then (if (x1 + (2 : Int32)) < 0 ∨ 64 ≤ (x1 + (2 : Int32)).toNatClampNeg then none else (F_Mo_write_170 x1 l2 l3 ((f 39) (x1 + (2 : Int32)).toNatClampNeg) v f)) else (if x1 < 0 ∨ 64 ≤ x1.toNatClampNeg then none else (if ((f 38) x1.toNatClampNeg) < 0 ∨ 12 ≤ ((f 38) x1.toNatClampNeg).toNatClampNeg then none else (Option.bind (F_Mo_firstOf ((f 33) ((f 38) x1.toNatClampNeg).toNatClampNeg) v f) (fun z1 => (if z1 < 0 ∨ 64 ≤ z1.toNatClampNeg then none else (F_Mo_write_170 x1 l2 l3 ((f 39) z1.toNatClampNeg) v f)))))))) = some RES := hF
    refine lv_istore (lv' := [(5, .int s0), (0, .ref (g 0)), (1, .int x1), (2, .int l2), (3, .int l3), (4, .int l4)]) hx hb d_Mo_write_102 hl (Nat.le_of_ble_eq_true rfl) rfl (fun ls hl => ?_)
    have hl : lv_has ls 7 [(0, .ref (g 0)), (1, .int x1), (2, .int l2), (3, .int l3), (4, .int l4), (5, .int s0)] := lv_sub hl [1, 2, 3, 4, 5, 0] rfl
    refine lv_iload hx hb d_Mo_write_104 (lv_at hl 4 rfl) ?_
    refine lv_if_eq (tgt := 148) hx hb d_Mo_write_106 (by decide) (fun (hh : l4 = (0 : Int32)) => ?_) (fun (hh : ¬ l4 = (0 : Int32)) => ?_)
    · rw [if_pos hh] at hF
      refine lv_iload_n hx hb d_Mo_write_148 rfl (lv_at hl 1 rfl) ?_
      refine lv_iconst (v := (1 : Int32)) hx hb d_Mo_write_149 (by decide) ?_
      refine lv_iadd hx hb d_Mo_write_150 ?_
      refine lv_aload_n hx hb d_Mo_write_151 rfl (lv_at hl 0 rfl) ?_
      refine tw_g_0_34 (x := (v 34)) B hP rfl k_759 d_Mo_write_152 ?_
      refine lv_icmp_ge (tgt := 169) hx hb d_Mo_write_155 (by decide) (fun (hh : (v 34) ≤ (x1 + (1 : Int32))) => ?_) (fun (hh : ¬ (v 34) ≤ (x1 + (1 : Int32))) => ?_)
      · rw [if_pos hh] at hF
        refine lv_iconst (v := (0 : Int32)) hx hb d_Mo_write_169 (by decide) ?_
        exact K170 ls _ _ l2 l3 (0 : Int32) v f (lv_sub hl [0, 1, 2, 3] rfl) hP hD hS hF
      · rw [if_neg hh] at hF
        refine lv_aload_n hx hb d_Mo_write_158 rfl (lv_at hl 0 rfl) ?_
        refine tw_g_0_39 B hP k_764 d_Mo_write_159 ?_
        refine lv_iload_n hx hb d_Mo_write_162 rfl (lv_at hl 1 rfl) ?_
        refine lv_iconst (v := (1 : Int32)) hx hb d_Mo_write_163 (by decide) ?_
        refine lv_iadd hx hb d_Mo_write_164 ?_
        obtain ⟨hi, hF⟩ := dm_chk hF
        refine tw_a_15 (F := (f 39)) B hP rfl hi d_Mo_write_165 ?_
        refine lv_goto (tgt := 170) hx hb d_Mo_write_166 (by decide) ?_
        exact K170 ls _ _ l2 l3 ((f 39) (x1 + (1 : Int32)).toNatClampNeg) v f (lv_sub hl [0, 1, 2, 3] rfl) hP hD hS hF
    · rw [if_neg hh] at hF
      refine lv_iload hx hb d_Mo_write_109 (lv_at hl 5 rfl) ?_
      refine lv_if_eq (tgt := 137) hx hb d_Mo_write_111 (by decide) (fun (hh : s0 = (0 : Int32)) => ?_) (fun (hh : ¬ s0 = (0 : Int32)) => ?_)
      · rw [if_pos hh] at hF
        refine lv_aload_n hx hb d_Mo_write_137 rfl (lv_at hl 0 rfl) ?_
        refine tw_g_0_39 B hP k_764 d_Mo_write_138 ?_
        refine lv_iload_n hx hb d_Mo_write_141 rfl (lv_at hl 1 rfl) ?_
        refine lv_iconst (v := (2 : Int32)) hx hb d_Mo_write_142 (by decide) ?_
        refine lv_iadd hx hb d_Mo_write_143 ?_
        obtain ⟨hi, hF⟩ := dm_chk hF
        refine tw_a_15 (F := (f 39)) B hP rfl hi d_Mo_write_144 ?_
        refine lv_goto (tgt := 170) hx hb d_Mo_write_145 (by decide) ?_
        exact K170 ls _ _ l2 l3 ((f 39) (x1 + (2 : Int32)).toNatClampNeg) v f (lv_sub hl [0, 1, 2, 3] rfl) hP hD hS hF
      · rw [if_neg hh] at hF
        refine lv_aload_n hx hb d_Mo_write_114 rfl (lv_at hl 0 rfl) ?_
        refine tw_g_0_39 B hP k_764 d_Mo_write_115 ?_
        refine lv_aload_n hx hb d_Mo_write_118 rfl (lv_at hl 0 rfl) ?_
        refine lv_aload_n hx hb d_Mo_write_119 rfl (lv_at hl 0 rfl) ?_
        refine tw_g_0_33 B hP k_758 d_Mo_write_120 ?_
        refine lv_aload_n hx hb d_Mo_write_123 rfl (lv_at hl 0 rfl) ?_
        refine tw_g_0_38 B hP k_763 d_Mo_write_124 ?_
        refine lv_iload_n hx hb d_Mo_write_127 rfl (lv_at hl 1 rfl) ?_
        obtain ⟨hi, hF⟩ := dm_chk hF
        refine tw_a_14 (F := (f 38)) B hP rfl hi d_Mo_write_128 ?_
        obtain ⟨hi, hF⟩ := dm_chk hF
        refine tw_a_10 (F := (f 33)) B hP rfl hi d_Mo_write_129 ?_
        obtain ⟨z1, hcz1, hF⟩ := dm_bind hF
        refine dm_callVw B [.int ((f 33) ((f 38) x1.toNatClampNeg).toNatClampNeg)] (c_Mo_firstOf l G g ((f 33) ((f 38) x1.toNatClampNeg).toNatClampNeg) v f z1 hcz1) k_1005 k_1007 ks_34 k_14 k_1008 hd_Mo_firstOf rfl ⟨by decide, by decide⟩ 0 rfl rfl hP hD hS hl.1 (rest := [.ref (g 40)]) rfl (Nat.le_of_ble_eq_true rfl) d_Mo_write_130 ⟨by decide, by decide⟩ (fun ov w' H locs hq hP hD hS => ?_)
        obtain ⟨rfl, rfl⟩ := hq
        have hP : va_P G.1 dm_cl (tw G g v f) H := hP
        have hD : va_D A (tw G g v f) := hD
        refine W.eq (g2 := F0 m 133 ls [.int z1, .ref (g 40)]) rfl ?_
        obtain ⟨hi, hF⟩ := dm_chk hF
        refine tw_a_15 (F := (f 39)) B hP rfl hi d_Mo_write_133 ?_
        refine lv_goto (tgt := 170) hx hb d_Mo_write_134 (by decide) ?_
        exact K170 ls _ _ l2 l3 ((f 39) z1.toNatClampNeg) v f (lv_sub hl [0, 1, 2, 3] rfl) hP hD hS hF
  have K101 : ∀ (ls : Array Slot) (H : Heap) (locs : List Loc) (l2 : Int32) (l3 : Int32) (l4 : Int32) (v : Nat → Int32) (f : Nat → Nat → Int32), lv_has ls 7 [(0, .ref (g 0)), (1, .int x1), (2, .int l2), (3, .int l3), (4, .int l4)] → va_P G.1 dm_cl (tw G g v f) H → va_D A (tw G g v f) → va_S A s.heap H locs → F_Mo_write_101 x1 l2 l3 l4 v f = some RES → W p l e rm_Mo_write s m ([.ref (g 0), .int x1] : List Value).toArray below meth c H locs 0 0 (dm_Z below G s ([.ref (g 0), .int x1] : List Value).toArray A rm_Mo_write.cells rm_Mo_write.slots (fun ov w' => ov = none ∧ w' = (tw G g RES.1 RES.2))) (F0 m 101 ls []) := by
    intro ls H locs l2 l3 l4 v f hl hP hD hS hF
    have hF : (F_Mo_write_102 x1 l2 l3 l4 (0 : Int32) v f) = some RES := hF
    refine lv_iconst (v := (0 : Int32)) hx hb d_Mo_write_101 (by decide) ?_
    exact K102 ls _ _ l2 l3 l4 (0 : Int32) v f (lv_sub hl [0, 1, 2, 3, 4] rfl) hP hD hS hF
  have K56 : ∀ (ls : Array Slot) (H : Heap) (locs : List Loc) (l2 : Int32) (l3 : Int32) (s0 : Int32) (v : Nat → Int32) (f : Nat → Nat → Int32), lv_has ls 7 [(0, .ref (g 0)), (1, .int x1), (2, .int l2), (3, .int l3)] → va_P G.1 dm_cl (tw G g v f) H → va_D A (tw G g v f) → va_S A s.heap H locs → F_Mo_write_56 x1 l2 l3 s0 v f = some RES → W p l e rm_Mo_write s m ([.ref (g 0), .int x1] : List Value).toArray below meth c H locs 0 0 (dm_Z below G s ([.ref (g 0), .int x1] : List Value).toArray A rm_Mo_write.cells rm_Mo_write.slots (fun ov w' => ov = none ∧ w' = (tw G g RES.1 RES.2))) (F0 m 56 ls [.int s0]) := by
    intro ls H locs l2 l3 s0 v f hl hP hD hS hF
    have hF : (if s0 = (0 : Int32) then (F_Mo_write_101 x1 l2 l3 s0 v f) else (if x1 ≤ (0 : Int32) then (F_Mo_write_101 x1 l2 l3 s0 v f) else (if (x1 - (1 : Int32)) < 0 ∨ 64 ≤ (x1 - (1 : Int32)).toNatClampNeg then none else (if ((f 36) (x1 - (1 : Int32)).toNatClampNeg) = (0 : Int32) then (if (x1 - (1 : Int32)) < 0 ∨ 64 ≤ (x1 - (1 : Int32)).toNatClampNeg then none else (if ((f 35) (x1 - (1 : Int32)).toNatClampNeg) = (0 : Int32) then (Option.bind (F_Mo_isSecond x1 v f) (fun z1 => (if z1 = (0 : Int32) then (F_Mo_write_101 x1 l2 l3 s0 v f) else (F_Mo_write_102 x1 l2 l3 s0 (1 : Int32) v f)))) else (F_Mo_write_101 x1 l2 l3 s0 v f))) else (F_Mo_write_101 x1 l2 l3 s0 v f))))) = some RES := hF
    refine lv_istore (lv' := [(4, .int s0), (0, .ref (g 0)), (1, .int x1), (2, .int l2), (3, .int l3)]) hx hb d_Mo_write_56 hl (Nat.le_of_ble_eq_true rfl) rfl (fun ls hl => ?_)
    have hl : lv_has ls 7 [(0, .ref (g 0)), (1, .int x1), (2, .int l2), (3, .int l3), (4, .int s0)] := lv_sub hl [1, 2, 3, 4, 0] rfl
    refine lv_iload hx hb d_Mo_write_58 (lv_at hl 4 rfl) ?_
    refine lv_if_eq (tgt := 101) hx hb d_Mo_write_60 (by decide) (fun (hh : s0 = (0 : Int32)) => ?_) (fun (hh : ¬ s0 = (0 : Int32)) => ?_)
    · rw [if_pos hh] at hF
      exact K101 ls _ _ l2 l3 s0 v f (lv_sub hl [0, 1, 2, 3, 4] rfl) hP hD hS hF
    · rw [if_neg hh] at hF
      refine lv_iload_n hx hb d_Mo_write_63 rfl (lv_at hl 1 rfl) ?_
      refine lv_if_le (tgt := 101) hx hb d_Mo_write_64 (by decide) (fun (hh : x1 ≤ (0 : Int32)) => ?_) (fun (hh : ¬ x1 ≤ (0 : Int32)) => ?_)
      · rw [if_pos hh] at hF
        exact K101 ls _ _ l2 l3 s0 v f (lv_sub hl [0, 1, 2, 3, 4] rfl) hP hD hS hF
      · rw [if_neg hh] at hF
        refine lv_aload_n hx hb d_Mo_write_67 rfl (lv_at hl 0 rfl) ?_
        refine tw_g_0_36 B hP k_761 d_Mo_write_68 ?_
        refine lv_iload_n hx hb d_Mo_write_71 rfl (lv_at hl 1 rfl) ?_
        refine lv_iconst (v := (1 : Int32)) hx hb d_Mo_write_72 (by decide) ?_
        refine lv_isub hx hb d_Mo_write_73 ?_
        obtain ⟨hi, hF⟩ := dm_chk hF
        refine tw_a_12 (F := (f 36)) B hP rfl hi d_Mo_write_74 ?_
        refine lv_if_ne (tgt := 101) hx hb d_Mo_write_75 (by decide) (fun (hh : ¬ ((f 36) (x1 - (1 : Int32)).toNatClampNeg) = (0 : Int32)) => ?_) (fun (hh : ((f 36) (x1 - (1 : Int32)).toNatClampNeg) = (0 : Int32)) => ?_)
        · rw [if_neg hh] at hF
          exact K101 ls _ _ l2 l3 s0 v f (lv_sub hl [0, 1, 2, 3, 4] rfl) hP hD hS hF
        · rw [if_pos hh] at hF
          refine lv_aload_n hx hb d_Mo_write_78 rfl (lv_at hl 0 rfl) ?_
          refine tw_g_0_35 B hP k_760 d_Mo_write_79 ?_
          refine lv_iload_n hx hb d_Mo_write_82 rfl (lv_at hl 1 rfl) ?_
          refine lv_iconst (v := (1 : Int32)) hx hb d_Mo_write_83 (by decide) ?_
          refine lv_isub hx hb d_Mo_write_84 ?_
          obtain ⟨hi, hF⟩ := dm_chk hF
          refine tw_a_11 (F := (f 35)) B hP rfl hi d_Mo_write_85 ?_
          refine lv_if_ne (tgt := 101) hx hb d_Mo_write_86 (by decide) (fun (hh : ¬ ((f 35) (x1 - (1 : Int32)).toNatClampNeg) = (0 : Int32)) => ?_) (fun (hh : ((f 35) (x1 - (1 : Int32)).toNatClampNeg) = (0 : Int32)) => ?_)
          · rw [if_neg hh] at hF
            exact K101 ls _ _ l2 l3 s0 v f (lv_sub hl [0, 1, 2, 3, 4] rfl) hP hD hS hF
          · rw [if_pos hh] at hF
            refine lv_aload_n hx hb d_Mo_write_89 rfl (lv_at hl 0 rfl) ?_
            refine lv_iload_n hx hb d_Mo_write_90 rfl (lv_at hl 1 rfl) ?_
            obtain ⟨z1, hcz1, hF⟩ := dm_bind hF
            refine dm_callVw B [.int x1] (c_Mo_isSecond l G g x1 v f z1 hcz1) k_1001 k_1003 ks_33 k_14 k_1004 hd_Mo_isSecond rfl ⟨by decide, by decide⟩ 0 rfl rfl hP hD hS hl.1 (rest := []) rfl (Nat.le_of_ble_eq_true rfl) d_Mo_write_91 ⟨by decide, by decide⟩ (fun ov w' H locs hq hP hD hS => ?_)
            obtain ⟨rfl, rfl⟩ := hq
            have hP : va_P G.1 dm_cl (tw G g v f) H := hP
            have hD : va_D A (tw G g v f) := hD
            refine W.eq (g2 := F0 m 94 ls [.int z1]) rfl ?_
            refine lv_if_eq (tgt := 101) hx hb d_Mo_write_94 (by decide) (fun (hh : z1 = (0 : Int32)) => ?_) (fun (hh : ¬ z1 = (0 : Int32)) => ?_)
            · rw [if_pos hh] at hF
              exact K101 ls _ _ l2 l3 s0 v f (lv_sub hl [0, 1, 2, 3, 4] rfl) hP hD hS hF
            · rw [if_neg hh] at hF
              refine lv_iconst (v := (1 : Int32)) hx hb d_Mo_write_97 (by decide) ?_
              refine lv_goto (tgt := 102) hx hb d_Mo_write_98 (by decide) ?_
              exact K102 ls _ _ l2 l3 s0 (1 : Int32) v f (lv_sub hl [0, 1, 2, 3, 4] rfl) hP hD hS hF
  have K55 : ∀ (ls : Array Slot) (H : Heap) (locs : List Loc) (l2 : Int32) (l3 : Int32) (v : Nat → Int32) (f : Nat → Nat → Int32), lv_has ls 7 [(0, .ref (g 0)), (1, .int x1), (2, .int l2), (3, .int l3)] → va_P G.1 dm_cl (tw G g v f) H → va_D A (tw G g v f) → va_S A s.heap H locs → F_Mo_write_55 x1 l2 l3 v f = some RES → W p l e rm_Mo_write s m ([.ref (g 0), .int x1] : List Value).toArray below meth c H locs 0 0 (dm_Z below G s ([.ref (g 0), .int x1] : List Value).toArray A rm_Mo_write.cells rm_Mo_write.slots (fun ov w' => ov = none ∧ w' = (tw G g RES.1 RES.2))) (F0 m 55 ls []) := by
    intro ls H locs l2 l3 v f hl hP hD hS hF
    have hF : (F_Mo_write_56 x1 l2 l3 (0 : Int32) v f) = some RES := hF
    refine lv_iconst (v := (0 : Int32)) hx hb d_Mo_write_55 (by decide) ?_
    exact K56 ls _ _ l2 l3 (0 : Int32) v f (lv_sub hl [0, 1, 2, 3] rfl) hP hD hS hF
  have hF : (if x1 < 0 ∨ 64 ≤ x1.toNatClampNeg then none else (if x1 < 0 ∨ 64 ≤ x1.toNatClampNeg then none else (if x1 < 0 ∨ 64 ≤ x1.toNatClampNeg then none else (if x1 < 0 ∨ 64 ≤ x1.toNatClampNeg then none else (if x1 < 0 ∨ 64 ≤ x1.toNatClampNeg then none else (if ((f 35) x1.toNatClampNeg) = (0 : Int32) then (if x1 < 0 ∨ 64 ≤ x1.toNatClampNeg then none else (if ((f 36) x1.toNatClampNeg) = (0 : Int32) then (F_Mo_write_56 x1 ((f 39) x1.toNatClampNeg) ((((f 35) x1.toNatClampNeg) ||| (((f 36) x1.toNatClampNeg) <<< ((4 : Int32) &&& 31))) ||| (((f 40) x1.toNatClampNeg) <<< ((10 : Int32) &&& 31))) (1 : Int32) v f) else (F_Mo_write_55 x1 ((f 39) x1.toNatClampNeg) ((((f 35) x1.toNatClampNeg) ||| (((f 36) x1.toNatClampNeg) <<< ((4 : Int32) &&& 31))) ||| (((f 40) x1.toNatClampNeg) <<< ((10 : Int32) &&& 31))) v f))) else (F_Mo_write_55 x1 ((f 39) x1.toNatClampNeg) ((((f 35) x1.toNatClampNeg) ||| (((f 36) x1.toNatClampNeg) <<< ((4 : Int32) &&& 31))) ||| (((f 40) x1.toNatClampNeg) <<< ((10 : Int32) &&& 31))) v f))))))) = some RES := hF
  refine lv_aload_n hx hb d_Mo_write_0 rfl (lv_at hl 0 rfl) ?_
  refine tw_g_0_39 B hP k_764 d_Mo_write_1 ?_
  refine lv_iload_n hx hb d_Mo_write_4 rfl (lv_at hl 1 rfl) ?_
  obtain ⟨hi, hF⟩ := dm_chk hF
  refine tw_a_15 (F := (f 39)) B hP rfl hi d_Mo_write_5 ?_
  refine lv_istore_n (lv' := [(2, .int ((f 39) x1.toNatClampNeg)), (0, .ref (g 0)), (1, .int x1)]) hx hb d_Mo_write_6 rfl hl (Nat.le_of_ble_eq_true rfl) rfl (fun ls hl => ?_)
  have hl : lv_has ls 7 [(0, .ref (g 0)), (1, .int x1), (2, .int ((f 39) x1.toNatClampNeg))] := lv_sub hl [1, 2, 0] rfl
  refine lv_aload_n hx hb d_Mo_write_7 rfl (lv_at hl 0 rfl) ?_
  refine tw_g_0_35 B hP k_760 d_Mo_write_8 ?_
  refine lv_iload_n hx hb d_Mo_write_11 rfl (lv_at hl 1 rfl) ?_
  obtain ⟨hi, hF⟩ := dm_chk hF
  refine tw_a_11 (F := (f 35)) B hP rfl hi d_Mo_write_12 ?_
  refine lv_aload_n hx hb d_Mo_write_13 rfl (lv_at hl 0 rfl) ?_
  refine tw_g_0_36 B hP k_761 d_Mo_write_14 ?_
  refine lv_iload_n hx hb d_Mo_write_17 rfl (lv_at hl 1 rfl) ?_
  obtain ⟨hi, hF⟩ := dm_chk hF
  refine tw_a_12 (F := (f 36)) B hP rfl hi d_Mo_write_18 ?_
  refine lv_iconst (v := (4 : Int32)) hx hb d_Mo_write_19 (by decide) ?_
  refine lv_ishl hx hb d_Mo_write_20 ?_
  refine lv_ior hx hb d_Mo_write_21 ?_
  refine lv_aload_n hx hb d_Mo_write_22 rfl (lv_at hl 0 rfl) ?_
  refine tw_g_0_40 B hP k_765 d_Mo_write_23 ?_
  refine lv_iload_n hx hb d_Mo_write_26 rfl (lv_at hl 1 rfl) ?_
  obtain ⟨hi, hF⟩ := dm_chk hF
  refine tw_a_16 (F := (f 40)) B hP rfl hi d_Mo_write_27 ?_
  refine lv_bipush (v := (10 : Int32)) hx hb d_Mo_write_28 (by decide) ?_
  refine lv_ishl hx hb d_Mo_write_30 ?_
  refine lv_ior hx hb d_Mo_write_31 ?_
  refine lv_istore_n (lv' := [(3, .int ((((f 35) x1.toNatClampNeg) ||| (((f 36) x1.toNatClampNeg) <<< ((4 : Int32) &&& 31))) ||| (((f 40) x1.toNatClampNeg) <<< ((10 : Int32) &&& 31)))), (0, .ref (g 0)), (1, .int x1), (2, .int ((f 39) x1.toNatClampNeg))]) hx hb d_Mo_write_32 rfl hl (Nat.le_of_ble_eq_true rfl) rfl (fun ls hl => ?_)
  have hl : lv_has ls 7 [(0, .ref (g 0)), (1, .int x1), (2, .int ((f 39) x1.toNatClampNeg)), (3, .int ((((f 35) x1.toNatClampNeg) ||| (((f 36) x1.toNatClampNeg) <<< ((4 : Int32) &&& 31))) ||| (((f 40) x1.toNatClampNeg) <<< ((10 : Int32) &&& 31))))] := lv_sub hl [1, 2, 3, 0] rfl
  refine lv_aload_n hx hb d_Mo_write_33 rfl (lv_at hl 0 rfl) ?_
  refine tw_g_0_35 B hP k_760 d_Mo_write_34 ?_
  refine lv_iload_n hx hb d_Mo_write_37 rfl (lv_at hl 1 rfl) ?_
  obtain ⟨hi, hF⟩ := dm_chk hF
  refine tw_a_11 (F := (f 35)) B hP rfl hi d_Mo_write_38 ?_
  refine lv_if_ne (tgt := 55) hx hb d_Mo_write_39 (by decide) (fun (hh : ¬ ((f 35) x1.toNatClampNeg) = (0 : Int32)) => ?_) (fun (hh : ((f 35) x1.toNatClampNeg) = (0 : Int32)) => ?_)
  · rw [if_neg hh] at hF
    exact K55 ls _ _ ((f 39) x1.toNatClampNeg) ((((f 35) x1.toNatClampNeg) ||| (((f 36) x1.toNatClampNeg) <<< ((4 : Int32) &&& 31))) ||| (((f 40) x1.toNatClampNeg) <<< ((10 : Int32) &&& 31))) v f (lv_sub hl [0, 1, 2, 3] rfl) hP hD hS hF
  · rw [if_pos hh] at hF
    refine lv_aload_n hx hb d_Mo_write_42 rfl (lv_at hl 0 rfl) ?_
    refine tw_g_0_36 B hP k_761 d_Mo_write_43 ?_
    refine lv_iload_n hx hb d_Mo_write_46 rfl (lv_at hl 1 rfl) ?_
    obtain ⟨hi, hF⟩ := dm_chk hF
    refine tw_a_12 (F := (f 36)) B hP rfl hi d_Mo_write_47 ?_
    refine lv_if_ne (tgt := 55) hx hb d_Mo_write_48 (by decide) (fun (hh : ¬ ((f 36) x1.toNatClampNeg) = (0 : Int32)) => ?_) (fun (hh : ((f 36) x1.toNatClampNeg) = (0 : Int32)) => ?_)
    · rw [if_neg hh] at hF
      exact K55 ls _ _ ((f 39) x1.toNatClampNeg) ((((f 35) x1.toNatClampNeg) ||| (((f 36) x1.toNatClampNeg) <<< ((4 : Int32) &&& 31))) ||| (((f 40) x1.toNatClampNeg) <<< ((10 : Int32) &&& 31))) v f (lv_sub hl [0, 1, 2, 3] rfl) hP hD hS hF
    · rw [if_pos hh] at hF
      refine lv_iconst (v := (1 : Int32)) hx hb d_Mo_write_51 (by decide) ?_
      refine lv_goto (tgt := 56) hx hb d_Mo_write_52 (by decide) ?_
      exact K56 ls _ _ ((f 39) x1.toNatClampNeg) ((((f 35) x1.toNatClampNeg) ||| (((f 36) x1.toNatClampNeg) <<< ((4 : Int32) &&& 31))) ||| (((f 40) x1.toNatClampNeg) <<< ((10 : Int32) &&& 31))) (1 : Int32) v f (lv_sub hl [0, 1, 2, 3] rfl) hP hD hS hF
abbrev b_Mo_assemble : ByteArray := prog_16_method_37_code
abbrev y_Mo_assemble : MethodName := { cls := "DelayMachineModel", name := "assemble", desc := "()I" }
theorem d_Mo_assemble_0 : decode b_Mo_assemble 0 = .ok (.aload_n 0, 1) := by decide +kernel
theorem d_Mo_assemble_1 : decode b_Mo_assemble 1 = .ok (.getfield 206, 3) := by decide +kernel
theorem d_Mo_assemble_4 : decode b_Mo_assemble 4 = .ok (.ifCond .le (14), 3) := by decide +kernel
theorem d_Mo_assemble_7 : decode b_Mo_assemble 7 = .ok (.aload_n 0, 1) := by decide +kernel
theorem d_Mo_assemble_8 : decode b_Mo_assemble 8 = .ok (.getfield 97, 3) := by decide +kernel
theorem d_Mo_assemble_11 : decode b_Mo_assemble 11 = .ok (.ifCond .ne (7), 3) := by decide +kernel
theorem d_Mo_assemble_14 : decode b_Mo_assemble 14 = .ok (.iconst 1, 1) := by decide +kernel
theorem d_Mo_assemble_15 : decode b_Mo_assemble 15 = .ok (.goto (4), 3) := by decide +kernel
theorem d_Mo_assemble_18 : decode b_Mo_assemble 18 = .ok (.iconst 0, 1) := by decide +kernel
theorem d_Mo_assemble_19 : decode b_Mo_assemble 19 = .ok (.istore_n 1, 1) := by decide +kernel
theorem d_Mo_assemble_20 : decode b_Mo_assemble 20 = .ok (.iconst 0, 1) := by decide +kernel
theorem d_Mo_assemble_21 : decode b_Mo_assemble 21 = .ok (.istore_n 2, 1) := by decide +kernel
theorem d_Mo_assemble_22 : decode b_Mo_assemble 22 = .ok (.iload_n 2, 1) := by decide +kernel
theorem d_Mo_assemble_23 : decode b_Mo_assemble 23 = .ok (.aload_n 0, 1) := by decide +kernel
theorem d_Mo_assemble_24 : decode b_Mo_assemble 24 = .ok (.getfield 206, 3) := by decide +kernel
theorem d_Mo_assemble_27 : decode b_Mo_assemble 27 = .ok (.if_icmp .ge (42), 3) := by decide +kernel
theorem d_Mo_assemble_30 : decode b_Mo_assemble 30 = .ok (.iload_n 1, 1) := by decide +kernel
theorem d_Mo_assemble_31 : decode b_Mo_assemble 31 = .ok (.ifCond .eq (30), 3) := by decide +kernel
theorem d_Mo_assemble_34 : decode b_Mo_assemble 34 = .ok (.aload_n 0, 1) := by decide +kernel
theorem d_Mo_assemble_35 : decode b_Mo_assemble 35 = .ok (.getfield 33, 3) := by decide +kernel
theorem d_Mo_assemble_38 : decode b_Mo_assemble 38 = .ok (.iload_n 2, 1) := by decide +kernel
theorem d_Mo_assemble_39 : decode b_Mo_assemble 39 = .ok (.iaload, 1) := by decide +kernel
theorem d_Mo_assemble_40 : decode b_Mo_assemble 40 = .ok (.iconst 4, 1) := by decide +kernel
theorem d_Mo_assemble_41 : decode b_Mo_assemble 41 = .ok (.if_icmp .ne (16), 3) := by decide +kernel
theorem d_Mo_assemble_44 : decode b_Mo_assemble 44 = .ok (.aload_n 0, 1) := by decide +kernel
theorem d_Mo_assemble_45 : decode b_Mo_assemble 45 = .ok (.getfield 45, 3) := by decide +kernel
theorem d_Mo_assemble_48 : decode b_Mo_assemble 48 = .ok (.iload_n 2, 1) := by decide +kernel
theorem d_Mo_assemble_49 : decode b_Mo_assemble 49 = .ok (.iaload, 1) := by decide +kernel
theorem d_Mo_assemble_50 : decode b_Mo_assemble 50 = .ok (.aload_n 0, 1) := by decide +kernel
theorem d_Mo_assemble_51 : decode b_Mo_assemble 51 = .ok (.getfield 206, 3) := by decide +kernel
theorem d_Mo_assemble_54 : decode b_Mo_assemble 54 = .ok (.if_icmp .ge (7), 3) := by decide +kernel
theorem d_Mo_assemble_57 : decode b_Mo_assemble 57 = .ok (.iconst 1, 1) := by decide +kernel
theorem d_Mo_assemble_58 : decode b_Mo_assemble 58 = .ok (.goto (4), 3) := by decide +kernel
theorem d_Mo_assemble_61 : decode b_Mo_assemble 61 = .ok (.iconst 0, 1) := by decide +kernel
theorem d_Mo_assemble_62 : decode b_Mo_assemble 62 = .ok (.istore_n 1, 1) := by decide +kernel
theorem d_Mo_assemble_63 : decode b_Mo_assemble 63 = .ok (.iinc 2 (1), 3) := by decide +kernel
theorem d_Mo_assemble_66 : decode b_Mo_assemble 66 = .ok (.goto (-44), 3) := by decide +kernel
theorem d_Mo_assemble_69 : decode b_Mo_assemble 69 = .ok (.iload_n 1, 1) := by decide +kernel
theorem d_Mo_assemble_70 : decode b_Mo_assemble 70 = .ok (.ifCond .ne (5), 3) := by decide +kernel
theorem d_Mo_assemble_73 : decode b_Mo_assemble 73 = .ok (.iconst (-1), 1) := by decide +kernel
theorem d_Mo_assemble_74 : decode b_Mo_assemble 74 = .ok (.ireturn, 1) := by decide +kernel
theorem d_Mo_assemble_75 : decode b_Mo_assemble 75 = .ok (.aload_n 0, 1) := by decide +kernel
theorem d_Mo_assemble_76 : decode b_Mo_assemble 76 = .ok (.invokevirtual 230, 3) := by decide +kernel
theorem d_Mo_assemble_79 : decode b_Mo_assemble 79 = .ok (.aload_n 0, 1) := by decide +kernel
theorem d_Mo_assemble_80 : decode b_Mo_assemble 80 = .ok (.getfield 209, 3) := by decide +kernel
theorem d_Mo_assemble_83 : decode b_Mo_assemble 83 = .ok (.bipush (64), 2) := by decide +kernel
theorem d_Mo_assemble_85 : decode b_Mo_assemble 85 = .ok (.if_icmp .gt (10), 3) := by decide +kernel
theorem d_Mo_assemble_88 : decode b_Mo_assemble 88 = .ok (.aload_n 0, 1) := by decide +kernel
theorem d_Mo_assemble_89 : decode b_Mo_assemble 89 = .ok (.invokevirtual 233, 3) := by decide +kernel
theorem d_Mo_assemble_92 : decode b_Mo_assemble 92 = .ok (.ifCond .ne (5), 3) := by decide +kernel
theorem d_Mo_assemble_95 : decode b_Mo_assemble 95 = .ok (.iconst (-1), 1) := by decide +kernel
theorem d_Mo_assemble_96 : decode b_Mo_assemble 96 = .ok (.ireturn, 1) := by decide +kernel
theorem d_Mo_assemble_97 : decode b_Mo_assemble 97 = .ok (.iconst 0, 1) := by decide +kernel
theorem d_Mo_assemble_98 : decode b_Mo_assemble 98 = .ok (.istore_n 2, 1) := by decide +kernel
theorem d_Mo_assemble_99 : decode b_Mo_assemble 99 = .ok (.iload_n 2, 1) := by decide +kernel
theorem d_Mo_assemble_100 : decode b_Mo_assemble 100 = .ok (.bipush (64), 2) := by decide +kernel
theorem d_Mo_assemble_102 : decode b_Mo_assemble 102 = .ok (.if_icmp .ge (17), 3) := by decide +kernel
theorem d_Mo_assemble_105 : decode b_Mo_assemble 105 = .ok (.aload_n 0, 1) := by decide +kernel
theorem d_Mo_assemble_106 : decode b_Mo_assemble 106 = .ok (.getfield 7, 3) := by decide +kernel
theorem d_Mo_assemble_109 : decode b_Mo_assemble 109 = .ok (.iload_n 2, 1) := by decide +kernel
theorem d_Mo_assemble_110 : decode b_Mo_assemble 110 = .ok (.ldc 229, 2) := by decide +kernel
theorem d_Mo_assemble_112 : decode b_Mo_assemble 112 = .ok (.iastore, 1) := by decide +kernel
theorem d_Mo_assemble_113 : decode b_Mo_assemble 113 = .ok (.iinc 2 (1), 3) := by decide +kernel
theorem d_Mo_assemble_116 : decode b_Mo_assemble 116 = .ok (.goto (-17), 3) := by decide +kernel
theorem d_Mo_assemble_119 : decode b_Mo_assemble 119 = .ok (.iconst 0, 1) := by decide +kernel
theorem d_Mo_assemble_120 : decode b_Mo_assemble 120 = .ok (.istore_n 2, 1) := by decide +kernel
theorem d_Mo_assemble_121 : decode b_Mo_assemble 121 = .ok (.iload_n 2, 1) := by decide +kernel
theorem d_Mo_assemble_122 : decode b_Mo_assemble 122 = .ok (.aload_n 0, 1) := by decide +kernel
theorem d_Mo_assemble_123 : decode b_Mo_assemble 123 = .ok (.getfield 209, 3) := by decide +kernel
theorem d_Mo_assemble_126 : decode b_Mo_assemble 126 = .ok (.if_icmp .ge (14), 3) := by decide +kernel
theorem d_Mo_assemble_129 : decode b_Mo_assemble 129 = .ok (.aload_n 0, 1) := by decide +kernel
theorem d_Mo_assemble_130 : decode b_Mo_assemble 130 = .ok (.iload_n 2, 1) := by decide +kernel
theorem d_Mo_assemble_131 : decode b_Mo_assemble 131 = .ok (.invokevirtual 236, 3) := by decide +kernel
theorem d_Mo_assemble_134 : decode b_Mo_assemble 134 = .ok (.iinc 2 (1), 3) := by decide +kernel
theorem d_Mo_assemble_137 : decode b_Mo_assemble 137 = .ok (.goto (-16), 3) := by decide +kernel
theorem d_Mo_assemble_140 : decode b_Mo_assemble 140 = .ok (.aload_n 0, 1) := by decide +kernel
theorem d_Mo_assemble_141 : decode b_Mo_assemble 141 = .ok (.aload_n 0, 1) := by decide +kernel
theorem d_Mo_assemble_142 : decode b_Mo_assemble 142 = .ok (.getfield 206, 3) := by decide +kernel
theorem d_Mo_assemble_145 : decode b_Mo_assemble 145 = .ok (.putfield 239, 3) := by decide +kernel
theorem d_Mo_assemble_148 : decode b_Mo_assemble 148 = .ok (.iconst 0, 1) := by decide +kernel
theorem d_Mo_assemble_149 : decode b_Mo_assemble 149 = .ok (.istore_n 2, 1) := by decide +kernel
theorem d_Mo_assemble_150 : decode b_Mo_assemble 150 = .ok (.iload_n 2, 1) := by decide +kernel
theorem d_Mo_assemble_151 : decode b_Mo_assemble 151 = .ok (.aload_n 0, 1) := by decide +kernel
theorem d_Mo_assemble_152 : decode b_Mo_assemble 152 = .ok (.getfield 206, 3) := by decide +kernel
theorem d_Mo_assemble_155 : decode b_Mo_assemble 155 = .ok (.if_icmp .ge (25), 3) := by decide +kernel
theorem d_Mo_assemble_158 : decode b_Mo_assemble 158 = .ok (.aload_n 0, 1) := by decide +kernel
theorem d_Mo_assemble_159 : decode b_Mo_assemble 159 = .ok (.getfield 76, 3) := by decide +kernel
theorem d_Mo_assemble_162 : decode b_Mo_assemble 162 = .ok (.iload_n 2, 1) := by decide +kernel
theorem d_Mo_assemble_163 : decode b_Mo_assemble 163 = .ok (.aload_n 0, 1) := by decide +kernel
theorem d_Mo_assemble_164 : decode b_Mo_assemble 164 = .ok (.getfield 60, 3) := by decide +kernel
theorem d_Mo_assemble_167 : decode b_Mo_assemble 167 = .ok (.aload_n 0, 1) := by decide +kernel
theorem d_Mo_assemble_168 : decode b_Mo_assemble 168 = .ok (.iload_n 2, 1) := by decide +kernel
theorem d_Mo_assemble_169 : decode b_Mo_assemble 169 = .ok (.invokevirtual 226, 3) := by decide +kernel
theorem d_Mo_assemble_172 : decode b_Mo_assemble 172 = .ok (.iaload, 1) := by decide +kernel
theorem d_Mo_assemble_173 : decode b_Mo_assemble 173 = .ok (.iastore, 1) := by decide +kernel
theorem d_Mo_assemble_174 : decode b_Mo_assemble 174 = .ok (.iinc 2 (1), 3) := by decide +kernel
theorem d_Mo_assemble_177 : decode b_Mo_assemble 177 = .ok (.goto (-27), 3) := by decide +kernel
theorem d_Mo_assemble_180 : decode b_Mo_assemble 180 = .ok (.iconst 0, 1) := by decide +kernel
theorem d_Mo_assemble_181 : decode b_Mo_assemble 181 = .ok (.istore_n 2, 1) := by decide +kernel
theorem d_Mo_assemble_182 : decode b_Mo_assemble 182 = .ok (.iload_n 2, 1) := by decide +kernel
theorem d_Mo_assemble_183 : decode b_Mo_assemble 183 = .ok (.bipush (16), 2) := by decide +kernel
theorem d_Mo_assemble_185 : decode b_Mo_assemble 185 = .ok (.if_icmp .ge (21), 3) := by decide +kernel
theorem d_Mo_assemble_188 : decode b_Mo_assemble 188 = .ok (.aload_n 0, 1) := by decide +kernel
theorem d_Mo_assemble_189 : decode b_Mo_assemble 189 = .ok (.getfield 79, 3) := by decide +kernel
theorem d_Mo_assemble_192 : decode b_Mo_assemble 192 = .ok (.iload_n 2, 1) := by decide +kernel
theorem d_Mo_assemble_193 : decode b_Mo_assemble 193 = .ok (.aload_n 0, 1) := by decide +kernel
theorem d_Mo_assemble_194 : decode b_Mo_assemble 194 = .ok (.getfield 73, 3) := by decide +kernel
theorem d_Mo_assemble_197 : decode b_Mo_assemble 197 = .ok (.iload_n 2, 1) := by decide +kernel
theorem d_Mo_assemble_198 : decode b_Mo_assemble 198 = .ok (.iaload, 1) := by decide +kernel
theorem d_Mo_assemble_199 : decode b_Mo_assemble 199 = .ok (.iastore, 1) := by decide +kernel
theorem d_Mo_assemble_200 : decode b_Mo_assemble 200 = .ok (.iinc 2 (1), 3) := by decide +kernel
theorem d_Mo_assemble_203 : decode b_Mo_assemble 203 = .ok (.goto (-21), 3) := by decide +kernel
theorem d_Mo_assemble_206 : decode b_Mo_assemble 206 = .ok (.aload_n 0, 1) := by decide +kernel
theorem d_Mo_assemble_207 : decode b_Mo_assemble 207 = .ok (.getfield 209, 3) := by decide +kernel
theorem d_Mo_assemble_210 : decode b_Mo_assemble 210 = .ok (.ireturn, 1) := by decide +kernel
theorem hd_Mo_assemble : y_Mo_assemble.cls ≠ "java/lang/invoke/MethodHandle" ∧ y_Mo_assemble.cls ≠ "java/lang/invoke/VarHandle" ∧ (parseMethodDescriptor y_Mo_assemble.desc).map (fun d => d.parameters.length) = some 0 := by decide +kernel
abbrev rm_Mo_assemble : Room := { frames := 2, cells := 0, slots := 0, locals := 50 }
def F_Mo_assemble_62  (k22 : Int32 → Int32 → (Nat → Int32) → (Nat → Nat → Int32) → Option (Int32 × (Nat → Int32) × (Nat → Nat → Int32))) (l2 : Int32) (s0 : Int32) (v : Nat → Int32) (f : Nat → Nat → Int32) : Option (Int32 × (Nat → Int32) × (Nat → Nat → Int32)) := (k22 s0 (l2 + (1 : Int32)) v f)
def F_Mo_assemble_61  (k22 : Int32 → Int32 → (Nat → Int32) → (Nat → Nat → Int32) → Option (Int32 × (Nat → Int32) × (Nat → Nat → Int32))) (l2 : Int32) (v : Nat → Int32) (f : Nat → Nat → Int32) : Option (Int32 × (Nat → Int32) × (Nat → Nat → Int32)) := (F_Mo_assemble_62  (k22) l2 (0 : Int32) v f)
def F_Mo_assemble_57  (k22 : Int32 → Int32 → (Nat → Int32) → (Nat → Nat → Int32) → Option (Int32 × (Nat → Int32) × (Nat → Nat → Int32))) (l2 : Int32) (v : Nat → Int32) (f : Nat → Nat → Int32) : Option (Int32 × (Nat → Int32) × (Nat → Nat → Int32)) := (F_Mo_assemble_62  (k22) l2 (1 : Int32) v f)
def F_Mo_assemble_95    (v : Nat → Int32) (f : Nat → Nat → Int32) : Option (Int32 × (Nat → Int32) × (Nat → Nat → Int32)) := (some ((-1 : Int32), v, f))
def F_Mo_assemble_182   : Nat → Int32 → (Nat → Int32) → (Nat → Nat → Int32) → Option (Int32 × (Nat → Int32) × (Nat → Nat → Int32))
  | 0, _, _, _ => none
  | n + 1, l2, v, f => (if (16 : Int32) ≤ l2 then (some ((v 34), v, f)) else (if l2 < 0 ∨ 16 ≤ l2.toNatClampNeg then none else (if l2 < 0 ∨ 16 ≤ l2.toNatClampNeg then none else (F_Mo_assemble_182  n (l2 + (1 : Int32)) v (va_up f 46 (upd (f 46) l2.toNatClampNeg ((f 43) l2.toNatClampNeg)))))))
def F_Mo_assemble_150   : Nat → Int32 → (Nat → Int32) → (Nat → Nat → Int32) → Option (Int32 × (Nat → Int32) × (Nat → Nat → Int32))
  | 0, _, _, _ => none
  | n + 1, l2, v, f => (if (v 28) ≤ l2 then (F_Mo_assemble_182  100 (0 : Int32) v f) else (Option.bind (F_Mo_firstOf l2 v f) (fun z1 => (if z1 < 0 ∨ 64 ≤ z1.toNatClampNeg then none else (if l2 < 0 ∨ 12 ≤ l2.toNatClampNeg then none else (F_Mo_assemble_150  n (l2 + (1 : Int32)) v (va_up f 45 (upd (f 45) l2.toNatClampNeg ((f 39) z1.toNatClampNeg)))))))))
def F_Mo_assemble_121   : Nat → Int32 → (Nat → Int32) → (Nat → Nat → Int32) → Option (Int32 × (Nat → Int32) × (Nat → Nat → Int32))
  | 0, _, _, _ => none
  | n + 1, l2, v, f => (if (v 34) ≤ l2 then (F_Mo_assemble_150  100 (0 : Int32) (va_up v 44 (v 28)) f) else (Option.bind (F_Mo_write l2 v f) (fun z1 => (F_Mo_assemble_121  n (l2 + (1 : Int32)) z1.1 z1.2))))
def F_Mo_assemble_99   : Nat → Int32 → (Nat → Int32) → (Nat → Nat → Int32) → Option (Int32 × (Nat → Int32) × (Nat → Nat → Int32))
  | 0, _, _, _ => none
  | n + 1, l2, v, f => (if (64 : Int32) ≤ l2 then (F_Mo_assemble_121  100 (0 : Int32) v f) else (if l2 < 0 ∨ 64 ≤ l2.toNatClampNeg then none else (F_Mo_assemble_99  n (l2 + (1 : Int32)) v (va_up f 0 (upd (f 0) l2.toNatClampNeg (1015824 : Int32))))))
def F_Mo_assemble_22   : Nat → Int32 → Int32 → (Nat → Int32) → (Nat → Nat → Int32) → Option (Int32 × (Nat → Int32) × (Nat → Nat → Int32))
  | 0, _, _, _, _ => none
  | n + 1, l1, l2, v, f => (if (v 28) ≤ l2 then (if l1 = (0 : Int32) then (some ((-1 : Int32), v, f)) else (Option.bind (F_Mo_listAll  v f) (fun z1 => (if (64 : Int32) < (z1.1 34) then (F_Mo_assemble_95  z1.1 z1.2) else (Option.bind (F_Mo_place  z1.1 z1.2) (fun z2 => (if z2.1 = (0 : Int32) then (F_Mo_assemble_95  z2.2.1 z2.2.2) else (F_Mo_assemble_99  100 (0 : Int32) z2.2.1 z2.2.2)))))))) else (if l1 = (0 : Int32) then (F_Mo_assemble_61  (F_Mo_assemble_22  n) l2 v f) else (if l2 < 0 ∨ 12 ≤ l2.toNatClampNeg then none else (if ((f 29) l2.toNatClampNeg) = (4 : Int32) then (if l2 < 0 ∨ 12 ≤ l2.toNatClampNeg then none else (if (v 28) ≤ ((f 33) l2.toNatClampNeg) then (F_Mo_assemble_61  (F_Mo_assemble_22  n) l2 v f) else (F_Mo_assemble_57  (F_Mo_assemble_22  n) l2 v f))) else (F_Mo_assemble_57  (F_Mo_assemble_22  n) l2 v f)))))
def F_Mo_assemble_19   (s0 : Int32) (v : Nat → Int32) (f : Nat → Nat → Int32) : Option (Int32 × (Nat → Int32) × (Nat → Nat → Int32)) := (F_Mo_assemble_22  100 s0 (0 : Int32) v f)
def F_Mo_assemble_18    (v : Nat → Int32) (f : Nat → Nat → Int32) : Option (Int32 × (Nat → Int32) × (Nat → Nat → Int32)) := (F_Mo_assemble_19  (0 : Int32) v f)
def F_Mo_assemble  (v : Nat → Int32) (f : Nat → Nat → Int32) : Option (Int32 × (Nat → Int32) × (Nat → Nat → Int32)) := (if (v 28) ≤ (0 : Int32) then (F_Mo_assemble_18  v f) else (if (v 3) = (0 : Int32) then (F_Mo_assemble_19  (1 : Int32) v f) else (F_Mo_assemble_18  v f)))
set_option maxHeartbeats 4000000 in
set_option maxRecDepth 100000 in
theorem c_Mo_assemble (l : Launch) (G : dm_G) (g : Nat → Nat) (v : Nat → Int32) (f : Nat → Nat → Int32) (RES : Int32 × (Nat → Int32) × (Nat → Nat → Int32)) (hF : F_Mo_assemble v f = some RES) : dm_Ct l y_Mo_assemble b_Mo_assemble 3 (some .int) rm_Mo_assemble G (tw G g v f) [.ref (g 0)] (fun ov w' => ov = some (.int RES.1) ∧ w' = (tw G g RES.2.1 RES.2.2)) := by
  refine dm_Ct.of (by decide +kernel) (Nat.le_of_ble_eq_true rfl) ?_
  intro p e s m below meth c A ls B hl hP hD hS
  have hx := B.1
  have hb := B.2.1
  have hl : lv_has ls 3 [(0, .ref (g 0))] := hl
  have K95 : ∀ (ls : Array Slot) (H : Heap) (locs : List Loc)  (v : Nat → Int32) (f : Nat → Nat → Int32), lv_has ls 3 [] → va_P G.1 dm_cl (tw G g v f) H → va_D A (tw G g v f) → va_S A s.heap H locs → F_Mo_assemble_95   v f = some RES → W p l e rm_Mo_assemble s m ([.ref (g 0)] : List Value).toArray below meth c H locs 0 0 (dm_Z below G s ([.ref (g 0)] : List Value).toArray A rm_Mo_assemble.cells rm_Mo_assemble.slots (fun ov w' => ov = some (.int RES.1) ∧ w' = (tw G g RES.2.1 RES.2.2))) (F0 m 95 ls []) := by
    intro ls H locs v f hl hP hD hS hF
    have hF : (some ((-1 : Int32), v, f)) = some RES := hF
    refine lv_iconst (v := (-1 : Int32)) hx hb d_Mo_assemble_95 (by decide) ?_
    have hF := Option.some.inj hF
    subst hF
    exact dm_ret B rfl d_Mo_assemble_96 (by decide) (by decide) hP hD hS ⟨rfl, rfl⟩
  have K182 : ∀ (n182 : Nat) (ls : Array Slot) (H : Heap) (locs : List Loc) (l2 : Int32) (v : Nat → Int32) (f : Nat → Nat → Int32), lv_has ls 3 [(0, .ref (g 0)), (2, .int l2)] → va_P G.1 dm_cl (tw G g v f) H → va_D A (tw G g v f) → va_S A s.heap H locs → F_Mo_assemble_182  n182 l2 v f = some RES → W p l e rm_Mo_assemble s m ([.ref (g 0)] : List Value).toArray below meth c H locs 0 0 (dm_Z below G s ([.ref (g 0)] : List Value).toArray A rm_Mo_assemble.cells rm_Mo_assemble.slots (fun ov w' => ov = some (.int RES.1) ∧ w' = (tw G g RES.2.1 RES.2.2))) (F0 m 182 ls []) := by
    intro n182
    induction n182 with
    | zero => intro ls H locs l2 v f hl hP hD hS hF; cases hF
    | succ n182 ih182 =>
      intro ls H locs l2 v f hl hP hD hS hF
      have hF : (if (16 : Int32) ≤ l2 then (some ((v 34), v, f)) else (if l2 < 0 ∨ 16 ≤ l2.toNatClampNeg then none else (if l2 < 0 ∨ 16 ≤ l2.toNatClampNeg then none else (F_Mo_assemble_182  n182 (l2 + (1 : Int32)) v (va_up f 46 (upd (f 46) l2.toNatClampNeg ((f 43) l2.toNatClampNeg))))))) = some RES := hF
      refine lv_iload_n hx hb d_Mo_assemble_182 rfl (lv_at hl 1 rfl) ?_
      refine lv_bipush (v := (16 : Int32)) hx hb d_Mo_assemble_183 (by decide) ?_
      refine lv_icmp_ge (tgt := 206) hx hb d_Mo_assemble_185 (by decide) (fun (hh : (16 : Int32) ≤ l2) => ?_) (fun (hh : ¬ (16 : Int32) ≤ l2) => ?_)
      · rw [if_pos hh] at hF
        refine lv_aload_n hx hb d_Mo_assemble_206 rfl (lv_at hl 0 rfl) ?_
        refine tw_g_0_34 (x := (v 34)) B hP rfl k_759 d_Mo_assemble_207 ?_
        have hF := Option.some.inj hF
        subst hF
        exact dm_ret B rfl d_Mo_assemble_210 (by decide) (by decide) hP hD hS ⟨rfl, rfl⟩
      · rw [if_neg hh] at hF
        refine lv_aload_n hx hb d_Mo_assemble_188 rfl (lv_at hl 0 rfl) ?_
        refine tw_g_0_46 B hP k_771 d_Mo_assemble_189 ?_
        refine lv_iload_n hx hb d_Mo_assemble_192 rfl (lv_at hl 1 rfl) ?_
        refine lv_aload_n hx hb d_Mo_assemble_193 rfl (lv_at hl 0 rfl) ?_
        refine tw_g_0_43 B hP k_768 d_Mo_assemble_194 ?_
        refine lv_iload_n hx hb d_Mo_assemble_197 rfl (lv_at hl 1 rfl) ?_
        obtain ⟨hi, hF⟩ := dm_chk hF
        refine tw_a_19 (F := (f 43)) B hP rfl hi d_Mo_assemble_198 ?_
        obtain ⟨hi, hF⟩ := dm_chk hF
        refine tw_s_21 (F := (f 46)) B hP hD hS rfl hi d_Mo_assemble_199 (fun H locs hP hD hS => ?_)
        refine lv_iinc (k := 1) (v := (l2 + (1 : Int32))) (lv' := [(2, .int (l2 + (1 : Int32))), (0, .ref (g 0))]) hx hb d_Mo_assemble_200 hl rfl (congrArg (fun q => l2 + q) (by decide)) (Nat.le_of_ble_eq_true rfl) rfl (fun ls hl => ?_)
        have hl : lv_has ls 3 [(0, .ref (g 0)), (2, .int (l2 + (1 : Int32)))] := lv_sub hl [1, 0] rfl
        refine lv_goto (tgt := 182) hx hb d_Mo_assemble_203 (by decide) ?_
        exact ih182 ls _ _ (l2 + (1 : Int32)) v (va_up f 46 (upd (f 46) l2.toNatClampNeg ((f 43) l2.toNatClampNeg))) (lv_sub hl [0, 1] rfl) hP hD hS hF
  have K150 : ∀ (n150 : Nat) (ls : Array Slot) (H : Heap) (locs : List Loc) (l2 : Int32) (v : Nat → Int32) (f : Nat → Nat → Int32), lv_has ls 3 [(0, .ref (g 0)), (2, .int l2)] → va_P G.1 dm_cl (tw G g v f) H → va_D A (tw G g v f) → va_S A s.heap H locs → F_Mo_assemble_150  n150 l2 v f = some RES → W p l e rm_Mo_assemble s m ([.ref (g 0)] : List Value).toArray below meth c H locs 0 0 (dm_Z below G s ([.ref (g 0)] : List Value).toArray A rm_Mo_assemble.cells rm_Mo_assemble.slots (fun ov w' => ov = some (.int RES.1) ∧ w' = (tw G g RES.2.1 RES.2.2))) (F0 m 150 ls []) := by
    intro n150
    induction n150 with
    | zero => intro ls H locs l2 v f hl hP hD hS hF; cases hF
    | succ n150 ih150 =>
      intro ls H locs l2 v f hl hP hD hS hF
      have hF : (if (v 28) ≤ l2 then (F_Mo_assemble_182  100 (0 : Int32) v f) else (Option.bind (F_Mo_firstOf l2 v f) (fun z1 => (if z1 < 0 ∨ 64 ≤ z1.toNatClampNeg then none else (if l2 < 0 ∨ 12 ≤ l2.toNatClampNeg then none else (F_Mo_assemble_150  n150 (l2 + (1 : Int32)) v (va_up f 45 (upd (f 45) l2.toNatClampNeg ((f 39) z1.toNatClampNeg))))))))) = some RES := hF
      refine lv_iload_n hx hb d_Mo_assemble_150 rfl (lv_at hl 1 rfl) ?_
      refine lv_aload_n hx hb d_Mo_assemble_151 rfl (lv_at hl 0 rfl) ?_
      refine tw_g_0_28 (x := (v 28)) B hP rfl k_753 d_Mo_assemble_152 ?_
      refine lv_icmp_ge (tgt := 180) hx hb d_Mo_assemble_155 (by decide) (fun (hh : (v 28) ≤ l2) => ?_) (fun (hh : ¬ (v 28) ≤ l2) => ?_)
      · rw [if_pos hh] at hF
        refine lv_iconst (v := (0 : Int32)) hx hb d_Mo_assemble_180 (by decide) ?_
        refine lv_istore_n (lv' := [(2, .int (0 : Int32)), (0, .ref (g 0))]) hx hb d_Mo_assemble_181 rfl hl (Nat.le_of_ble_eq_true rfl) rfl (fun ls hl => ?_)
        have hl : lv_has ls 3 [(0, .ref (g 0)), (2, .int (0 : Int32))] := lv_sub hl [1, 0] rfl
        exact K182 100 ls _ _ (0 : Int32) v f (lv_sub hl [0, 1] rfl) hP hD hS hF
      · rw [if_neg hh] at hF
        refine lv_aload_n hx hb d_Mo_assemble_158 rfl (lv_at hl 0 rfl) ?_
        refine tw_g_0_45 B hP k_770 d_Mo_assemble_159 ?_
        refine lv_iload_n hx hb d_Mo_assemble_162 rfl (lv_at hl 1 rfl) ?_
        refine lv_aload_n hx hb d_Mo_assemble_163 rfl (lv_at hl 0 rfl) ?_
        refine tw_g_0_39 B hP k_764 d_Mo_assemble_164 ?_
        refine lv_aload_n hx hb d_Mo_assemble_167 rfl (lv_at hl 0 rfl) ?_
        refine lv_iload_n hx hb d_Mo_assemble_168 rfl (lv_at hl 1 rfl) ?_
        obtain ⟨z1, hcz1, hF⟩ := dm_bind hF
        refine dm_callVw B [.int l2] (c_Mo_firstOf l G g l2 v f z1 hcz1) k_1005 k_1007 ks_34 k_14 k_1008 hd_Mo_firstOf rfl ⟨by decide, by decide⟩ 0 rfl rfl hP hD hS hl.1 (rest := [.ref (g 40), .int l2, .ref (g 46)]) rfl (Nat.le_of_ble_eq_true rfl) d_Mo_assemble_169 ⟨by decide, by decide⟩ (fun ov w' H locs hq hP hD hS => ?_)
        obtain ⟨rfl, rfl⟩ := hq
        have hP : va_P G.1 dm_cl (tw G g v f) H := hP
        have hD : va_D A (tw G g v f) := hD
        refine W.eq (g2 := F0 m 172 ls [.int z1, .ref (g 40), .int l2, .ref (g 46)]) rfl ?_
        obtain ⟨hi, hF⟩ := dm_chk hF
        refine tw_a_15 (F := (f 39)) B hP rfl hi d_Mo_assemble_172 ?_
        obtain ⟨hi, hF⟩ := dm_chk hF
        refine tw_s_20 (F := (f 45)) B hP hD hS rfl hi d_Mo_assemble_173 (fun H locs hP hD hS => ?_)
        refine lv_iinc (k := 1) (v := (l2 + (1 : Int32))) (lv' := [(2, .int (l2 + (1 : Int32))), (0, .ref (g 0))]) hx hb d_Mo_assemble_174 hl rfl (congrArg (fun q => l2 + q) (by decide)) (Nat.le_of_ble_eq_true rfl) rfl (fun ls hl => ?_)
        have hl : lv_has ls 3 [(0, .ref (g 0)), (2, .int (l2 + (1 : Int32)))] := lv_sub hl [1, 0] rfl
        refine lv_goto (tgt := 150) hx hb d_Mo_assemble_177 (by decide) ?_
        exact ih150 ls _ _ (l2 + (1 : Int32)) v (va_up f 45 (upd (f 45) l2.toNatClampNeg ((f 39) z1.toNatClampNeg))) (lv_sub hl [0, 1] rfl) hP hD hS hF
  have K121 : ∀ (n121 : Nat) (ls : Array Slot) (H : Heap) (locs : List Loc) (l2 : Int32) (v : Nat → Int32) (f : Nat → Nat → Int32), lv_has ls 3 [(0, .ref (g 0)), (2, .int l2)] → va_P G.1 dm_cl (tw G g v f) H → va_D A (tw G g v f) → va_S A s.heap H locs → F_Mo_assemble_121  n121 l2 v f = some RES → W p l e rm_Mo_assemble s m ([.ref (g 0)] : List Value).toArray below meth c H locs 0 0 (dm_Z below G s ([.ref (g 0)] : List Value).toArray A rm_Mo_assemble.cells rm_Mo_assemble.slots (fun ov w' => ov = some (.int RES.1) ∧ w' = (tw G g RES.2.1 RES.2.2))) (F0 m 121 ls []) := by
    intro n121
    induction n121 with
    | zero => intro ls H locs l2 v f hl hP hD hS hF; cases hF
    | succ n121 ih121 =>
      intro ls H locs l2 v f hl hP hD hS hF
      have hF : (if (v 34) ≤ l2 then (F_Mo_assemble_150  100 (0 : Int32) (va_up v 44 (v 28)) f) else (Option.bind (F_Mo_write l2 v f) (fun z1 => (F_Mo_assemble_121  n121 (l2 + (1 : Int32)) z1.1 z1.2)))) = some RES := hF
      refine lv_iload_n hx hb d_Mo_assemble_121 rfl (lv_at hl 1 rfl) ?_
      refine lv_aload_n hx hb d_Mo_assemble_122 rfl (lv_at hl 0 rfl) ?_
      refine tw_g_0_34 (x := (v 34)) B hP rfl k_759 d_Mo_assemble_123 ?_
      refine lv_icmp_ge (tgt := 140) hx hb d_Mo_assemble_126 (by decide) (fun (hh : (v 34) ≤ l2) => ?_) (fun (hh : ¬ (v 34) ≤ l2) => ?_)
      · rw [if_pos hh] at hF
        refine lv_aload_n hx hb d_Mo_assemble_140 rfl (lv_at hl 0 rfl) ?_
        refine lv_aload_n hx hb d_Mo_assemble_141 rfl (lv_at hl 0 rfl) ?_
        refine tw_g_0_28 (x := (v 28)) B hP rfl k_753 d_Mo_assemble_142 ?_
        refine tw_p_0_44 (x := (v 28)) B hP hD hS k_769 d_Mo_assemble_145 (fun H locs hP hD hS => ?_)
        refine lv_iconst (v := (0 : Int32)) hx hb d_Mo_assemble_148 (by decide) ?_
        refine lv_istore_n (lv' := [(2, .int (0 : Int32)), (0, .ref (g 0))]) hx hb d_Mo_assemble_149 rfl hl (Nat.le_of_ble_eq_true rfl) rfl (fun ls hl => ?_)
        have hl : lv_has ls 3 [(0, .ref (g 0)), (2, .int (0 : Int32))] := lv_sub hl [1, 0] rfl
        exact K150 100 ls _ _ (0 : Int32) (va_up v 44 (v 28)) f (lv_sub hl [0, 1] rfl) hP hD hS hF
      · rw [if_neg hh] at hF
        refine lv_aload_n hx hb d_Mo_assemble_129 rfl (lv_at hl 0 rfl) ?_
        refine lv_iload_n hx hb d_Mo_assemble_130 rfl (lv_at hl 1 rfl) ?_
        obtain ⟨z1, hcz1, hF⟩ := dm_bind hF
        refine dm_callVw B [.int l2] (c_Mo_write l G g l2 v f z1 hcz1) k_997 k_999 ks_32 k_14 k_1000 hd_Mo_write rfl ⟨by decide, by decide⟩ 0 rfl rfl hP hD hS hl.1 (rest := []) rfl (Nat.le_of_ble_eq_true rfl) d_Mo_assemble_131 ⟨by decide, by decide⟩ (fun ov w' H locs hq hP hD hS => ?_)
        obtain ⟨rfl, rfl⟩ := hq
        have hP : va_P G.1 dm_cl (tw G g z1.1 z1.2) H := hP
        have hD : va_D A (tw G g z1.1 z1.2) := hD
        refine W.eq (g2 := F0 m 134 ls []) rfl ?_
        refine lv_iinc (k := 1) (v := (l2 + (1 : Int32))) (lv' := [(2, .int (l2 + (1 : Int32))), (0, .ref (g 0))]) hx hb d_Mo_assemble_134 hl rfl (congrArg (fun q => l2 + q) (by decide)) (Nat.le_of_ble_eq_true rfl) rfl (fun ls hl => ?_)
        have hl : lv_has ls 3 [(0, .ref (g 0)), (2, .int (l2 + (1 : Int32)))] := lv_sub hl [1, 0] rfl
        refine lv_goto (tgt := 121) hx hb d_Mo_assemble_137 (by decide) ?_
        exact ih121 ls _ _ (l2 + (1 : Int32)) z1.1 z1.2 (lv_sub hl [0, 1] rfl) hP hD hS hF
  have K99 : ∀ (n99 : Nat) (ls : Array Slot) (H : Heap) (locs : List Loc) (l2 : Int32) (v : Nat → Int32) (f : Nat → Nat → Int32), lv_has ls 3 [(0, .ref (g 0)), (2, .int l2)] → va_P G.1 dm_cl (tw G g v f) H → va_D A (tw G g v f) → va_S A s.heap H locs → F_Mo_assemble_99  n99 l2 v f = some RES → W p l e rm_Mo_assemble s m ([.ref (g 0)] : List Value).toArray below meth c H locs 0 0 (dm_Z below G s ([.ref (g 0)] : List Value).toArray A rm_Mo_assemble.cells rm_Mo_assemble.slots (fun ov w' => ov = some (.int RES.1) ∧ w' = (tw G g RES.2.1 RES.2.2))) (F0 m 99 ls []) := by
    intro n99
    induction n99 with
    | zero => intro ls H locs l2 v f hl hP hD hS hF; cases hF
    | succ n99 ih99 =>
      intro ls H locs l2 v f hl hP hD hS hF
      have hF : (if (64 : Int32) ≤ l2 then (F_Mo_assemble_121  100 (0 : Int32) v f) else (if l2 < 0 ∨ 64 ≤ l2.toNatClampNeg then none else (F_Mo_assemble_99  n99 (l2 + (1 : Int32)) v (va_up f 0 (upd (f 0) l2.toNatClampNeg (1015824 : Int32)))))) = some RES := hF
      refine lv_iload_n hx hb d_Mo_assemble_99 rfl (lv_at hl 1 rfl) ?_
      refine lv_bipush (v := (64 : Int32)) hx hb d_Mo_assemble_100 (by decide) ?_
      refine lv_icmp_ge (tgt := 119) hx hb d_Mo_assemble_102 (by decide) (fun (hh : (64 : Int32) ≤ l2) => ?_) (fun (hh : ¬ (64 : Int32) ≤ l2) => ?_)
      · rw [if_pos hh] at hF
        refine lv_iconst (v := (0 : Int32)) hx hb d_Mo_assemble_119 (by decide) ?_
        refine lv_istore_n (lv' := [(2, .int (0 : Int32)), (0, .ref (g 0))]) hx hb d_Mo_assemble_120 rfl hl (Nat.le_of_ble_eq_true rfl) rfl (fun ls hl => ?_)
        have hl : lv_has ls 3 [(0, .ref (g 0)), (2, .int (0 : Int32))] := lv_sub hl [1, 0] rfl
        exact K121 100 ls _ _ (0 : Int32) v f (lv_sub hl [0, 1] rfl) hP hD hS hF
      · rw [if_neg hh] at hF
        refine lv_aload_n hx hb d_Mo_assemble_105 rfl (lv_at hl 0 rfl) ?_
        refine tw_g_0_0 B hP k_725 d_Mo_assemble_106 ?_
        refine lv_iload_n hx hb d_Mo_assemble_109 rfl (lv_at hl 1 rfl) ?_
        refine dm_ldc B k_996 d_Mo_assemble_110 ?_
        obtain ⟨hi, hF⟩ := dm_chk hF
        refine tw_s_1 (F := (f 0)) B hP hD hS rfl hi d_Mo_assemble_112 (fun H locs hP hD hS => ?_)
        refine lv_iinc (k := 1) (v := (l2 + (1 : Int32))) (lv' := [(2, .int (l2 + (1 : Int32))), (0, .ref (g 0))]) hx hb d_Mo_assemble_113 hl rfl (congrArg (fun q => l2 + q) (by decide)) (Nat.le_of_ble_eq_true rfl) rfl (fun ls hl => ?_)
        have hl : lv_has ls 3 [(0, .ref (g 0)), (2, .int (l2 + (1 : Int32)))] := lv_sub hl [1, 0] rfl
        refine lv_goto (tgt := 99) hx hb d_Mo_assemble_116 (by decide) ?_
        exact ih99 ls _ _ (l2 + (1 : Int32)) v (va_up f 0 (upd (f 0) l2.toNatClampNeg (1015824 : Int32))) (lv_sub hl [0, 1] rfl) hP hD hS hF
  have K22 : ∀ (n22 : Nat) (ls : Array Slot) (H : Heap) (locs : List Loc) (l1 : Int32) (l2 : Int32) (v : Nat → Int32) (f : Nat → Nat → Int32), lv_has ls 3 [(0, .ref (g 0)), (1, .int l1), (2, .int l2)] → va_P G.1 dm_cl (tw G g v f) H → va_D A (tw G g v f) → va_S A s.heap H locs → F_Mo_assemble_22  n22 l1 l2 v f = some RES → W p l e rm_Mo_assemble s m ([.ref (g 0)] : List Value).toArray below meth c H locs 0 0 (dm_Z below G s ([.ref (g 0)] : List Value).toArray A rm_Mo_assemble.cells rm_Mo_assemble.slots (fun ov w' => ov = some (.int RES.1) ∧ w' = (tw G g RES.2.1 RES.2.2))) (F0 m 22 ls []) := by
    intro n22
    induction n22 with
    | zero => intro ls H locs l1 l2 v f hl hP hD hS hF; cases hF
    | succ n22 ih22 =>
      have K62 : ∀ (ls : Array Slot) (H : Heap) (locs : List Loc) (l2 : Int32) (s0 : Int32) (v : Nat → Int32) (f : Nat → Nat → Int32), lv_has ls 3 [(0, .ref (g 0)), (2, .int l2)] → va_P G.1 dm_cl (tw G g v f) H → va_D A (tw G g v f) → va_S A s.heap H locs → F_Mo_assemble_62  (F_Mo_assemble_22  n22) l2 s0 v f = some RES → W p l e rm_Mo_assemble s m ([.ref (g 0)] : List Value).toArray below meth c H locs 0 0 (dm_Z below G s ([.ref (g 0)] : List Value).toArray A rm_Mo_assemble.cells rm_Mo_assemble.slots (fun ov w' => ov = some (.int RES.1) ∧ w' = (tw G g RES.2.1 RES.2.2))) (F0 m 62 ls [.int s0]) := by
        intro ls H locs l2 s0 v f hl hP hD hS hF
        have hF : ((F_Mo_assemble_22  n22) s0 (l2 + (1 : Int32)) v f) = some RES := hF
        refine lv_istore_n (lv' := [(1, .int s0), (0, .ref (g 0)), (2, .int l2)]) hx hb d_Mo_assemble_62 rfl hl (Nat.le_of_ble_eq_true rfl) rfl (fun ls hl => ?_)
        have hl : lv_has ls 3 [(0, .ref (g 0)), (1, .int s0), (2, .int l2)] := lv_sub hl [1, 0, 2] rfl
        refine lv_iinc (k := 2) (v := (l2 + (1 : Int32))) (lv' := [(2, .int (l2 + (1 : Int32))), (0, .ref (g 0)), (1, .int s0)]) hx hb d_Mo_assemble_63 hl rfl (congrArg (fun q => l2 + q) (by decide)) (Nat.le_of_ble_eq_true rfl) rfl (fun ls hl => ?_)
        have hl : lv_has ls 3 [(0, .ref (g 0)), (1, .int s0), (2, .int (l2 + (1 : Int32)))] := lv_sub hl [1, 2, 0] rfl
        refine lv_goto (tgt := 22) hx hb d_Mo_assemble_66 (by decide) ?_
        exact ih22 ls _ _ s0 (l2 + (1 : Int32)) v f (lv_sub hl [0, 1, 2] rfl) hP hD hS hF
      have K61 : ∀ (ls : Array Slot) (H : Heap) (locs : List Loc) (l2 : Int32) (v : Nat → Int32) (f : Nat → Nat → Int32), lv_has ls 3 [(0, .ref (g 0)), (2, .int l2)] → va_P G.1 dm_cl (tw G g v f) H → va_D A (tw G g v f) → va_S A s.heap H locs → F_Mo_assemble_61  (F_Mo_assemble_22  n22) l2 v f = some RES → W p l e rm_Mo_assemble s m ([.ref (g 0)] : List Value).toArray below meth c H locs 0 0 (dm_Z below G s ([.ref (g 0)] : List Value).toArray A rm_Mo_assemble.cells rm_Mo_assemble.slots (fun ov w' => ov = some (.int RES.1) ∧ w' = (tw G g RES.2.1 RES.2.2))) (F0 m 61 ls []) := by
        intro ls H locs l2 v f hl hP hD hS hF
        have hF : (F_Mo_assemble_62  ((F_Mo_assemble_22  n22)) l2 (0 : Int32) v f) = some RES := hF
        refine lv_iconst (v := (0 : Int32)) hx hb d_Mo_assemble_61 (by decide) ?_
        exact K62 ls _ _ l2 (0 : Int32) v f (lv_sub hl [0, 1] rfl) hP hD hS hF
      have K57 : ∀ (ls : Array Slot) (H : Heap) (locs : List Loc) (l2 : Int32) (v : Nat → Int32) (f : Nat → Nat → Int32), lv_has ls 3 [(0, .ref (g 0)), (2, .int l2)] → va_P G.1 dm_cl (tw G g v f) H → va_D A (tw G g v f) → va_S A s.heap H locs → F_Mo_assemble_57  (F_Mo_assemble_22  n22) l2 v f = some RES → W p l e rm_Mo_assemble s m ([.ref (g 0)] : List Value).toArray below meth c H locs 0 0 (dm_Z below G s ([.ref (g 0)] : List Value).toArray A rm_Mo_assemble.cells rm_Mo_assemble.slots (fun ov w' => ov = some (.int RES.1) ∧ w' = (tw G g RES.2.1 RES.2.2))) (F0 m 57 ls []) := by
        intro ls H locs l2 v f hl hP hD hS hF
        have hF : (F_Mo_assemble_62  ((F_Mo_assemble_22  n22)) l2 (1 : Int32) v f) = some RES := hF
        refine lv_iconst (v := (1 : Int32)) hx hb d_Mo_assemble_57 (by decide) ?_
        refine lv_goto (tgt := 62) hx hb d_Mo_assemble_58 (by decide) ?_
        exact K62 ls _ _ l2 (1 : Int32) v f (lv_sub hl [0, 1] rfl) hP hD hS hF
      intro ls H locs l1 l2 v f hl hP hD hS hF
      have hF : (if (v 28) ≤ l2 then (if l1 = (0 : Int32) then (some ((-1 : Int32), v, f)) else (Option.bind (F_Mo_listAll  v f) (fun z1 => (if (64 : Int32) < (z1.1 34) then (F_Mo_assemble_95  z1.1 z1.2) else (Option.bind (F_Mo_place  z1.1 z1.2) (fun z2 => (if z2.1 = (0 : Int32) then (F_Mo_assemble_95  z2.2.1 z2.2.2) else (F_Mo_assemble_99  100 (0 : Int32) z2.2.1 z2.2.2)))))))) else (if l1 = (0 : Int32) then (F_Mo_assemble_61  (F_Mo_assemble_22  n22) l2 v f) else (if l2 < 0 ∨ 12 ≤ l2.toNatClampNeg then none else (if ((f 29) l2.toNatClampNeg) = (4 : Int32) then (if l2 < 0 ∨ 12 ≤ l2.toNatClampNeg then none else (if (v 28) ≤ ((f 33) l2.toNatClampNeg) then (F_Mo_assemble_61  (F_Mo_assemble_22  n22) l2 v f) else (F_Mo_assemble_57  (F_Mo_assemble_22  n22) l2 v f))) else (F_Mo_assemble_57  (F_Mo_assemble_22  n22) l2 v f))))) = some RES := hF
      refine lv_iload_n hx hb d_Mo_assemble_22 rfl (lv_at hl 2 rfl) ?_
      refine lv_aload_n hx hb d_Mo_assemble_23 rfl (lv_at hl 0 rfl) ?_
      refine tw_g_0_28 (x := (v 28)) B hP rfl k_753 d_Mo_assemble_24 ?_
      refine lv_icmp_ge (tgt := 69) hx hb d_Mo_assemble_27 (by decide) (fun (hh : (v 28) ≤ l2) => ?_) (fun (hh : ¬ (v 28) ≤ l2) => ?_)
      · rw [if_pos hh] at hF
        refine lv_iload_n hx hb d_Mo_assemble_69 rfl (lv_at hl 1 rfl) ?_
        refine lv_if_ne (tgt := 75) hx hb d_Mo_assemble_70 (by decide) (fun (hh : ¬ l1 = (0 : Int32)) => ?_) (fun (hh : l1 = (0 : Int32)) => ?_)
        · rw [if_neg hh] at hF
          refine lv_aload_n hx hb d_Mo_assemble_75 rfl (lv_at hl 0 rfl) ?_
          obtain ⟨z1, hcz1, hF⟩ := dm_bind hF
          refine dm_callVw B [] (c_Mo_listAll l G g  v f z1 hcz1) k_976 k_978 ks_27 k_14 k_979 hd_Mo_listAll rfl ⟨by decide, by decide⟩ 0 rfl rfl hP hD hS hl.1 (rest := []) rfl (Nat.le_of_ble_eq_true rfl) d_Mo_assemble_76 ⟨by decide, by decide⟩ (fun ov w' H locs hq hP hD hS => ?_)
          obtain ⟨rfl, rfl⟩ := hq
          have hP : va_P G.1 dm_cl (tw G g z1.1 z1.2) H := hP
          have hD : va_D A (tw G g z1.1 z1.2) := hD
          refine W.eq (g2 := F0 m 79 ls []) rfl ?_
          refine lv_aload_n hx hb d_Mo_assemble_79 rfl (lv_at hl 0 rfl) ?_
          refine tw_g_0_34 (x := (z1.1 34)) B hP rfl k_759 d_Mo_assemble_80 ?_
          refine lv_bipush (v := (64 : Int32)) hx hb d_Mo_assemble_83 (by decide) ?_
          refine lv_icmp_gt (tgt := 95) hx hb d_Mo_assemble_85 (by decide) (fun (hh : (64 : Int32) < (z1.1 34)) => ?_) (fun (hh : ¬ (64 : Int32) < (z1.1 34)) => ?_)
          · rw [if_pos hh] at hF
            exact K95 ls _ _ z1.1 z1.2 (lv_sub hl [] rfl) hP hD hS hF
          · rw [if_neg hh] at hF
            refine lv_aload_n hx hb d_Mo_assemble_88 rfl (lv_at hl 0 rfl) ?_
            obtain ⟨z2, hcz2, hF⟩ := dm_bind hF
            refine dm_callVw B [] (c_Mo_place l G g  z1.1 z1.2 z2 hcz2) k_984 k_986 ks_29 k_14 k_987 hd_Mo_place rfl ⟨by decide, by decide⟩ 0 rfl rfl hP hD hS hl.1 (rest := []) rfl (Nat.le_of_ble_eq_true rfl) d_Mo_assemble_89 ⟨by decide, by decide⟩ (fun ov w' H locs hq hP hD hS => ?_)
            obtain ⟨rfl, rfl⟩ := hq
            have hP : va_P G.1 dm_cl (tw G g z2.2.1 z2.2.2) H := hP
            have hD : va_D A (tw G g z2.2.1 z2.2.2) := hD
            refine W.eq (g2 := F0 m 92 ls [.int z2.1]) rfl ?_
            refine lv_if_ne (tgt := 97) hx hb d_Mo_assemble_92 (by decide) (fun (hh : ¬ z2.1 = (0 : Int32)) => ?_) (fun (hh : z2.1 = (0 : Int32)) => ?_)
            · rw [if_neg hh] at hF
              refine lv_iconst (v := (0 : Int32)) hx hb d_Mo_assemble_97 (by decide) ?_
              refine lv_istore_n (lv' := [(2, .int (0 : Int32)), (0, .ref (g 0)), (1, .int l1)]) hx hb d_Mo_assemble_98 rfl hl (Nat.le_of_ble_eq_true rfl) rfl (fun ls hl => ?_)
              have hl : lv_has ls 3 [(0, .ref (g 0)), (1, .int l1), (2, .int (0 : Int32))] := lv_sub hl [1, 2, 0] rfl
              exact K99 100 ls _ _ (0 : Int32) z2.2.1 z2.2.2 (lv_sub hl [0, 2] rfl) hP hD hS hF
            · rw [if_pos hh] at hF
              exact K95 ls _ _ z2.2.1 z2.2.2 (lv_sub hl [] rfl) hP hD hS hF
        · rw [if_pos hh] at hF
          refine lv_iconst (v := (-1 : Int32)) hx hb d_Mo_assemble_73 (by decide) ?_
          have hF := Option.some.inj hF
          subst hF
          exact dm_ret B rfl d_Mo_assemble_74 (by decide) (by decide) hP hD hS ⟨rfl, rfl⟩
      · rw [if_neg hh] at hF
        refine lv_iload_n hx hb d_Mo_assemble_30 rfl (lv_at hl 1 rfl) ?_
        refine lv_if_eq (tgt := 61) hx hb d_Mo_assemble_31 (by decide) (fun (hh : l1 = (0 : Int32)) => ?_) (fun (hh : ¬ l1 = (0 : Int32)) => ?_)
        · rw [if_pos hh] at hF
          exact K61 ls _ _ l2 v f (lv_sub hl [0, 2] rfl) hP hD hS hF
        · rw [if_neg hh] at hF
          refine lv_aload_n hx hb d_Mo_assemble_34 rfl (lv_at hl 0 rfl) ?_
          refine tw_g_0_29 B hP k_754 d_Mo_assemble_35 ?_
          refine lv_iload_n hx hb d_Mo_assemble_38 rfl (lv_at hl 2 rfl) ?_
          obtain ⟨hi, hF⟩ := dm_chk hF
          refine tw_a_6 (F := (f 29)) B hP rfl hi d_Mo_assemble_39 ?_
          refine lv_iconst (v := (4 : Int32)) hx hb d_Mo_assemble_40 (by decide) ?_
          refine lv_icmp_ne (tgt := 57) hx hb d_Mo_assemble_41 (by decide) (fun (hh : ¬ ((f 29) l2.toNatClampNeg) = (4 : Int32)) => ?_) (fun (hh : ((f 29) l2.toNatClampNeg) = (4 : Int32)) => ?_)
          · rw [if_neg hh] at hF
            exact K57 ls _ _ l2 v f (lv_sub hl [0, 2] rfl) hP hD hS hF
          · rw [if_pos hh] at hF
            refine lv_aload_n hx hb d_Mo_assemble_44 rfl (lv_at hl 0 rfl) ?_
            refine tw_g_0_33 B hP k_758 d_Mo_assemble_45 ?_
            refine lv_iload_n hx hb d_Mo_assemble_48 rfl (lv_at hl 2 rfl) ?_
            obtain ⟨hi, hF⟩ := dm_chk hF
            refine tw_a_10 (F := (f 33)) B hP rfl hi d_Mo_assemble_49 ?_
            refine lv_aload_n hx hb d_Mo_assemble_50 rfl (lv_at hl 0 rfl) ?_
            refine tw_g_0_28 (x := (v 28)) B hP rfl k_753 d_Mo_assemble_51 ?_
            refine lv_icmp_ge (tgt := 61) hx hb d_Mo_assemble_54 (by decide) (fun (hh : (v 28) ≤ ((f 33) l2.toNatClampNeg)) => ?_) (fun (hh : ¬ (v 28) ≤ ((f 33) l2.toNatClampNeg)) => ?_)
            · rw [if_pos hh] at hF
              exact K61 ls _ _ l2 v f (lv_sub hl [0, 2] rfl) hP hD hS hF
            · rw [if_neg hh] at hF
              exact K57 ls _ _ l2 v f (lv_sub hl [0, 2] rfl) hP hD hS hF
  have K19 : ∀ (ls : Array Slot) (H : Heap) (locs : List Loc) (s0 : Int32) (v : Nat → Int32) (f : Nat → Nat → Int32), lv_has ls 3 [(0, .ref (g 0))] → va_P G.1 dm_cl (tw G g v f) H → va_D A (tw G g v f) → va_S A s.heap H locs → F_Mo_assemble_19  s0 v f = some RES → W p l e rm_Mo_assemble s m ([.ref (g 0)] : List Value).toArray below meth c H locs 0 0 (dm_Z below G s ([.ref (g 0)] : List Value).toArray A rm_Mo_assemble.cells rm_Mo_assemble.slots (fun ov w' => ov = some (.int RES.1) ∧ w' = (tw G g RES.2.1 RES.2.2))) (F0 m 19 ls [.int s0]) := by
    intro ls H locs s0 v f hl hP hD hS hF
    have hF : (F_Mo_assemble_22  100 s0 (0 : Int32) v f) = some RES := hF
    refine lv_istore_n (lv' := [(1, .int s0), (0, .ref (g 0))]) hx hb d_Mo_assemble_19 rfl hl (Nat.le_of_ble_eq_true rfl) rfl (fun ls hl => ?_)
    have hl : lv_has ls 3 [(0, .ref (g 0)), (1, .int s0)] := lv_sub hl [1, 0] rfl
    refine lv_iconst (v := (0 : Int32)) hx hb d_Mo_assemble_20 (by decide) ?_
    refine lv_istore_n (lv' := [(2, .int (0 : Int32)), (0, .ref (g 0)), (1, .int s0)]) hx hb d_Mo_assemble_21 rfl hl (Nat.le_of_ble_eq_true rfl) rfl (fun ls hl => ?_)
    have hl : lv_has ls 3 [(0, .ref (g 0)), (1, .int s0), (2, .int (0 : Int32))] := lv_sub hl [1, 2, 0] rfl
    exact K22 100 ls _ _ s0 (0 : Int32) v f (lv_sub hl [0, 1, 2] rfl) hP hD hS hF
  have K18 : ∀ (ls : Array Slot) (H : Heap) (locs : List Loc)  (v : Nat → Int32) (f : Nat → Nat → Int32), lv_has ls 3 [(0, .ref (g 0))] → va_P G.1 dm_cl (tw G g v f) H → va_D A (tw G g v f) → va_S A s.heap H locs → F_Mo_assemble_18   v f = some RES → W p l e rm_Mo_assemble s m ([.ref (g 0)] : List Value).toArray below meth c H locs 0 0 (dm_Z below G s ([.ref (g 0)] : List Value).toArray A rm_Mo_assemble.cells rm_Mo_assemble.slots (fun ov w' => ov = some (.int RES.1) ∧ w' = (tw G g RES.2.1 RES.2.2))) (F0 m 18 ls []) := by
    intro ls H locs v f hl hP hD hS hF
    have hF : (F_Mo_assemble_19  (0 : Int32) v f) = some RES := hF
    refine lv_iconst (v := (0 : Int32)) hx hb d_Mo_assemble_18 (by decide) ?_
    exact K19 ls _ _ (0 : Int32) v f (lv_sub hl [0] rfl) hP hD hS hF
  have hF : (if (v 28) ≤ (0 : Int32) then (F_Mo_assemble_18  v f) else (if (v 3) = (0 : Int32) then (F_Mo_assemble_19  (1 : Int32) v f) else (F_Mo_assemble_18  v f))) = some RES := hF
  refine lv_aload_n hx hb d_Mo_assemble_0 rfl (lv_at hl 0 rfl) ?_
  refine tw_g_0_28 (x := (v 28)) B hP rfl k_753 d_Mo_assemble_1 ?_
  refine lv_if_le (tgt := 18) hx hb d_Mo_assemble_4 (by decide) (fun (hh : (v 28) ≤ (0 : Int32)) => ?_) (fun (hh : ¬ (v 28) ≤ (0 : Int32)) => ?_)
  · rw [if_pos hh] at hF
    exact K18 ls _ _ v f (lv_sub hl [0] rfl) hP hD hS hF
  · rw [if_neg hh] at hF
    refine lv_aload_n hx hb d_Mo_assemble_7 rfl (lv_at hl 0 rfl) ?_
    refine tw_g_0_3 (x := (v 3)) B hP rfl k_728 d_Mo_assemble_8 ?_
    refine lv_if_ne (tgt := 18) hx hb d_Mo_assemble_11 (by decide) (fun (hh : ¬ (v 3) = (0 : Int32)) => ?_) (fun (hh : (v 3) = (0 : Int32)) => ?_)
    · rw [if_neg hh] at hF
      exact K18 ls _ _ v f (lv_sub hl [0] rfl) hP hD hS hF
    · rw [if_pos hh] at hF
      refine lv_iconst (v := (1 : Int32)) hx hb d_Mo_assemble_14 (by decide) ?_
      refine lv_goto (tgt := 19) hx hb d_Mo_assemble_15 (by decide) ?_
      exact K19 ls _ _ (1 : Int32) v f (lv_sub hl [0] rfl) hP hD hS hF
abbrev b_Mo_placed : ByteArray := prog_16_method_38_code
abbrev y_Mo_placed : MethodName := { cls := "DelayMachineModel", name := "placed", desc := "(I)I" }
theorem d_Mo_placed_0 : decode b_Mo_placed 0 = .ok (.iload_n 1, 1) := by decide +kernel
theorem d_Mo_placed_1 : decode b_Mo_placed 1 = .ok (.ifCond .lt (11), 3) := by decide +kernel
theorem d_Mo_placed_4 : decode b_Mo_placed 4 = .ok (.iload_n 1, 1) := by decide +kernel
theorem d_Mo_placed_5 : decode b_Mo_placed 5 = .ok (.aload_n 0, 1) := by decide +kernel
theorem d_Mo_placed_6 : decode b_Mo_placed 6 = .ok (.getfield 239, 3) := by decide +kernel
theorem d_Mo_placed_9 : decode b_Mo_placed 9 = .ok (.if_icmp .lt (7), 3) := by decide +kernel
theorem d_Mo_placed_12 : decode b_Mo_placed 12 = .ok (.iconst (-1), 1) := by decide +kernel
theorem d_Mo_placed_13 : decode b_Mo_placed 13 = .ok (.goto (9), 3) := by decide +kernel
theorem d_Mo_placed_16 : decode b_Mo_placed 16 = .ok (.aload_n 0, 1) := by decide +kernel
theorem d_Mo_placed_17 : decode b_Mo_placed 17 = .ok (.getfield 76, 3) := by decide +kernel
theorem d_Mo_placed_20 : decode b_Mo_placed 20 = .ok (.iload_n 1, 1) := by decide +kernel
theorem d_Mo_placed_21 : decode b_Mo_placed 21 = .ok (.iaload, 1) := by decide +kernel
theorem d_Mo_placed_22 : decode b_Mo_placed 22 = .ok (.ireturn, 1) := by decide +kernel
theorem hd_Mo_placed : y_Mo_placed.cls ≠ "java/lang/invoke/MethodHandle" ∧ y_Mo_placed.cls ≠ "java/lang/invoke/VarHandle" ∧ (parseMethodDescriptor y_Mo_placed.desc).map (fun d => d.parameters.length) = some 1 := by decide +kernel
abbrev rm_Mo_placed : Room := { frames := 0, cells := 0, slots := 0, locals := 0 }
def F_Mo_placed_12 (x1 : Int32) (v : Nat → Int32) (f : Nat → Nat → Int32)    : Option (Int32) := (some (-1 : Int32))
def F_Mo_placed (x1 : Int32) (v : Nat → Int32) (f : Nat → Nat → Int32)  : Option (Int32) := (if x1 < (0 : Int32) then (F_Mo_placed_12 x1 v f) else (if x1 < (v 44) then (if x1 < 0 ∨ 12 ≤ x1.toNatClampNeg then none else (some ((f 45) x1.toNatClampNeg))) else (F_Mo_placed_12 x1 v f)))
set_option maxHeartbeats 4000000 in
set_option maxRecDepth 100000 in
theorem c_Mo_placed (l : Launch) (G : dm_G) (g : Nat → Nat) (x1 : Int32) (v : Nat → Int32) (f : Nat → Nat → Int32) (RES : Int32) (hF : F_Mo_placed x1 v f = some RES) : dm_Ct l y_Mo_placed b_Mo_placed 2 (some .int) rm_Mo_placed G (tw G g v f) [.ref (g 0), .int x1] (fun ov w' => ov = some (.int RES) ∧ w' = (tw G g v f)) := by
  refine dm_Ct.of (by decide +kernel) (Nat.le_of_ble_eq_true rfl) ?_
  intro p e s m below meth c A ls B hl hP hD hS
  have hx := B.1
  have hb := B.2.1
  have hl : lv_has ls 2 [(0, .ref (g 0)), (1, .int x1)] := hl
  have K12 : ∀ (ls : Array Slot) (H : Heap) (locs : List Loc)  , lv_has ls 2 [] → va_P G.1 dm_cl (tw G g v f) H → va_D A (tw G g v f) → va_S A s.heap H locs → F_Mo_placed_12 x1 v f   = some RES → W p l e rm_Mo_placed s m ([.ref (g 0), .int x1] : List Value).toArray below meth c H locs 0 0 (dm_Z below G s ([.ref (g 0), .int x1] : List Value).toArray A rm_Mo_placed.cells rm_Mo_placed.slots (fun ov w' => ov = some (.int RES) ∧ w' = (tw G g v f))) (F0 m 12 ls []) := by
    intro ls H locs  hl hP hD hS hF
    have hF : (some (-1 : Int32)) = some RES := hF
    refine lv_iconst (v := (-1 : Int32)) hx hb d_Mo_placed_12 (by decide) ?_
    refine lv_goto (tgt := 22) hx hb d_Mo_placed_13 (by decide) ?_
    have hF := Option.some.inj hF
    subst hF
    exact dm_ret B rfl d_Mo_placed_22 (by decide) (by decide) hP hD hS ⟨rfl, rfl⟩
  have hF : (if x1 < (0 : Int32) then (F_Mo_placed_12 x1 v f) else (if x1 < (v 44) then (if x1 < 0 ∨ 12 ≤ x1.toNatClampNeg then none else (some ((f 45) x1.toNatClampNeg))) else (F_Mo_placed_12 x1 v f))) = some RES := hF
  refine lv_iload_n hx hb d_Mo_placed_0 rfl (lv_at hl 1 rfl) ?_
  refine lv_if_lt (tgt := 12) hx hb d_Mo_placed_1 (by decide) (fun (hh : x1 < (0 : Int32)) => ?_) (fun (hh : ¬ x1 < (0 : Int32)) => ?_)
  · rw [if_pos hh] at hF
    exact K12 ls _ _  (lv_sub hl [] rfl) hP hD hS hF
  · rw [if_neg hh] at hF
    refine lv_iload_n hx hb d_Mo_placed_4 rfl (lv_at hl 1 rfl) ?_
    refine lv_aload_n hx hb d_Mo_placed_5 rfl (lv_at hl 0 rfl) ?_
    refine tw_g_0_44 (x := (v 44)) B hP rfl k_769 d_Mo_placed_6 ?_
    refine lv_icmp_lt (tgt := 16) hx hb d_Mo_placed_9 (by decide) (fun (hh : x1 < (v 44)) => ?_) (fun (hh : ¬ x1 < (v 44)) => ?_)
    · rw [if_pos hh] at hF
      refine lv_aload_n hx hb d_Mo_placed_16 rfl (lv_at hl 0 rfl) ?_
      refine tw_g_0_45 B hP k_770 d_Mo_placed_17 ?_
      refine lv_iload_n hx hb d_Mo_placed_20 rfl (lv_at hl 1 rfl) ?_
      obtain ⟨hi, hF⟩ := dm_chk hF
      refine tw_a_20 (F := (f 45)) B hP rfl hi d_Mo_placed_21 ?_
      have hF := Option.some.inj hF
      subst hF
      exact dm_ret B rfl d_Mo_placed_22 (by decide) (by decide) hP hD hS ⟨rfl, rfl⟩
    · rw [if_neg hh] at hF
      exact K12 ls _ _  (lv_sub hl [] rfl) hP hD hS hF
abbrev b_Mo_variable : ByteArray := prog_16_method_39_code
abbrev y_Mo_variable : MethodName := { cls := "DelayMachineModel", name := "variable", desc := "(I)I" }
theorem d_Mo_variable_0 : decode b_Mo_variable 0 = .ok (.iload_n 1, 1) := by decide +kernel
theorem d_Mo_variable_1 : decode b_Mo_variable 1 = .ok (.ifCond .lt (9), 3) := by decide +kernel
theorem d_Mo_variable_4 : decode b_Mo_variable 4 = .ok (.iload_n 1, 1) := by decide +kernel
theorem d_Mo_variable_5 : decode b_Mo_variable 5 = .ok (.bipush (15), 2) := by decide +kernel
theorem d_Mo_variable_7 : decode b_Mo_variable 7 = .ok (.if_icmp .le (7), 3) := by decide +kernel
theorem d_Mo_variable_10 : decode b_Mo_variable 10 = .ok (.iconst (-1), 1) := by decide +kernel
theorem d_Mo_variable_11 : decode b_Mo_variable 11 = .ok (.goto (9), 3) := by decide +kernel
theorem d_Mo_variable_14 : decode b_Mo_variable 14 = .ok (.aload_n 0, 1) := by decide +kernel
theorem d_Mo_variable_15 : decode b_Mo_variable 15 = .ok (.getfield 79, 3) := by decide +kernel
theorem d_Mo_variable_18 : decode b_Mo_variable 18 = .ok (.iload_n 1, 1) := by decide +kernel
theorem d_Mo_variable_19 : decode b_Mo_variable 19 = .ok (.iaload, 1) := by decide +kernel
theorem d_Mo_variable_20 : decode b_Mo_variable 20 = .ok (.ireturn, 1) := by decide +kernel
theorem hd_Mo_variable : y_Mo_variable.cls ≠ "java/lang/invoke/MethodHandle" ∧ y_Mo_variable.cls ≠ "java/lang/invoke/VarHandle" ∧ (parseMethodDescriptor y_Mo_variable.desc).map (fun d => d.parameters.length) = some 1 := by decide +kernel
abbrev rm_Mo_variable : Room := { frames := 0, cells := 0, slots := 0, locals := 0 }
def F_Mo_variable_10 (x1 : Int32) (v : Nat → Int32) (f : Nat → Nat → Int32)    : Option (Int32) := (some (-1 : Int32))
def F_Mo_variable (x1 : Int32) (v : Nat → Int32) (f : Nat → Nat → Int32)  : Option (Int32) := (if x1 < (0 : Int32) then (F_Mo_variable_10 x1 v f) else (if x1 ≤ (15 : Int32) then (if x1 < 0 ∨ 16 ≤ x1.toNatClampNeg then none else (some ((f 46) x1.toNatClampNeg))) else (F_Mo_variable_10 x1 v f)))
set_option maxHeartbeats 4000000 in
set_option maxRecDepth 100000 in
theorem c_Mo_variable (l : Launch) (G : dm_G) (g : Nat → Nat) (x1 : Int32) (v : Nat → Int32) (f : Nat → Nat → Int32) (RES : Int32) (hF : F_Mo_variable x1 v f = some RES) : dm_Ct l y_Mo_variable b_Mo_variable 2 (some .int) rm_Mo_variable G (tw G g v f) [.ref (g 0), .int x1] (fun ov w' => ov = some (.int RES) ∧ w' = (tw G g v f)) := by
  refine dm_Ct.of (by decide +kernel) (Nat.le_of_ble_eq_true rfl) ?_
  intro p e s m below meth c A ls B hl hP hD hS
  have hx := B.1
  have hb := B.2.1
  have hl : lv_has ls 2 [(0, .ref (g 0)), (1, .int x1)] := hl
  have K10 : ∀ (ls : Array Slot) (H : Heap) (locs : List Loc)  , lv_has ls 2 [] → va_P G.1 dm_cl (tw G g v f) H → va_D A (tw G g v f) → va_S A s.heap H locs → F_Mo_variable_10 x1 v f   = some RES → W p l e rm_Mo_variable s m ([.ref (g 0), .int x1] : List Value).toArray below meth c H locs 0 0 (dm_Z below G s ([.ref (g 0), .int x1] : List Value).toArray A rm_Mo_variable.cells rm_Mo_variable.slots (fun ov w' => ov = some (.int RES) ∧ w' = (tw G g v f))) (F0 m 10 ls []) := by
    intro ls H locs  hl hP hD hS hF
    have hF : (some (-1 : Int32)) = some RES := hF
    refine lv_iconst (v := (-1 : Int32)) hx hb d_Mo_variable_10 (by decide) ?_
    refine lv_goto (tgt := 20) hx hb d_Mo_variable_11 (by decide) ?_
    have hF := Option.some.inj hF
    subst hF
    exact dm_ret B rfl d_Mo_variable_20 (by decide) (by decide) hP hD hS ⟨rfl, rfl⟩
  have hF : (if x1 < (0 : Int32) then (F_Mo_variable_10 x1 v f) else (if x1 ≤ (15 : Int32) then (if x1 < 0 ∨ 16 ≤ x1.toNatClampNeg then none else (some ((f 46) x1.toNatClampNeg))) else (F_Mo_variable_10 x1 v f))) = some RES := hF
  refine lv_iload_n hx hb d_Mo_variable_0 rfl (lv_at hl 1 rfl) ?_
  refine lv_if_lt (tgt := 10) hx hb d_Mo_variable_1 (by decide) (fun (hh : x1 < (0 : Int32)) => ?_) (fun (hh : ¬ x1 < (0 : Int32)) => ?_)
  · rw [if_pos hh] at hF
    exact K10 ls _ _  (lv_sub hl [] rfl) hP hD hS hF
  · rw [if_neg hh] at hF
    refine lv_iload_n hx hb d_Mo_variable_4 rfl (lv_at hl 1 rfl) ?_
    refine lv_bipush (v := (15 : Int32)) hx hb d_Mo_variable_5 (by decide) ?_
    refine lv_icmp_le (tgt := 14) hx hb d_Mo_variable_7 (by decide) (fun (hh : x1 ≤ (15 : Int32)) => ?_) (fun (hh : ¬ x1 ≤ (15 : Int32)) => ?_)
    · rw [if_pos hh] at hF
      refine lv_aload_n hx hb d_Mo_variable_14 rfl (lv_at hl 0 rfl) ?_
      refine tw_g_0_46 B hP k_771 d_Mo_variable_15 ?_
      refine lv_iload_n hx hb d_Mo_variable_18 rfl (lv_at hl 1 rfl) ?_
      obtain ⟨hi, hF⟩ := dm_chk hF
      refine tw_a_21 (F := (f 46)) B hP rfl hi d_Mo_variable_19 ?_
      have hF := Option.some.inj hF
      subst hF
      exact dm_ret B rfl d_Mo_variable_20 (by decide) (by decide) hP hD hS ⟨rfl, rfl⟩
    · rw [if_neg hh] at hF
      exact K10 ls _ _  (lv_sub hl [] rfl) hP hD hS hF
