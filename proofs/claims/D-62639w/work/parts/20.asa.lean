abbrev b_AL_size_s : ByteArray := prog_25_method_8_code
abbrev y_AL_size_s : MethodName := { cls := "java/util/ArrayList", name := "size", desc := "()I" }
theorem d_AL_size_s_0 : decode b_AL_size_s 0 = .ok (.aload_n 0, 1) := by decide +kernel
theorem d_AL_size_s_1 : decode b_AL_size_s 1 = .ok (.getfield 48, 3) := by decide +kernel
theorem d_AL_size_s_4 : decode b_AL_size_s 4 = .ok (.ireturn, 1) := by decide +kernel
theorem hd_AL_size_s : y_AL_size_s.cls ≠ "java/lang/invoke/MethodHandle" ∧ y_AL_size_s.cls ≠ "java/lang/invoke/VarHandle" ∧ (parseMethodDescriptor y_AL_size_s.desc).map (fun d => d.parameters.length) = some 0 := by decide +kernel
abbrev rm_AL_size_s : Room := { frames := 0, cells := 0, slots := 0, locals := 0 }
def F_AL_size_s (t : Nat → Nat → Int32) (v : Nat → Int32) (f : Nat → Nat → Int32) (u : Nat → Nat → Int32) (la : Nat → Option Nat)  : Option (Int32) := (some (v 21))
set_option maxHeartbeats 4000000 in
set_option maxRecDepth 100000 in
theorem c_AL_size_s (l : Launch) (G : dm_G) (g : Nat → Nat) (Y : aK) (t : Nat → Nat → Int32) (T : va_W) (K : aK) (v : Nat → Int32) (f : Nat → Nat → Int32) (u : Nat → Nat → Int32) (la : Nat → Option Nat) (RES : Int32) (hY : okA G Y (v 21)) (hk : okA G K (v 20)) (hF : F_AL_size_s t v f u la = some RES) : dm_Ct l y_AL_size_s b_AL_size_s 1 (some .int) rm_AL_size_s G (aw G g Y t T K v f u la) [.ref (g 100)] (fun ov w' => ov = some (.int RES) ∧ w' = (aw G g Y t T K v f u la)) := by
  refine dm_Ct.of (by decide +kernel) (Nat.le_of_ble_eq_true rfl) ?_
  intro p e s m below meth c A ls B hl hP hD hS
  have hx := B.1
  have hb := B.2.1
  have hl : lv_has ls 1 [(0, .ref (g 100))] := hl
  have hF : (some (v 21)) = some RES := hF
  refine lv_aload_n hx hb d_AL_size_s_0 rfl (lv_at hl 0 rfl) ?_
  refine aw_g_6_1 (x := (v 21)) B hP rfl k_270 d_AL_size_s_1 ?_
  have hF := Option.some.inj hF
  subst hF
  exact dm_ret B rfl d_AL_size_s_4 (by show 0 ≤ 0; omega) (by show 0 ≤ 0; omega) hP hD hS ⟨rfl, rfl⟩
abbrev b_AL_isEmpty_s : ByteArray := prog_25_method_9_code
abbrev y_AL_isEmpty_s : MethodName := { cls := "java/util/ArrayList", name := "isEmpty", desc := "()Z" }
theorem d_AL_isEmpty_s_0 : decode b_AL_isEmpty_s 0 = .ok (.aload_n 0, 1) := by decide +kernel
theorem d_AL_isEmpty_s_1 : decode b_AL_isEmpty_s 1 = .ok (.getfield 48, 3) := by decide +kernel
theorem d_AL_isEmpty_s_4 : decode b_AL_isEmpty_s 4 = .ok (.ifCond .ne (7), 3) := by decide +kernel
theorem d_AL_isEmpty_s_7 : decode b_AL_isEmpty_s 7 = .ok (.iconst 1, 1) := by decide +kernel
theorem d_AL_isEmpty_s_8 : decode b_AL_isEmpty_s 8 = .ok (.goto (4), 3) := by decide +kernel
theorem d_AL_isEmpty_s_11 : decode b_AL_isEmpty_s 11 = .ok (.iconst 0, 1) := by decide +kernel
theorem d_AL_isEmpty_s_12 : decode b_AL_isEmpty_s 12 = .ok (.ireturn, 1) := by decide +kernel
theorem hd_AL_isEmpty_s : y_AL_isEmpty_s.cls ≠ "java/lang/invoke/MethodHandle" ∧ y_AL_isEmpty_s.cls ≠ "java/lang/invoke/VarHandle" ∧ (parseMethodDescriptor y_AL_isEmpty_s.desc).map (fun d => d.parameters.length) = some 0 := by decide +kernel
abbrev rm_AL_isEmpty_s : Room := { frames := 0, cells := 0, slots := 0, locals := 0 }
def F_AL_isEmpty_s (t : Nat → Nat → Int32) (v : Nat → Int32) (f : Nat → Nat → Int32) (u : Nat → Nat → Int32) (la : Nat → Option Nat)  : Option (Int32) := (if (v 21) = (0 : Int32) then (some (1 : Int32)) else (some (0 : Int32)))
set_option maxHeartbeats 4000000 in
set_option maxRecDepth 100000 in
theorem c_AL_isEmpty_s (l : Launch) (G : dm_G) (g : Nat → Nat) (Y : aK) (t : Nat → Nat → Int32) (T : va_W) (K : aK) (v : Nat → Int32) (f : Nat → Nat → Int32) (u : Nat → Nat → Int32) (la : Nat → Option Nat) (RES : Int32) (hY : okA G Y (v 21)) (hk : okA G K (v 20)) (hF : F_AL_isEmpty_s t v f u la = some RES) : dm_Ct l y_AL_isEmpty_s b_AL_isEmpty_s 1 (some .boolean) rm_AL_isEmpty_s G (aw G g Y t T K v f u la) [.ref (g 100)] (fun ov w' => ov = some (.int RES) ∧ w' = (aw G g Y t T K v f u la)) := by
  refine dm_Ct.of (by decide +kernel) (Nat.le_of_ble_eq_true rfl) ?_
  intro p e s m below meth c A ls B hl hP hD hS
  have hx := B.1
  have hb := B.2.1
  have hl : lv_has ls 1 [(0, .ref (g 100))] := hl
  have hF : (if (v 21) = (0 : Int32) then (some (1 : Int32)) else (some (0 : Int32))) = some RES := hF
  refine lv_aload_n hx hb d_AL_isEmpty_s_0 rfl (lv_at hl 0 rfl) ?_
  refine aw_g_6_1 (x := (v 21)) B hP rfl k_270 d_AL_isEmpty_s_1 ?_
  refine lv_if_ne (tgt := 11) hx hb d_AL_isEmpty_s_4 (by decide) (fun (hh : ¬ (v 21) = (0 : Int32)) => ?_) (fun (hh : (v 21) = (0 : Int32)) => ?_)
  · rw [if_neg hh] at hF
    refine lv_iconst (v := (0 : Int32)) hx hb d_AL_isEmpty_s_11 (by decide) ?_
    have hF := Option.some.inj hF
    subst hF
    exact dm_ret B (by decide) d_AL_isEmpty_s_12 (by show 0 ≤ 0; omega) (by show 0 ≤ 0; omega) hP hD hS ⟨rfl, rfl⟩
  · rw [if_pos hh] at hF
    refine lv_iconst (v := (1 : Int32)) hx hb d_AL_isEmpty_s_7 (by decide) ?_
    refine lv_goto (tgt := 12) hx hb d_AL_isEmpty_s_8 (by decide) ?_
    have hF := Option.some.inj hF
    subst hF
    exact dm_ret B (by decide) d_AL_isEmpty_s_12 (by show 0 ≤ 0; omega) (by show 0 ≤ 0; omega) hP hD hS ⟨rfl, rfl⟩
abbrev b_AL_eld_s : ByteArray := prog_25_method_18_code
abbrev y_AL_eld_s : MethodName := { cls := "java/util/ArrayList", name := "elementData", desc := "(I)Ljava/lang/Object;" }
theorem d_AL_eld_s_0 : decode b_AL_eld_s 0 = .ok (.aload_n 0, 1) := by decide +kernel
theorem d_AL_eld_s_1 : decode b_AL_eld_s 1 = .ok (.getfield 9, 3) := by decide +kernel
theorem d_AL_eld_s_4 : decode b_AL_eld_s 4 = .ok (.iload_n 1, 1) := by decide +kernel
theorem d_AL_eld_s_5 : decode b_AL_eld_s 5 = .ok (.aaload, 1) := by decide +kernel
theorem d_AL_eld_s_6 : decode b_AL_eld_s 6 = .ok (.areturn, 1) := by decide +kernel
theorem hd_AL_eld_s : y_AL_eld_s.cls ≠ "java/lang/invoke/MethodHandle" ∧ y_AL_eld_s.cls ≠ "java/lang/invoke/VarHandle" ∧ (parseMethodDescriptor y_AL_eld_s.desc).map (fun d => d.parameters.length) = some 1 := by decide +kernel
abbrev rm_AL_eld_s : Room := { frames := 0, cells := 0, slots := 0, locals := 0 }
def F_AL_eld_s (t : Nat → Nat → Int32) (x1 : Int32) (v : Nat → Int32) (f : Nat → Nat → Int32) (u : Nat → Nat → Int32) (la : Nat → Option Nat)  : Option (Nat) := (if x1 < 0 ∨ (v 21).toNatClampNeg ≤ x1.toNatClampNeg then none else (some x1.toNatClampNeg))
set_option maxHeartbeats 4000000 in
set_option maxRecDepth 100000 in
theorem c_AL_eld_s (l : Launch) (G : dm_G) (g : Nat → Nat) (Y : aK) (t : Nat → Nat → Int32) (T : va_W) (K : aK) (x1 : Int32) (v : Nat → Int32) (f : Nat → Nat → Int32) (u : Nat → Nat → Int32) (la : Nat → Option Nat) (RES : Nat) (hY : okA G Y (v 21)) (hk : okA G K (v 20)) (hF : F_AL_eld_s t x1 v f u la = some RES) : dm_Ct l y_AL_eld_s b_AL_eld_s 2 (some (.object "java/lang/Object")) rm_AL_eld_s G (aw G g Y t T K v f u la) [.ref (g 100), .int x1] (fun ov w' => ov = some (.ref (Y.2.2.2 RES)) ∧ w' = (aw G g Y t T K v f u la)) := by
  refine dm_Ct.of (by decide +kernel) (Nat.le_of_ble_eq_true rfl) ?_
  intro p e s m below meth c A ls B hl hP hD hS
  have hx := B.1
  have hb := B.2.1
  have hl : lv_has ls 2 [(0, .ref (g 100)), (1, .int x1)] := hl
  have hF : (if x1 < 0 ∨ (v 21).toNatClampNeg ≤ x1.toNatClampNeg then none else (some x1.toNatClampNeg)) = some RES := hF
  refine lv_aload_n hx hb d_AL_eld_s_0 rfl (lv_at hl 0 rfl) ?_
  refine aw_g_6_0 B hP k_269 d_AL_eld_s_1 ?_
  refine lv_iload_n hx hb d_AL_eld_s_4 rfl (lv_at hl 1 rfl) ?_
  obtain ⟨hi, hF⟩ := dm_chk hF
  refine aw_als B hP hY hi d_AL_eld_s_5 ?_
  have hF := Option.some.inj hF
  subst hF
  exact dm_reta B (Or.inl ⟨_, rfl⟩) (Or.inr ⟨_, rfl⟩) d_AL_eld_s_6 (by show 0 ≤ 0; omega) (by show 0 ≤ 0; omega) hP hD hS ⟨rfl, rfl⟩
abbrev b_AL_get_s : ByteArray := prog_25_method_20_code
abbrev y_AL_get_s : MethodName := { cls := "java/util/ArrayList", name := "get", desc := "(I)Ljava/lang/Object;" }
theorem d_AL_get_s_0 : decode b_AL_get_s 0 = .ok (.iload_n 1, 1) := by decide +kernel
theorem d_AL_get_s_1 : decode b_AL_get_s 1 = .ok (.aload_n 0, 1) := by decide +kernel
theorem d_AL_get_s_2 : decode b_AL_get_s 2 = .ok (.getfield 48, 3) := by decide +kernel
theorem d_AL_get_s_5 : decode b_AL_get_s 5 = .ok (.invokestatic 118, 3) := by decide +kernel
theorem d_AL_get_s_8 : decode b_AL_get_s 8 = .ok (.pop, 1) := by decide +kernel
theorem d_AL_get_s_9 : decode b_AL_get_s 9 = .ok (.aload_n 0, 1) := by decide +kernel
theorem d_AL_get_s_10 : decode b_AL_get_s 10 = .ok (.iload_n 1, 1) := by decide +kernel
theorem d_AL_get_s_11 : decode b_AL_get_s 11 = .ok (.invokevirtual 123, 3) := by decide +kernel
theorem d_AL_get_s_14 : decode b_AL_get_s 14 = .ok (.areturn, 1) := by decide +kernel
theorem hd_AL_get_s : y_AL_get_s.cls ≠ "java/lang/invoke/MethodHandle" ∧ y_AL_get_s.cls ≠ "java/lang/invoke/VarHandle" ∧ (parseMethodDescriptor y_AL_get_s.desc).map (fun d => d.parameters.length) = some 1 := by decide +kernel
abbrev rm_AL_get_s : Room := { frames := 2, cells := 0, slots := 0, locals := 43 }
def F_AL_get_s (t : Nat → Nat → Int32) (x1 : Int32) (v : Nat → Int32) (f : Nat → Nat → Int32) (u : Nat → Nat → Int32) (la : Nat → Option Nat)  : Option (Nat) := (Option.bind (F_Ob_check x1 (v 21)) (fun z1 => (Option.bind (F_AL_eld_s t  x1 v f u la) (fun z2 => (some z2)))))
set_option maxHeartbeats 4000000 in
set_option maxRecDepth 100000 in
theorem c_AL_get_s (l : Launch) (G : dm_G) (g : Nat → Nat) (Y : aK) (t : Nat → Nat → Int32) (T : va_W) (K : aK) (x1 : Int32) (v : Nat → Int32) (f : Nat → Nat → Int32) (u : Nat → Nat → Int32) (la : Nat → Option Nat) (RES : Nat) (hY : okA G Y (v 21)) (hk : okA G K (v 20)) (hF : F_AL_get_s t x1 v f u la = some RES) : dm_Ct l y_AL_get_s b_AL_get_s 2 (some (.object "java/lang/Object")) rm_AL_get_s G (aw G g Y t T K v f u la) [.ref (g 100), .int x1] (fun ov w' => ov = some (.ref (Y.2.2.2 RES)) ∧ w' = (aw G g Y t T K v f u la)) := by
  refine dm_Ct.of (by decide +kernel) (Nat.le_of_ble_eq_true rfl) ?_
  intro p e s m below meth c A ls B hl hP hD hS
  have hx := B.1
  have hb := B.2.1
  have hl : lv_has ls 2 [(0, .ref (g 100)), (1, .int x1)] := hl
  have hF : (Option.bind (F_Ob_check x1 (v 21)) (fun z1 => (Option.bind (F_AL_eld_s t  x1 v f u la) (fun z2 => (some z2))))) = some RES := hF
  refine lv_iload_n hx hb d_AL_get_s_0 rfl (lv_at hl 1 rfl) ?_
  refine lv_aload_n hx hb d_AL_get_s_1 rfl (lv_at hl 0 rfl) ?_
  refine aw_g_6_1 (x := (v 21)) B hP rfl k_270 d_AL_get_s_2 ?_
  obtain ⟨z1, hcz1, hF⟩ := dm_bind hF
  refine dm_callSw B [.int x1, .int (v 21)] (c_Ob_check l G (aw G g Y t T K v f u la) x1 (v 21) z1 hcz1) k_607 k_608 k_21 k_609 hd_Ob_check rfl ⟨by decide, by decide⟩ hP hD hS hl.1 (rest := []) rfl (Nat.le_of_ble_eq_true rfl) d_AL_get_s_5 ⟨by decide, by decide⟩ (fun ov w' H locs hq hP hD hS => ?_)
  obtain ⟨rfl, rfl⟩ := hq
  have hP : va_P G.1 dm_cl (aw G g Y t T K v f u la) H := hP
  have hD : va_D A (aw G g Y t T K v f u la) := hD
  refine W.eq (g2 := F0 m 8 ls [.int z1]) rfl ?_
  refine lv_pop hx hb d_AL_get_s_8 rfl ?_
  refine lv_aload_n hx hb d_AL_get_s_9 rfl (lv_at hl 0 rfl) ?_
  refine lv_iload_n hx hb d_AL_get_s_10 rfl (lv_at hl 1 rfl) ?_
  obtain ⟨z2, hcz2, hF⟩ := dm_bind hF
  refine dm_callVw B [.int x1] (c_AL_eld_s l G g Y t T K  x1 v f u la z2 hY hk hcz2) k_613 k_614 k_615 k_13 k_616 hd_AL_eld_s rfl ⟨by decide, by decide⟩ 6 rfl rfl hP hD hS hl.1 (rest := []) rfl (Nat.le_of_ble_eq_true rfl) d_AL_get_s_11 ⟨(by show 0 + 0 ≤ 0; omega), (by show 0 + 0 ≤ 0; omega)⟩ (fun ov w' H locs hq hP hD hS => ?_)
  obtain ⟨rfl, rfl⟩ := hq
  have hP : va_P G.1 dm_cl (aw G g Y t T K v f u la) H := hP
  have hD : va_D A (aw G g Y t T K v f u la) := hD
  refine W.eq (g2 := F0 m 14 ls [.ref (Y.2.2.2 z2)]) rfl ?_
  have hF := Option.some.inj hF
  subst hF
  exact dm_reta B (Or.inl ⟨_, rfl⟩) (Or.inr ⟨_, rfl⟩) d_AL_get_s_14 (by show 0 ≤ 0; omega) (by show 0 ≤ 0; omega) hP hD hS ⟨rfl, rfl⟩
abbrev b_AL_size_p : ByteArray := prog_25_method_8_code
abbrev y_AL_size_p : MethodName := { cls := "java/util/ArrayList", name := "size", desc := "()I" }
theorem hd_AL_size_p : y_AL_size_p.cls ≠ "java/lang/invoke/MethodHandle" ∧ y_AL_size_p.cls ≠ "java/lang/invoke/VarHandle" ∧ (parseMethodDescriptor y_AL_size_p.desc).map (fun d => d.parameters.length) = some 0 := by decide +kernel
abbrev rm_AL_size_p : Room := { frames := 0, cells := 0, slots := 0, locals := 0 }
def F_AL_size_p (t : Nat → Nat → Int32) (v : Nat → Int32) (f : Nat → Nat → Int32) (u : Nat → Nat → Int32) (la : Nat → Option Nat)  : Option (Int32) := (some (v 20))
set_option maxHeartbeats 4000000 in
set_option maxRecDepth 100000 in
theorem c_AL_size_p (l : Launch) (G : dm_G) (g : Nat → Nat) (Y : aK) (t : Nat → Nat → Int32) (T : va_W) (K : aK) (v : Nat → Int32) (f : Nat → Nat → Int32) (u : Nat → Nat → Int32) (la : Nat → Option Nat) (RES : Int32) (hY : okA G Y (v 21)) (hk : okA G K (v 20)) (hF : F_AL_size_p t v f u la = some RES) : dm_Ct l y_AL_size_p b_AL_size_p 1 (some .int) rm_AL_size_p G (aw G g Y t T K v f u la) [.ref (g 101)] (fun ov w' => ov = some (.int RES) ∧ w' = (aw G g Y t T K v f u la)) := by
  refine dm_Ct.of (by decide +kernel) (Nat.le_of_ble_eq_true rfl) ?_
  intro p e s m below meth c A ls B hl hP hD hS
  have hx := B.1
  have hb := B.2.1
  have hl : lv_has ls 1 [(0, .ref (g 101))] := hl
  have hF : (some (v 20)) = some RES := hF
  refine lv_aload_n hx hb d_AL_size_s_0 rfl (lv_at hl 0 rfl) ?_
  refine aw_g_7_1 (x := (v 20)) B hP rfl k_270 d_AL_size_s_1 ?_
  have hF := Option.some.inj hF
  subst hF
  exact dm_ret B rfl d_AL_size_s_4 (by show 0 ≤ 0; omega) (by show 0 ≤ 0; omega) hP hD hS ⟨rfl, rfl⟩
abbrev b_AL_isEmpty_p : ByteArray := prog_25_method_9_code
abbrev y_AL_isEmpty_p : MethodName := { cls := "java/util/ArrayList", name := "isEmpty", desc := "()Z" }
theorem hd_AL_isEmpty_p : y_AL_isEmpty_p.cls ≠ "java/lang/invoke/MethodHandle" ∧ y_AL_isEmpty_p.cls ≠ "java/lang/invoke/VarHandle" ∧ (parseMethodDescriptor y_AL_isEmpty_p.desc).map (fun d => d.parameters.length) = some 0 := by decide +kernel
abbrev rm_AL_isEmpty_p : Room := { frames := 0, cells := 0, slots := 0, locals := 0 }
def F_AL_isEmpty_p (t : Nat → Nat → Int32) (v : Nat → Int32) (f : Nat → Nat → Int32) (u : Nat → Nat → Int32) (la : Nat → Option Nat)  : Option (Int32) := (if (v 20) = (0 : Int32) then (some (1 : Int32)) else (some (0 : Int32)))
set_option maxHeartbeats 4000000 in
set_option maxRecDepth 100000 in
theorem c_AL_isEmpty_p (l : Launch) (G : dm_G) (g : Nat → Nat) (Y : aK) (t : Nat → Nat → Int32) (T : va_W) (K : aK) (v : Nat → Int32) (f : Nat → Nat → Int32) (u : Nat → Nat → Int32) (la : Nat → Option Nat) (RES : Int32) (hY : okA G Y (v 21)) (hk : okA G K (v 20)) (hF : F_AL_isEmpty_p t v f u la = some RES) : dm_Ct l y_AL_isEmpty_p b_AL_isEmpty_p 1 (some .boolean) rm_AL_isEmpty_p G (aw G g Y t T K v f u la) [.ref (g 101)] (fun ov w' => ov = some (.int RES) ∧ w' = (aw G g Y t T K v f u la)) := by
  refine dm_Ct.of (by decide +kernel) (Nat.le_of_ble_eq_true rfl) ?_
  intro p e s m below meth c A ls B hl hP hD hS
  have hx := B.1
  have hb := B.2.1
  have hl : lv_has ls 1 [(0, .ref (g 101))] := hl
  have hF : (if (v 20) = (0 : Int32) then (some (1 : Int32)) else (some (0 : Int32))) = some RES := hF
  refine lv_aload_n hx hb d_AL_isEmpty_s_0 rfl (lv_at hl 0 rfl) ?_
  refine aw_g_7_1 (x := (v 20)) B hP rfl k_270 d_AL_isEmpty_s_1 ?_
  refine lv_if_ne (tgt := 11) hx hb d_AL_isEmpty_s_4 (by decide) (fun (hh : ¬ (v 20) = (0 : Int32)) => ?_) (fun (hh : (v 20) = (0 : Int32)) => ?_)
  · rw [if_neg hh] at hF
    refine lv_iconst (v := (0 : Int32)) hx hb d_AL_isEmpty_s_11 (by decide) ?_
    have hF := Option.some.inj hF
    subst hF
    exact dm_ret B (by decide) d_AL_isEmpty_s_12 (by show 0 ≤ 0; omega) (by show 0 ≤ 0; omega) hP hD hS ⟨rfl, rfl⟩
  · rw [if_pos hh] at hF
    refine lv_iconst (v := (1 : Int32)) hx hb d_AL_isEmpty_s_7 (by decide) ?_
    refine lv_goto (tgt := 12) hx hb d_AL_isEmpty_s_8 (by decide) ?_
    have hF := Option.some.inj hF
    subst hF
    exact dm_ret B (by decide) d_AL_isEmpty_s_12 (by show 0 ≤ 0; omega) (by show 0 ≤ 0; omega) hP hD hS ⟨rfl, rfl⟩
abbrev b_AL_eld_p : ByteArray := prog_25_method_18_code
abbrev y_AL_eld_p : MethodName := { cls := "java/util/ArrayList", name := "elementData", desc := "(I)Ljava/lang/Object;" }
theorem hd_AL_eld_p : y_AL_eld_p.cls ≠ "java/lang/invoke/MethodHandle" ∧ y_AL_eld_p.cls ≠ "java/lang/invoke/VarHandle" ∧ (parseMethodDescriptor y_AL_eld_p.desc).map (fun d => d.parameters.length) = some 1 := by decide +kernel
abbrev rm_AL_eld_p : Room := { frames := 0, cells := 0, slots := 0, locals := 0 }
def F_AL_eld_p (t : Nat → Nat → Int32) (x1 : Int32) (v : Nat → Int32) (f : Nat → Nat → Int32) (u : Nat → Nat → Int32) (la : Nat → Option Nat)  : Option (Nat) := (if x1 < 0 ∨ (v 20).toNatClampNeg ≤ x1.toNatClampNeg then none else (some x1.toNatClampNeg))
set_option maxHeartbeats 4000000 in
set_option maxRecDepth 100000 in
theorem c_AL_eld_p (l : Launch) (G : dm_G) (g : Nat → Nat) (Y : aK) (t : Nat → Nat → Int32) (T : va_W) (K : aK) (x1 : Int32) (v : Nat → Int32) (f : Nat → Nat → Int32) (u : Nat → Nat → Int32) (la : Nat → Option Nat) (RES : Nat) (hY : okA G Y (v 21)) (hk : okA G K (v 20)) (hF : F_AL_eld_p t x1 v f u la = some RES) : dm_Ct l y_AL_eld_p b_AL_eld_p 2 (some (.object "java/lang/Object")) rm_AL_eld_p G (aw G g Y t T K v f u la) [.ref (g 101), .int x1] (fun ov w' => ov = some (.ref (K.2.2.2 RES)) ∧ w' = (aw G g Y t T K v f u la)) := by
  refine dm_Ct.of (by decide +kernel) (Nat.le_of_ble_eq_true rfl) ?_
  intro p e s m below meth c A ls B hl hP hD hS
  have hx := B.1
  have hb := B.2.1
  have hl : lv_has ls 2 [(0, .ref (g 101)), (1, .int x1)] := hl
  have hF : (if x1 < 0 ∨ (v 20).toNatClampNeg ≤ x1.toNatClampNeg then none else (some x1.toNatClampNeg)) = some RES := hF
  refine lv_aload_n hx hb d_AL_eld_s_0 rfl (lv_at hl 0 rfl) ?_
  refine aw_g_7_0 B hP k_269 d_AL_eld_s_1 ?_
  refine lv_iload_n hx hb d_AL_eld_s_4 rfl (lv_at hl 1 rfl) ?_
  obtain ⟨hi, hF⟩ := dm_chk hF
  refine aw_alp B hP hk hi d_AL_eld_s_5 ?_
  have hF := Option.some.inj hF
  subst hF
  exact dm_reta B (Or.inl ⟨_, rfl⟩) (Or.inr ⟨_, rfl⟩) d_AL_eld_s_6 (by show 0 ≤ 0; omega) (by show 0 ≤ 0; omega) hP hD hS ⟨rfl, rfl⟩
abbrev b_AL_get_p : ByteArray := prog_25_method_20_code
abbrev y_AL_get_p : MethodName := { cls := "java/util/ArrayList", name := "get", desc := "(I)Ljava/lang/Object;" }
theorem hd_AL_get_p : y_AL_get_p.cls ≠ "java/lang/invoke/MethodHandle" ∧ y_AL_get_p.cls ≠ "java/lang/invoke/VarHandle" ∧ (parseMethodDescriptor y_AL_get_p.desc).map (fun d => d.parameters.length) = some 1 := by decide +kernel
abbrev rm_AL_get_p : Room := { frames := 2, cells := 0, slots := 0, locals := 43 }
def F_AL_get_p (t : Nat → Nat → Int32) (x1 : Int32) (v : Nat → Int32) (f : Nat → Nat → Int32) (u : Nat → Nat → Int32) (la : Nat → Option Nat)  : Option (Nat) := (Option.bind (F_Ob_check x1 (v 20)) (fun z1 => (Option.bind (F_AL_eld_p t  x1 v f u la) (fun z2 => (some z2)))))
set_option maxHeartbeats 4000000 in
set_option maxRecDepth 100000 in
theorem c_AL_get_p (l : Launch) (G : dm_G) (g : Nat → Nat) (Y : aK) (t : Nat → Nat → Int32) (T : va_W) (K : aK) (x1 : Int32) (v : Nat → Int32) (f : Nat → Nat → Int32) (u : Nat → Nat → Int32) (la : Nat → Option Nat) (RES : Nat) (hY : okA G Y (v 21)) (hk : okA G K (v 20)) (hF : F_AL_get_p t x1 v f u la = some RES) : dm_Ct l y_AL_get_p b_AL_get_p 2 (some (.object "java/lang/Object")) rm_AL_get_p G (aw G g Y t T K v f u la) [.ref (g 101), .int x1] (fun ov w' => ov = some (.ref (K.2.2.2 RES)) ∧ w' = (aw G g Y t T K v f u la)) := by
  refine dm_Ct.of (by decide +kernel) (Nat.le_of_ble_eq_true rfl) ?_
  intro p e s m below meth c A ls B hl hP hD hS
  have hx := B.1
  have hb := B.2.1
  have hl : lv_has ls 2 [(0, .ref (g 101)), (1, .int x1)] := hl
  have hF : (Option.bind (F_Ob_check x1 (v 20)) (fun z1 => (Option.bind (F_AL_eld_p t  x1 v f u la) (fun z2 => (some z2))))) = some RES := hF
  refine lv_iload_n hx hb d_AL_get_s_0 rfl (lv_at hl 1 rfl) ?_
  refine lv_aload_n hx hb d_AL_get_s_1 rfl (lv_at hl 0 rfl) ?_
  refine aw_g_7_1 (x := (v 20)) B hP rfl k_270 d_AL_get_s_2 ?_
  obtain ⟨z1, hcz1, hF⟩ := dm_bind hF
  refine dm_callSw B [.int x1, .int (v 20)] (c_Ob_check l G (aw G g Y t T K v f u la) x1 (v 20) z1 hcz1) k_607 k_608 k_21 k_609 hd_Ob_check rfl ⟨by decide, by decide⟩ hP hD hS hl.1 (rest := []) rfl (Nat.le_of_ble_eq_true rfl) d_AL_get_s_5 ⟨by decide, by decide⟩ (fun ov w' H locs hq hP hD hS => ?_)
  obtain ⟨rfl, rfl⟩ := hq
  have hP : va_P G.1 dm_cl (aw G g Y t T K v f u la) H := hP
  have hD : va_D A (aw G g Y t T K v f u la) := hD
  refine W.eq (g2 := F0 m 8 ls [.int z1]) rfl ?_
  refine lv_pop hx hb d_AL_get_s_8 rfl ?_
  refine lv_aload_n hx hb d_AL_get_s_9 rfl (lv_at hl 0 rfl) ?_
  refine lv_iload_n hx hb d_AL_get_s_10 rfl (lv_at hl 1 rfl) ?_
  obtain ⟨z2, hcz2, hF⟩ := dm_bind hF
  refine dm_callVw B [.int x1] (c_AL_eld_p l G g Y t T K  x1 v f u la z2 hY hk hcz2) k_613 k_614 k_615 k_13 k_616 hd_AL_eld_s rfl ⟨by decide, by decide⟩ 7 rfl rfl hP hD hS hl.1 (rest := []) rfl (Nat.le_of_ble_eq_true rfl) d_AL_get_s_11 ⟨(by show 0 + 0 ≤ 0; omega), (by show 0 + 0 ≤ 0; omega)⟩ (fun ov w' H locs hq hP hD hS => ?_)
  obtain ⟨rfl, rfl⟩ := hq
  have hP : va_P G.1 dm_cl (aw G g Y t T K v f u la) H := hP
  have hD : va_D A (aw G g Y t T K v f u la) := hD
  refine W.eq (g2 := F0 m 14 ls [.ref (K.2.2.2 z2)]) rfl ?_
  have hF := Option.some.inj hF
  subst hF
  exact dm_reta B (Or.inl ⟨_, rfl⟩) (Or.inr ⟨_, rfl⟩) d_AL_get_s_14 (by show 0 ≤ 0; omega) (by show 0 ≤ 0; omega) hP hD hS ⟨rfl, rfl⟩
abbrev b_St_operation : ByteArray := prog_13_method_5_code
abbrev y_St_operation : MethodName := { cls := "DelayMachine$Statement", name := "operation", desc := "()I" }
theorem d_St_operation_0 : decode b_St_operation 0 = .ok (.aload_n 0, 1) := by decide +kernel
theorem d_St_operation_1 : decode b_St_operation 1 = .ok (.getfield 7, 3) := by decide +kernel
theorem d_St_operation_4 : decode b_St_operation 4 = .ok (.ireturn, 1) := by decide +kernel
theorem hd_St_operation : y_St_operation.cls ≠ "java/lang/invoke/MethodHandle" ∧ y_St_operation.cls ≠ "java/lang/invoke/VarHandle" ∧ (parseMethodDescriptor y_St_operation.desc).map (fun d => d.parameters.length) = some 0 := by decide +kernel
abbrev rm_St_operation : Room := { frames := 0, cells := 0, slots := 0, locals := 0 }
def F_St_operation (t : Nat → Nat → Int32) (ix : Nat) (v : Nat → Int32) (f : Nat → Nat → Int32) (u : Nat → Nat → Int32) (la : Nat → Option Nat)  : Option (Int32) := (if (v 21).toNatClampNeg ≤ ix then none else (some (t ix 0)))
set_option maxHeartbeats 4000000 in
set_option maxRecDepth 100000 in
theorem c_St_operation (l : Launch) (G : dm_G) (g : Nat → Nat) (Y : aK) (t : Nat → Nat → Int32) (T : va_W) (K : aK) (ix : Nat) (v : Nat → Int32) (f : Nat → Nat → Int32) (u : Nat → Nat → Int32) (la : Nat → Option Nat) (RES : Int32) (hY : okA G Y (v 21)) (hk : okA G K (v 20)) (hF : F_St_operation t ix v f u la = some RES) : dm_Ct l y_St_operation b_St_operation 1 (some .int) rm_St_operation G (aw G g Y t T K v f u la) [.ref (Y.2.2.2 ix)] (fun ov w' => ov = some (.int RES) ∧ w' = (aw G g Y t T K v f u la)) := by
  refine dm_Ct.of (by decide +kernel) (Nat.le_of_ble_eq_true rfl) ?_
  intro p e s m below meth c A ls B hl hP hD hS
  have hx := B.1
  have hb := B.2.1
  have hl : lv_has ls 1 [(0, .ref (Y.2.2.2 ix))] := hl
  have hF : (if (v 21).toNatClampNeg ≤ ix then none else (some (t ix 0))) = some RES := hF
  refine lv_aload_n hx hb d_St_operation_0 rfl (lv_at hl 0 rfl) ?_
  obtain ⟨hi, hF⟩ := dm_chk hF
  refine aw_gs_0 (i := ix) (x := (t ix 0)) B hP hi rfl k_505 d_St_operation_1 ?_
  have hF := Option.some.inj hF
  subst hF
  exact dm_ret B rfl d_St_operation_4 (by show 0 ≤ 0; omega) (by show 0 ≤ 0; omega) hP hD hS ⟨rfl, rfl⟩
abbrev b_St_a : ByteArray := prog_13_method_6_code
abbrev y_St_a : MethodName := { cls := "DelayMachine$Statement", name := "a", desc := "()I" }
theorem d_St_a_0 : decode b_St_a 0 = .ok (.aload_n 0, 1) := by decide +kernel
theorem d_St_a_1 : decode b_St_a 1 = .ok (.getfield 13, 3) := by decide +kernel
theorem d_St_a_4 : decode b_St_a 4 = .ok (.ireturn, 1) := by decide +kernel
theorem hd_St_a : y_St_a.cls ≠ "java/lang/invoke/MethodHandle" ∧ y_St_a.cls ≠ "java/lang/invoke/VarHandle" ∧ (parseMethodDescriptor y_St_a.desc).map (fun d => d.parameters.length) = some 0 := by decide +kernel
abbrev rm_St_a : Room := { frames := 0, cells := 0, slots := 0, locals := 0 }
def F_St_a (t : Nat → Nat → Int32) (ix : Nat) (v : Nat → Int32) (f : Nat → Nat → Int32) (u : Nat → Nat → Int32) (la : Nat → Option Nat)  : Option (Int32) := (if (v 21).toNatClampNeg ≤ ix then none else (some (t ix 1)))
set_option maxHeartbeats 4000000 in
set_option maxRecDepth 100000 in
theorem c_St_a (l : Launch) (G : dm_G) (g : Nat → Nat) (Y : aK) (t : Nat → Nat → Int32) (T : va_W) (K : aK) (ix : Nat) (v : Nat → Int32) (f : Nat → Nat → Int32) (u : Nat → Nat → Int32) (la : Nat → Option Nat) (RES : Int32) (hY : okA G Y (v 21)) (hk : okA G K (v 20)) (hF : F_St_a t ix v f u la = some RES) : dm_Ct l y_St_a b_St_a 1 (some .int) rm_St_a G (aw G g Y t T K v f u la) [.ref (Y.2.2.2 ix)] (fun ov w' => ov = some (.int RES) ∧ w' = (aw G g Y t T K v f u la)) := by
  refine dm_Ct.of (by decide +kernel) (Nat.le_of_ble_eq_true rfl) ?_
  intro p e s m below meth c A ls B hl hP hD hS
  have hx := B.1
  have hb := B.2.1
  have hl : lv_has ls 1 [(0, .ref (Y.2.2.2 ix))] := hl
  have hF : (if (v 21).toNatClampNeg ≤ ix then none else (some (t ix 1))) = some RES := hF
  refine lv_aload_n hx hb d_St_a_0 rfl (lv_at hl 0 rfl) ?_
  obtain ⟨hi, hF⟩ := dm_chk hF
  refine aw_gs_1 (i := ix) (x := (t ix 1)) B hP hi rfl k_506 d_St_a_1 ?_
  have hF := Option.some.inj hF
  subst hF
  exact dm_ret B rfl d_St_a_4 (by show 0 ≤ 0; omega) (by show 0 ≤ 0; omega) hP hD hS ⟨rfl, rfl⟩
abbrev b_St_b : ByteArray := prog_13_method_7_code
abbrev y_St_b : MethodName := { cls := "DelayMachine$Statement", name := "b", desc := "()I" }
theorem d_St_b_0 : decode b_St_b 0 = .ok (.aload_n 0, 1) := by decide +kernel
theorem d_St_b_1 : decode b_St_b 1 = .ok (.getfield 16, 3) := by decide +kernel
theorem d_St_b_4 : decode b_St_b 4 = .ok (.ireturn, 1) := by decide +kernel
theorem hd_St_b : y_St_b.cls ≠ "java/lang/invoke/MethodHandle" ∧ y_St_b.cls ≠ "java/lang/invoke/VarHandle" ∧ (parseMethodDescriptor y_St_b.desc).map (fun d => d.parameters.length) = some 0 := by decide +kernel
abbrev rm_St_b : Room := { frames := 0, cells := 0, slots := 0, locals := 0 }
def F_St_b (t : Nat → Nat → Int32) (ix : Nat) (v : Nat → Int32) (f : Nat → Nat → Int32) (u : Nat → Nat → Int32) (la : Nat → Option Nat)  : Option (Int32) := (if (v 21).toNatClampNeg ≤ ix then none else (some (t ix 2)))
set_option maxHeartbeats 4000000 in
set_option maxRecDepth 100000 in
theorem c_St_b (l : Launch) (G : dm_G) (g : Nat → Nat) (Y : aK) (t : Nat → Nat → Int32) (T : va_W) (K : aK) (ix : Nat) (v : Nat → Int32) (f : Nat → Nat → Int32) (u : Nat → Nat → Int32) (la : Nat → Option Nat) (RES : Int32) (hY : okA G Y (v 21)) (hk : okA G K (v 20)) (hF : F_St_b t ix v f u la = some RES) : dm_Ct l y_St_b b_St_b 1 (some .int) rm_St_b G (aw G g Y t T K v f u la) [.ref (Y.2.2.2 ix)] (fun ov w' => ov = some (.int RES) ∧ w' = (aw G g Y t T K v f u la)) := by
  refine dm_Ct.of (by decide +kernel) (Nat.le_of_ble_eq_true rfl) ?_
  intro p e s m below meth c A ls B hl hP hD hS
  have hx := B.1
  have hb := B.2.1
  have hl : lv_has ls 1 [(0, .ref (Y.2.2.2 ix))] := hl
  have hF : (if (v 21).toNatClampNeg ≤ ix then none else (some (t ix 2))) = some RES := hF
  refine lv_aload_n hx hb d_St_b_0 rfl (lv_at hl 0 rfl) ?_
  obtain ⟨hi, hF⟩ := dm_chk hF
  refine aw_gs_2 (i := ix) (x := (t ix 2)) B hP hi rfl k_507 d_St_b_1 ?_
  have hF := Option.some.inj hF
  subst hF
  exact dm_ret B rfl d_St_b_4 (by show 0 ≤ 0; omega) (by show 0 ≤ 0; omega) hP hD hS ⟨rfl, rfl⟩
abbrev b_St_c : ByteArray := prog_13_method_8_code
abbrev y_St_c : MethodName := { cls := "DelayMachine$Statement", name := "c", desc := "()I" }
theorem d_St_c_0 : decode b_St_c 0 = .ok (.aload_n 0, 1) := by decide +kernel
theorem d_St_c_1 : decode b_St_c 1 = .ok (.getfield 19, 3) := by decide +kernel
theorem d_St_c_4 : decode b_St_c 4 = .ok (.ireturn, 1) := by decide +kernel
theorem hd_St_c : y_St_c.cls ≠ "java/lang/invoke/MethodHandle" ∧ y_St_c.cls ≠ "java/lang/invoke/VarHandle" ∧ (parseMethodDescriptor y_St_c.desc).map (fun d => d.parameters.length) = some 0 := by decide +kernel
abbrev rm_St_c : Room := { frames := 0, cells := 0, slots := 0, locals := 0 }
def F_St_c (t : Nat → Nat → Int32) (ix : Nat) (v : Nat → Int32) (f : Nat → Nat → Int32) (u : Nat → Nat → Int32) (la : Nat → Option Nat)  : Option (Int32) := (if (v 21).toNatClampNeg ≤ ix then none else (some (t ix 3)))
set_option maxHeartbeats 4000000 in
set_option maxRecDepth 100000 in
theorem c_St_c (l : Launch) (G : dm_G) (g : Nat → Nat) (Y : aK) (t : Nat → Nat → Int32) (T : va_W) (K : aK) (ix : Nat) (v : Nat → Int32) (f : Nat → Nat → Int32) (u : Nat → Nat → Int32) (la : Nat → Option Nat) (RES : Int32) (hY : okA G Y (v 21)) (hk : okA G K (v 20)) (hF : F_St_c t ix v f u la = some RES) : dm_Ct l y_St_c b_St_c 1 (some .int) rm_St_c G (aw G g Y t T K v f u la) [.ref (Y.2.2.2 ix)] (fun ov w' => ov = some (.int RES) ∧ w' = (aw G g Y t T K v f u la)) := by
  refine dm_Ct.of (by decide +kernel) (Nat.le_of_ble_eq_true rfl) ?_
  intro p e s m below meth c A ls B hl hP hD hS
  have hx := B.1
  have hb := B.2.1
  have hl : lv_has ls 1 [(0, .ref (Y.2.2.2 ix))] := hl
  have hF : (if (v 21).toNatClampNeg ≤ ix then none else (some (t ix 3))) = some RES := hF
  refine lv_aload_n hx hb d_St_c_0 rfl (lv_at hl 0 rfl) ?_
  obtain ⟨hi, hF⟩ := dm_chk hF
  refine aw_gs_3 (i := ix) (x := (t ix 3)) B hP hi rfl k_508 d_St_c_1 ?_
  have hF := Option.some.inj hF
  subst hF
  exact dm_ret B rfl d_St_c_4 (by show 0 ≤ 0; omega) (by show 0 ≤ 0; omega) hP hD hS ⟨rfl, rfl⟩
abbrev b_St_go : ByteArray := prog_13_method_9_code
abbrev y_St_go : MethodName := { cls := "DelayMachine$Statement", name := "go", desc := "()I" }
theorem d_St_go_0 : decode b_St_go 0 = .ok (.aload_n 0, 1) := by decide +kernel
theorem d_St_go_1 : decode b_St_go 1 = .ok (.getfield 22, 3) := by decide +kernel
theorem d_St_go_4 : decode b_St_go 4 = .ok (.ireturn, 1) := by decide +kernel
theorem hd_St_go : y_St_go.cls ≠ "java/lang/invoke/MethodHandle" ∧ y_St_go.cls ≠ "java/lang/invoke/VarHandle" ∧ (parseMethodDescriptor y_St_go.desc).map (fun d => d.parameters.length) = some 0 := by decide +kernel
abbrev rm_St_go : Room := { frames := 0, cells := 0, slots := 0, locals := 0 }
def F_St_go (t : Nat → Nat → Int32) (ix : Nat) (v : Nat → Int32) (f : Nat → Nat → Int32) (u : Nat → Nat → Int32) (la : Nat → Option Nat)  : Option (Int32) := (if (v 21).toNatClampNeg ≤ ix then none else (some (t ix 4)))
set_option maxHeartbeats 4000000 in
set_option maxRecDepth 100000 in
theorem c_St_go (l : Launch) (G : dm_G) (g : Nat → Nat) (Y : aK) (t : Nat → Nat → Int32) (T : va_W) (K : aK) (ix : Nat) (v : Nat → Int32) (f : Nat → Nat → Int32) (u : Nat → Nat → Int32) (la : Nat → Option Nat) (RES : Int32) (hY : okA G Y (v 21)) (hk : okA G K (v 20)) (hF : F_St_go t ix v f u la = some RES) : dm_Ct l y_St_go b_St_go 1 (some .int) rm_St_go G (aw G g Y t T K v f u la) [.ref (Y.2.2.2 ix)] (fun ov w' => ov = some (.int RES) ∧ w' = (aw G g Y t T K v f u la)) := by
  refine dm_Ct.of (by decide +kernel) (Nat.le_of_ble_eq_true rfl) ?_
  intro p e s m below meth c A ls B hl hP hD hS
  have hx := B.1
  have hb := B.2.1
  have hl : lv_has ls 1 [(0, .ref (Y.2.2.2 ix))] := hl
  have hF : (if (v 21).toNatClampNeg ≤ ix then none else (some (t ix 4))) = some RES := hF
  refine lv_aload_n hx hb d_St_go_0 rfl (lv_at hl 0 rfl) ?_
  obtain ⟨hi, hF⟩ := dm_chk hF
  refine aw_gs_4 (i := ix) (x := (t ix 4)) B hP hi rfl k_509 d_St_go_1 ?_
  have hF := Option.some.inj hF
  subst hF
  exact dm_ret B rfl d_St_go_4 (by show 0 ≤ 0; omega) (by show 0 ≤ 0; omega) hP hD hS ⟨rfl, rfl⟩
abbrev b_Pl_be : ByteArray := prog_8_method_2_code
abbrev y_Pl_be : MethodName := { cls := "DelayMachine$Placed", name := "be", desc := "(III)LDelayMachine$Placed;" }
theorem d_Pl_be_0 : decode b_Pl_be 0 = .ok (.aload_n 0, 1) := by decide +kernel
theorem d_Pl_be_1 : decode b_Pl_be 1 = .ok (.iload_n 1, 1) := by decide +kernel
theorem d_Pl_be_2 : decode b_Pl_be 2 = .ok (.putfield 7, 3) := by decide +kernel
theorem d_Pl_be_5 : decode b_Pl_be 5 = .ok (.aload_n 0, 1) := by decide +kernel
theorem d_Pl_be_6 : decode b_Pl_be 6 = .ok (.iload_n 2, 1) := by decide +kernel
theorem d_Pl_be_7 : decode b_Pl_be 7 = .ok (.putfield 13, 3) := by decide +kernel
theorem d_Pl_be_10 : decode b_Pl_be 10 = .ok (.aload_n 0, 1) := by decide +kernel
theorem d_Pl_be_11 : decode b_Pl_be 11 = .ok (.iload_n 3, 1) := by decide +kernel
theorem d_Pl_be_12 : decode b_Pl_be 12 = .ok (.putfield 16, 3) := by decide +kernel
theorem d_Pl_be_15 : decode b_Pl_be 15 = .ok (.aload_n 0, 1) := by decide +kernel
theorem d_Pl_be_16 : decode b_Pl_be 16 = .ok (.iconst 0, 1) := by decide +kernel
theorem d_Pl_be_17 : decode b_Pl_be 17 = .ok (.putfield 19, 3) := by decide +kernel
theorem d_Pl_be_20 : decode b_Pl_be 20 = .ok (.aload_n 0, 1) := by decide +kernel
theorem d_Pl_be_21 : decode b_Pl_be 21 = .ok (.iconst (-1), 1) := by decide +kernel
theorem d_Pl_be_22 : decode b_Pl_be 22 = .ok (.putfield 23, 3) := by decide +kernel
theorem d_Pl_be_25 : decode b_Pl_be 25 = .ok (.aload_n 0, 1) := by decide +kernel
theorem d_Pl_be_26 : decode b_Pl_be 26 = .ok (.areturn, 1) := by decide +kernel
theorem hd_Pl_be : y_Pl_be.cls ≠ "java/lang/invoke/MethodHandle" ∧ y_Pl_be.cls ≠ "java/lang/invoke/VarHandle" ∧ (parseMethodDescriptor y_Pl_be.desc).map (fun d => d.parameters.length) = some 3 := by decide +kernel
abbrev rm_Pl_be : Room := { frames := 0, cells := 0, slots := 0, locals := 0 }
def F_Pl_be (t : Nat → Nat → Int32) (ix : Nat) (x1 x2 x3 : Int32)  (v0 : Nat → Int32) (f0 : Nat → Nat → Int32) (u0 : Nat → Nat → Int32) (la0 : Nat → Option Nat) : Option (Nat × (Nat → Int32) × (Nat → Nat → Int32) × (Nat → Nat → Int32) × (Nat → Option Nat)) := (if (v0 20).toNatClampNeg ≤ ix then none else (if (v0 20).toNatClampNeg ≤ ix then none else (if (v0 20).toNatClampNeg ≤ ix then none else (if (v0 20).toNatClampNeg ≤ ix then none else (if (v0 20).toNatClampNeg ≤ ix then none else (some (ix, v0, f0, (va_up (va_up (va_up (va_up (va_up u0 ix (va_up (u0 ix) 0 x1)) ix (va_up ((va_up u0 ix (va_up (u0 ix) 0 x1)) ix) 1 x2)) ix (va_up ((va_up (va_up u0 ix (va_up (u0 ix) 0 x1)) ix (va_up ((va_up u0 ix (va_up (u0 ix) 0 x1)) ix) 1 x2)) ix) 2 x3)) ix (va_up ((va_up (va_up (va_up u0 ix (va_up (u0 ix) 0 x1)) ix (va_up ((va_up u0 ix (va_up (u0 ix) 0 x1)) ix) 1 x2)) ix (va_up ((va_up (va_up u0 ix (va_up (u0 ix) 0 x1)) ix (va_up ((va_up u0 ix (va_up (u0 ix) 0 x1)) ix) 1 x2)) ix) 2 x3)) ix) 3 (0 : Int32))) ix (va_up ((va_up (va_up (va_up (va_up u0 ix (va_up (u0 ix) 0 x1)) ix (va_up ((va_up u0 ix (va_up (u0 ix) 0 x1)) ix) 1 x2)) ix (va_up ((va_up (va_up u0 ix (va_up (u0 ix) 0 x1)) ix (va_up ((va_up u0 ix (va_up (u0 ix) 0 x1)) ix) 1 x2)) ix) 2 x3)) ix (va_up ((va_up (va_up (va_up u0 ix (va_up (u0 ix) 0 x1)) ix (va_up ((va_up u0 ix (va_up (u0 ix) 0 x1)) ix) 1 x2)) ix (va_up ((va_up (va_up u0 ix (va_up (u0 ix) 0 x1)) ix (va_up ((va_up u0 ix (va_up (u0 ix) 0 x1)) ix) 1 x2)) ix) 2 x3)) ix) 3 (0 : Int32))) ix) 4 (-1 : Int32))), la0)))))))
set_option maxHeartbeats 4000000 in
set_option maxRecDepth 100000 in
theorem c_Pl_be (l : Launch) (G : dm_G) (g : Nat → Nat) (Y : aK) (t : Nat → Nat → Int32) (T : va_W) (K : aK) (ix : Nat) (x1 x2 x3 : Int32) (v0 : Nat → Int32) (f0 : Nat → Nat → Int32) (u0 : Nat → Nat → Int32) (la0 : Nat → Option Nat) (RES : Nat × (Nat → Int32) × (Nat → Nat → Int32) × (Nat → Nat → Int32) × (Nat → Option Nat)) (hY : okA G Y (v0 21)) (hk : okA G K (v0 20)) (hF : F_Pl_be t ix x1 x2 x3 v0 f0 u0 la0 = some RES) : dm_Ct l y_Pl_be b_Pl_be 4 (some (.object "DelayMachine$Placed")) rm_Pl_be G (aw G g Y t T K v0 f0 u0 la0) [.ref (K.2.2.2 ix), .int x1, .int x2, .int x3] (fun ov w' => okA G Y (RES.2.1 21) ∧ okA G K (RES.2.1 20) ∧ extP K K (v0 20) (RES.2.1 20) ∧ ov = some (.ref (K.2.2.2 RES.1)) ∧ w' = (aw G g Y t T K RES.2.1 RES.2.2.1 RES.2.2.2.1 RES.2.2.2.2)) := by
  refine dm_Ct.of (by decide +kernel) (Nat.le_of_ble_eq_true rfl) ?_
  intro p e s m below meth c A ls B hl hP hD hS
  have hx := B.1
  have hb := B.2.1
  have hl : lv_has ls 4 [(0, .ref (K.2.2.2 ix)), (1, .int x1), (2, .int x2), (3, .int x3)] := hl
  have hext : extP K K (v0 20) (v0 20) := extP.rf
  have hF : (if (v0 20).toNatClampNeg ≤ ix then none else (if (v0 20).toNatClampNeg ≤ ix then none else (if (v0 20).toNatClampNeg ≤ ix then none else (if (v0 20).toNatClampNeg ≤ ix then none else (if (v0 20).toNatClampNeg ≤ ix then none else (some (ix, v0, f0, (va_up (va_up (va_up (va_up (va_up u0 ix (va_up (u0 ix) 0 x1)) ix (va_up ((va_up u0 ix (va_up (u0 ix) 0 x1)) ix) 1 x2)) ix (va_up ((va_up (va_up u0 ix (va_up (u0 ix) 0 x1)) ix (va_up ((va_up u0 ix (va_up (u0 ix) 0 x1)) ix) 1 x2)) ix) 2 x3)) ix (va_up ((va_up (va_up (va_up u0 ix (va_up (u0 ix) 0 x1)) ix (va_up ((va_up u0 ix (va_up (u0 ix) 0 x1)) ix) 1 x2)) ix (va_up ((va_up (va_up u0 ix (va_up (u0 ix) 0 x1)) ix (va_up ((va_up u0 ix (va_up (u0 ix) 0 x1)) ix) 1 x2)) ix) 2 x3)) ix) 3 (0 : Int32))) ix (va_up ((va_up (va_up (va_up (va_up u0 ix (va_up (u0 ix) 0 x1)) ix (va_up ((va_up u0 ix (va_up (u0 ix) 0 x1)) ix) 1 x2)) ix (va_up ((va_up (va_up u0 ix (va_up (u0 ix) 0 x1)) ix (va_up ((va_up u0 ix (va_up (u0 ix) 0 x1)) ix) 1 x2)) ix) 2 x3)) ix (va_up ((va_up (va_up (va_up u0 ix (va_up (u0 ix) 0 x1)) ix (va_up ((va_up u0 ix (va_up (u0 ix) 0 x1)) ix) 1 x2)) ix (va_up ((va_up (va_up u0 ix (va_up (u0 ix) 0 x1)) ix (va_up ((va_up u0 ix (va_up (u0 ix) 0 x1)) ix) 1 x2)) ix) 2 x3)) ix) 3 (0 : Int32))) ix) 4 (-1 : Int32))), la0))))))) = some RES := hF
  refine lv_aload_n hx hb d_Pl_be_0 rfl (lv_at hl 0 rfl) ?_
  refine lv_iload_n hx hb d_Pl_be_1 rfl (lv_at hl 1 rfl) ?_
  obtain ⟨hi, hF⟩ := dm_chk hF
  refine aw_pl_0 (i := ix) (x := x1) B hP hD hS hi k_652 d_Pl_be_2 (fun H locs hP hD hS => ?_)
  refine lv_aload_n hx hb d_Pl_be_5 rfl (lv_at hl 0 rfl) ?_
  refine lv_iload_n hx hb d_Pl_be_6 rfl (lv_at hl 2 rfl) ?_
  obtain ⟨hi, hF⟩ := dm_chk hF
  refine aw_pl_1 (i := ix) (x := x2) B hP hD hS hi k_654 d_Pl_be_7 (fun H locs hP hD hS => ?_)
  refine lv_aload_n hx hb d_Pl_be_10 rfl (lv_at hl 0 rfl) ?_
  refine lv_iload_n hx hb d_Pl_be_11 rfl (lv_at hl 3 rfl) ?_
  obtain ⟨hi, hF⟩ := dm_chk hF
  refine aw_pl_2 (i := ix) (x := x3) B hP hD hS hi k_656 d_Pl_be_12 (fun H locs hP hD hS => ?_)
  refine lv_aload_n hx hb d_Pl_be_15 rfl (lv_at hl 0 rfl) ?_
  refine lv_iconst (v := (0 : Int32)) hx hb d_Pl_be_16 (by decide) ?_
  obtain ⟨hi, hF⟩ := dm_chk hF
  refine aw_pl_3 (i := ix) (x := (0 : Int32)) B hP hD hS hi (by decide) k_658 d_Pl_be_17 (fun H locs hP hD hS => ?_)
  refine lv_aload_n hx hb d_Pl_be_20 rfl (lv_at hl 0 rfl) ?_
  refine lv_iconst (v := (-1 : Int32)) hx hb d_Pl_be_21 (by decide) ?_
  obtain ⟨hi, hF⟩ := dm_chk hF
  refine aw_pl_4 (i := ix) (x := (-1 : Int32)) B hP hD hS hi k_659 d_Pl_be_22 (fun H locs hP hD hS => ?_)
  refine lv_aload_n hx hb d_Pl_be_25 rfl (lv_at hl 0 rfl) ?_
  have hF := Option.some.inj hF
  subst hF
  exact dm_reta B (Or.inl ⟨_, rfl⟩) (Or.inr ⟨_, rfl⟩) d_Pl_be_26 (by show 0 ≤ 0; omega) (by show 0 ≤ 0; omega) hP hD hS ⟨hY, hk, hext, rfl, rfl⟩
abbrev b_Pl_lead : ByteArray := prog_8_method_3_code
abbrev y_Pl_lead : MethodName := { cls := "DelayMachine$Placed", name := "lead", desc := "(II)V" }
theorem d_Pl_lead_0 : decode b_Pl_lead 0 = .ok (.aload_n 0, 1) := by decide +kernel
theorem d_Pl_lead_1 : decode b_Pl_lead 1 = .ok (.aload_n 0, 1) := by decide +kernel
theorem d_Pl_lead_2 : decode b_Pl_lead 2 = .ok (.getfield 16, 3) := by decide +kernel
theorem d_Pl_lead_5 : decode b_Pl_lead 5 = .ok (.sipush (32767), 3) := by decide +kernel
theorem d_Pl_lead_8 : decode b_Pl_lead 8 = .ok (.iand, 1) := by decide +kernel
theorem d_Pl_lead_9 : decode b_Pl_lead 9 = .ok (.iload_n 2, 1) := by decide +kernel
theorem d_Pl_lead_10 : decode b_Pl_lead 10 = .ok (.aload_n 0, 1) := by decide +kernel
theorem d_Pl_lead_11 : decode b_Pl_lead 11 = .ok (.getfield 13, 3) := by decide +kernel
theorem d_Pl_lead_14 : decode b_Pl_lead 14 = .ok (.isub, 1) := by decide +kernel
theorem d_Pl_lead_15 : decode b_Pl_lead 15 = .ok (.iconst 2, 1) := by decide +kernel
theorem d_Pl_lead_16 : decode b_Pl_lead 16 = .ok (.isub, 1) := by decide +kernel
theorem d_Pl_lead_17 : decode b_Pl_lead 17 = .ok (.bipush (31), 2) := by decide +kernel
theorem d_Pl_lead_19 : decode b_Pl_lead 19 = .ok (.iand, 1) := by decide +kernel
theorem d_Pl_lead_20 : decode b_Pl_lead 20 = .ok (.bipush (15), 2) := by decide +kernel
theorem d_Pl_lead_22 : decode b_Pl_lead 22 = .ok (.ishl, 1) := by decide +kernel
theorem d_Pl_lead_23 : decode b_Pl_lead 23 = .ok (.ior, 1) := by decide +kernel
theorem d_Pl_lead_24 : decode b_Pl_lead 24 = .ok (.iload_n 1, 1) := by decide +kernel
theorem d_Pl_lead_25 : decode b_Pl_lead 25 = .ok (.bipush (20), 2) := by decide +kernel
theorem d_Pl_lead_27 : decode b_Pl_lead 27 = .ok (.ishl, 1) := by decide +kernel
theorem d_Pl_lead_28 : decode b_Pl_lead 28 = .ok (.ior, 1) := by decide +kernel
theorem d_Pl_lead_29 : decode b_Pl_lead 29 = .ok (.putfield 16, 3) := by decide +kernel
theorem d_Pl_lead_32 : decode b_Pl_lead 32 = .ok (.aload_n 0, 1) := by decide +kernel
theorem d_Pl_lead_33 : decode b_Pl_lead 33 = .ok (.iconst 1, 1) := by decide +kernel
theorem d_Pl_lead_34 : decode b_Pl_lead 34 = .ok (.putfield 19, 3) := by decide +kernel
theorem d_Pl_lead_37 : decode b_Pl_lead 37 = .ok (.return_, 1) := by decide +kernel
theorem hd_Pl_lead : y_Pl_lead.cls ≠ "java/lang/invoke/MethodHandle" ∧ y_Pl_lead.cls ≠ "java/lang/invoke/VarHandle" ∧ (parseMethodDescriptor y_Pl_lead.desc).map (fun d => d.parameters.length) = some 2 := by decide +kernel
abbrev rm_Pl_lead : Room := { frames := 0, cells := 0, slots := 0, locals := 0 }
def F_Pl_lead (t : Nat → Nat → Int32) (ix : Nat) (x1 x2 : Int32)  (v0 : Nat → Int32) (f0 : Nat → Nat → Int32) (u0 : Nat → Nat → Int32) (la0 : Nat → Option Nat) : Option ((Nat → Int32) × (Nat → Nat → Int32) × (Nat → Nat → Int32) × (Nat → Option Nat)) := (if (v0 20).toNatClampNeg ≤ ix then none else (if (v0 20).toNatClampNeg ≤ ix then none else (if (v0 20).toNatClampNeg ≤ ix then none else (if (v0 20).toNatClampNeg ≤ ix then none else (some (v0, f0, (va_up (va_up u0 ix (va_up (u0 ix) 2 ((((u0 ix 2) &&& (32767 : Int32)) ||| ((((x2 - (u0 ix 1)) - (2 : Int32)) &&& (31 : Int32)) <<< ((15 : Int32) &&& 31))) ||| (x1 <<< ((20 : Int32) &&& 31))))) ix (va_up ((va_up u0 ix (va_up (u0 ix) 2 ((((u0 ix 2) &&& (32767 : Int32)) ||| ((((x2 - (u0 ix 1)) - (2 : Int32)) &&& (31 : Int32)) <<< ((15 : Int32) &&& 31))) ||| (x1 <<< ((20 : Int32) &&& 31))))) ix) 3 (1 : Int32))), la0))))))
set_option maxHeartbeats 4000000 in
set_option maxRecDepth 100000 in
theorem c_Pl_lead (l : Launch) (G : dm_G) (g : Nat → Nat) (Y : aK) (t : Nat → Nat → Int32) (T : va_W) (K : aK) (ix : Nat) (x1 x2 : Int32) (v0 : Nat → Int32) (f0 : Nat → Nat → Int32) (u0 : Nat → Nat → Int32) (la0 : Nat → Option Nat) (RES : (Nat → Int32) × (Nat → Nat → Int32) × (Nat → Nat → Int32) × (Nat → Option Nat)) (hY : okA G Y (v0 21)) (hk : okA G K (v0 20)) (hF : F_Pl_lead t ix x1 x2 v0 f0 u0 la0 = some RES) : dm_Ct l y_Pl_lead b_Pl_lead 3 none rm_Pl_lead G (aw G g Y t T K v0 f0 u0 la0) [.ref (K.2.2.2 ix), .int x1, .int x2] (fun ov w' => okA G Y (RES.1 21) ∧ okA G K (RES.1 20) ∧ extP K K (v0 20) (RES.1 20) ∧ ov = none ∧ w' = (aw G g Y t T K RES.1 RES.2.1 RES.2.2.1 RES.2.2.2)) := by
  refine dm_Ct.of (by decide +kernel) (Nat.le_of_ble_eq_true rfl) ?_
  intro p e s m below meth c A ls B hl hP hD hS
  have hx := B.1
  have hb := B.2.1
  have hl : lv_has ls 3 [(0, .ref (K.2.2.2 ix)), (1, .int x1), (2, .int x2)] := hl
  have hext : extP K K (v0 20) (v0 20) := extP.rf
  have hF : (if (v0 20).toNatClampNeg ≤ ix then none else (if (v0 20).toNatClampNeg ≤ ix then none else (if (v0 20).toNatClampNeg ≤ ix then none else (if (v0 20).toNatClampNeg ≤ ix then none else (some (v0, f0, (va_up (va_up u0 ix (va_up (u0 ix) 2 ((((u0 ix 2) &&& (32767 : Int32)) ||| ((((x2 - (u0 ix 1)) - (2 : Int32)) &&& (31 : Int32)) <<< ((15 : Int32) &&& 31))) ||| (x1 <<< ((20 : Int32) &&& 31))))) ix (va_up ((va_up u0 ix (va_up (u0 ix) 2 ((((u0 ix 2) &&& (32767 : Int32)) ||| ((((x2 - (u0 ix 1)) - (2 : Int32)) &&& (31 : Int32)) <<< ((15 : Int32) &&& 31))) ||| (x1 <<< ((20 : Int32) &&& 31))))) ix) 3 (1 : Int32))), la0)))))) = some RES := hF
  refine lv_aload_n hx hb d_Pl_lead_0 rfl (lv_at hl 0 rfl) ?_
  refine lv_aload_n hx hb d_Pl_lead_1 rfl (lv_at hl 0 rfl) ?_
  obtain ⟨hi, hF⟩ := dm_chk hF
  refine aw_gl_2 (i := ix) (x := (u0 ix 2)) B hP hi rfl k_656 d_Pl_lead_2 ?_
  refine lv_sipush (v := (32767 : Int32)) hx hb d_Pl_lead_5 (by decide) ?_
  refine lv_iand hx hb d_Pl_lead_8 ?_
  refine lv_iload_n hx hb d_Pl_lead_9 rfl (lv_at hl 2 rfl) ?_
  refine lv_aload_n hx hb d_Pl_lead_10 rfl (lv_at hl 0 rfl) ?_
  obtain ⟨hi, hF⟩ := dm_chk hF
  refine aw_gl_1 (i := ix) (x := (u0 ix 1)) B hP hi rfl k_654 d_Pl_lead_11 ?_
  refine lv_isub hx hb d_Pl_lead_14 ?_
  refine lv_iconst (v := (2 : Int32)) hx hb d_Pl_lead_15 (by decide) ?_
  refine lv_isub hx hb d_Pl_lead_16 ?_
  refine lv_bipush (v := (31 : Int32)) hx hb d_Pl_lead_17 (by decide) ?_
  refine lv_iand hx hb d_Pl_lead_19 ?_
  refine lv_bipush (v := (15 : Int32)) hx hb d_Pl_lead_20 (by decide) ?_
  refine lv_ishl hx hb d_Pl_lead_22 ?_
  refine lv_ior hx hb d_Pl_lead_23 ?_
  refine lv_iload_n hx hb d_Pl_lead_24 rfl (lv_at hl 1 rfl) ?_
  refine lv_bipush (v := (20 : Int32)) hx hb d_Pl_lead_25 (by decide) ?_
  refine lv_ishl hx hb d_Pl_lead_27 ?_
  refine lv_ior hx hb d_Pl_lead_28 ?_
  obtain ⟨hi, hF⟩ := dm_chk hF
  refine aw_pl_2 (i := ix) (x := ((((u0 ix 2) &&& (32767 : Int32)) ||| ((((x2 - (u0 ix 1)) - (2 : Int32)) &&& (31 : Int32)) <<< ((15 : Int32) &&& 31))) ||| (x1 <<< ((20 : Int32) &&& 31)))) B hP hD hS hi k_656 d_Pl_lead_29 (fun H locs hP hD hS => ?_)
  refine lv_aload_n hx hb d_Pl_lead_32 rfl (lv_at hl 0 rfl) ?_
  refine lv_iconst (v := (1 : Int32)) hx hb d_Pl_lead_33 (by decide) ?_
  obtain ⟨hi, hF⟩ := dm_chk hF
  refine aw_pl_3 (i := ix) (x := (1 : Int32)) B hP hD hS hi (by decide) k_658 d_Pl_lead_34 (fun H locs hP hD hS => ?_)
  have hF := Option.some.inj hF
  subst hF
  exact dm_retv B d_Pl_lead_37 (by show 0 ≤ 0; omega) (by show 0 ≤ 0; omega) hP hD hS ⟨hY, hk, hext, rfl, rfl⟩
abbrev b_As_forget : ByteArray := prog_2_method_2_code
abbrev y_As_forget : MethodName := { cls := "DelayMachine$Assembler", name := "forget", desc := "()V" }
theorem d_As_forget_0 : decode b_As_forget 0 = .ok (.iconst 0, 1) := by decide +kernel
theorem d_As_forget_1 : decode b_As_forget 1 = .ok (.istore_n 1, 1) := by decide +kernel
theorem d_As_forget_2 : decode b_As_forget 2 = .ok (.iload_n 1, 1) := by decide +kernel
theorem d_As_forget_3 : decode b_As_forget 3 = .ok (.bipush (16), 2) := by decide +kernel
theorem d_As_forget_5 : decode b_As_forget 5 = .ok (.if_icmp .ge (16), 3) := by decide +kernel
theorem d_As_forget_8 : decode b_As_forget 8 = .ok (.aload_n 0, 1) := by decide +kernel
theorem d_As_forget_9 : decode b_As_forget 9 = .ok (.getfield 32, 3) := by decide +kernel
theorem d_As_forget_12 : decode b_As_forget 12 = .ok (.iload_n 1, 1) := by decide +kernel
theorem d_As_forget_13 : decode b_As_forget 13 = .ok (.iconst (-1), 1) := by decide +kernel
theorem d_As_forget_14 : decode b_As_forget 14 = .ok (.iastore, 1) := by decide +kernel
theorem d_As_forget_15 : decode b_As_forget 15 = .ok (.iinc 1 (1), 3) := by decide +kernel
theorem d_As_forget_18 : decode b_As_forget 18 = .ok (.goto (-16), 3) := by decide +kernel
theorem d_As_forget_21 : decode b_As_forget 21 = .ok (.iconst 0, 1) := by decide +kernel
theorem d_As_forget_22 : decode b_As_forget 22 = .ok (.istore_n 1, 1) := by decide +kernel
theorem d_As_forget_23 : decode b_As_forget 23 = .ok (.iload_n 1, 1) := by decide +kernel
theorem d_As_forget_24 : decode b_As_forget 24 = .ok (.bipush (12), 2) := by decide +kernel
theorem d_As_forget_26 : decode b_As_forget 26 = .ok (.if_icmp .ge (16), 3) := by decide +kernel
theorem d_As_forget_29 : decode b_As_forget 29 = .ok (.aload_n 0, 1) := by decide +kernel
theorem d_As_forget_30 : decode b_As_forget 30 = .ok (.getfield 35, 3) := by decide +kernel
theorem d_As_forget_33 : decode b_As_forget 33 = .ok (.iload_n 1, 1) := by decide +kernel
theorem d_As_forget_34 : decode b_As_forget 34 = .ok (.iconst (-1), 1) := by decide +kernel
theorem d_As_forget_35 : decode b_As_forget 35 = .ok (.iastore, 1) := by decide +kernel
theorem d_As_forget_36 : decode b_As_forget 36 = .ok (.iinc 1 (1), 3) := by decide +kernel
theorem d_As_forget_39 : decode b_As_forget 39 = .ok (.goto (-16), 3) := by decide +kernel
theorem d_As_forget_42 : decode b_As_forget 42 = .ok (.return_, 1) := by decide +kernel
theorem hd_As_forget : y_As_forget.cls ≠ "java/lang/invoke/MethodHandle" ∧ y_As_forget.cls ≠ "java/lang/invoke/VarHandle" ∧ (parseMethodDescriptor y_As_forget.desc).map (fun d => d.parameters.length) = some 0 := by decide +kernel
abbrev rm_As_forget : Room := { frames := 0, cells := 0, slots := 0, locals := 0 }
def F_As_forget_23 (t : Nat → Nat → Int32)   : Nat → Int32 → (Nat → Int32) → (Nat → Nat → Int32) → (Nat → Nat → Int32) → (Nat → Option Nat) → Option ((Nat → Int32) × (Nat → Nat → Int32) × (Nat → Nat → Int32) × (Nat → Option Nat))
  | 0, _, _, _, _, _ => none
  | n + 1, l1, v, f, u, la => (if (12 : Int32) ≤ l1 then (some (v, f, u, la)) else (if l1 < 0 ∨ 12 ≤ l1.toNatClampNeg then none else (F_As_forget_23 t n (l1 + (1 : Int32)) v (va_up f 7 (upd (f 7) l1.toNatClampNeg (-1 : Int32))) u la)))
def F_As_forget_2 (t : Nat → Nat → Int32)   : Nat → Int32 → (Nat → Int32) → (Nat → Nat → Int32) → (Nat → Nat → Int32) → (Nat → Option Nat) → Option ((Nat → Int32) × (Nat → Nat → Int32) × (Nat → Nat → Int32) × (Nat → Option Nat))
  | 0, _, _, _, _, _ => none
  | n + 1, l1, v, f, u, la => (if (16 : Int32) ≤ l1 then (F_As_forget_23 t 100 (0 : Int32) v f u la) else (if l1 < 0 ∨ 16 ≤ l1.toNatClampNeg then none else (F_As_forget_2 t n (l1 + (1 : Int32)) v (va_up f 6 (upd (f 6) l1.toNatClampNeg (-1 : Int32))) u la)))
def F_As_forget (t : Nat → Nat → Int32)  (v0 : Nat → Int32) (f0 : Nat → Nat → Int32) (u0 : Nat → Nat → Int32) (la0 : Nat → Option Nat) : Option ((Nat → Int32) × (Nat → Nat → Int32) × (Nat → Nat → Int32) × (Nat → Option Nat)) := (F_As_forget_2 t 100 (0 : Int32) v0 f0 u0 la0)
set_option maxHeartbeats 4000000 in
set_option maxRecDepth 100000 in
theorem c_As_forget (l : Launch) (G : dm_G) (g : Nat → Nat) (Y : aK) (t : Nat → Nat → Int32) (T : va_W) (K : aK) (v0 : Nat → Int32) (f0 : Nat → Nat → Int32) (u0 : Nat → Nat → Int32) (la0 : Nat → Option Nat) (RES : (Nat → Int32) × (Nat → Nat → Int32) × (Nat → Nat → Int32) × (Nat → Option Nat)) (hY : okA G Y (v0 21)) (hk : okA G K (v0 20)) (hF : F_As_forget t v0 f0 u0 la0 = some RES) : dm_Ct l y_As_forget b_As_forget 2 none rm_As_forget G (aw G g Y t T K v0 f0 u0 la0) [.ref (g 91)] (fun ov w' => okA G Y (RES.1 21) ∧ okA G K (RES.1 20) ∧ extP K K (v0 20) (RES.1 20) ∧ ov = none ∧ w' = (aw G g Y t T K RES.1 RES.2.1 RES.2.2.1 RES.2.2.2)) := by
  refine dm_Ct.of (by decide +kernel) (Nat.le_of_ble_eq_true rfl) ?_
  intro p e s m below meth c A ls B hl hP hD hS
  have hx := B.1
  have hb := B.2.1
  have hl : lv_has ls 2 [(0, .ref (g 91))] := hl
  have hext : extP K K (v0 20) (v0 20) := extP.rf
  have K23 : ∀ (n23 : Nat) (ls : Array Slot) (H : Heap) (locs : List Loc) (l1 : Int32) (v : Nat → Int32) (f : Nat → Nat → Int32) (u : Nat → Nat → Int32) (la : Nat → Option Nat), okA G Y (v 21) → okA G K (v 20) → extP K K (v0 20) (v 20) → lv_has ls 2 [(0, .ref (g 91)), (1, .int l1)] → va_P G.1 dm_cl (aw G g Y t T K v f u la) H → va_D A (aw G g Y t T K v f u la) → va_S A s.heap H locs → F_As_forget_23 t n23 l1 v f u la = some RES → W p l e rm_As_forget s m ([.ref (g 91)] : List Value).toArray below meth c H locs 0 0 (dm_Z below G s ([.ref (g 91)] : List Value).toArray A rm_As_forget.cells rm_As_forget.slots (fun ov w' => okA G Y (RES.1 21) ∧ okA G K (RES.1 20) ∧ extP K K (v0 20) (RES.1 20) ∧ ov = none ∧ w' = (aw G g Y t T K RES.1 RES.2.1 RES.2.2.1 RES.2.2.2))) (F0 m 23 ls []) := by
    intro n23
    induction n23 with
    | zero => intro ls H locs l1 v f u la hY hk hext hl hP hD hS hF; cases hF
    | succ n23 ih23 =>
      intro ls H locs l1 v f u la hY hk hext hl hP hD hS hF
      have hF : (if (12 : Int32) ≤ l1 then (some (v, f, u, la)) else (if l1 < 0 ∨ 12 ≤ l1.toNatClampNeg then none else (F_As_forget_23 t n23 (l1 + (1 : Int32)) v (va_up f 7 (upd (f 7) l1.toNatClampNeg (-1 : Int32))) u la))) = some RES := hF
      refine lv_iload_n hx hb d_As_forget_23 rfl (lv_at hl 1 rfl) ?_
      refine lv_bipush (v := (12 : Int32)) hx hb d_As_forget_24 (by decide) ?_
      refine lv_icmp_ge (tgt := 42) hx hb d_As_forget_26 (by decide) (fun (hh : (12 : Int32) ≤ l1) => ?_) (fun (hh : ¬ (12 : Int32) ≤ l1) => ?_)
      · rw [if_pos hh] at hF
        have hF := Option.some.inj hF
        subst hF
        exact dm_retv B d_As_forget_42 (by show 0 ≤ 0; omega) (by show 0 ≤ 0; omega) hP hD hS ⟨hY, hk, hext, rfl, rfl⟩
      · rw [if_neg hh] at hF
        refine lv_aload_n hx hb d_As_forget_29 rfl (lv_at hl 0 rfl) ?_
        refine aw_g_0_7 B hP k_294 d_As_forget_30 ?_
        refine lv_iload_n hx hb d_As_forget_33 rfl (lv_at hl 1 rfl) ?_
        refine lv_iconst (v := (-1 : Int32)) hx hb d_As_forget_34 (by decide) ?_
        obtain ⟨hi, hF⟩ := dm_chk hF
        refine aw_s_5 (F := (f 7)) B hP hD hS rfl hi d_As_forget_35 (fun H locs hP hD hS => ?_)
        refine lv_iinc (k := 1) (v := (l1 + (1 : Int32))) (lv' := [(1, .int (l1 + (1 : Int32))), (0, .ref (g 91))]) hx hb d_As_forget_36 hl rfl (congrArg (fun q => l1 + q) (by decide)) (Nat.le_of_ble_eq_true rfl) rfl (fun ls hl => ?_)
        have hl : lv_has ls 2 [(0, .ref (g 91)), (1, .int (l1 + (1 : Int32)))] := lv_sub hl [1, 0] rfl
        refine lv_goto (tgt := 23) hx hb d_As_forget_39 (by decide) ?_
        exact ih23 ls _ _ (l1 + (1 : Int32)) v (va_up f 7 (upd (f 7) l1.toNatClampNeg (-1 : Int32))) u la hY hk hext (lv_sub hl [0, 1] rfl) hP hD hS hF
  have K2 : ∀ (n2 : Nat) (ls : Array Slot) (H : Heap) (locs : List Loc) (l1 : Int32) (v : Nat → Int32) (f : Nat → Nat → Int32) (u : Nat → Nat → Int32) (la : Nat → Option Nat), okA G Y (v 21) → okA G K (v 20) → extP K K (v0 20) (v 20) → lv_has ls 2 [(0, .ref (g 91)), (1, .int l1)] → va_P G.1 dm_cl (aw G g Y t T K v f u la) H → va_D A (aw G g Y t T K v f u la) → va_S A s.heap H locs → F_As_forget_2 t n2 l1 v f u la = some RES → W p l e rm_As_forget s m ([.ref (g 91)] : List Value).toArray below meth c H locs 0 0 (dm_Z below G s ([.ref (g 91)] : List Value).toArray A rm_As_forget.cells rm_As_forget.slots (fun ov w' => okA G Y (RES.1 21) ∧ okA G K (RES.1 20) ∧ extP K K (v0 20) (RES.1 20) ∧ ov = none ∧ w' = (aw G g Y t T K RES.1 RES.2.1 RES.2.2.1 RES.2.2.2))) (F0 m 2 ls []) := by
    intro n2
    induction n2 with
    | zero => intro ls H locs l1 v f u la hY hk hext hl hP hD hS hF; cases hF
    | succ n2 ih2 =>
      intro ls H locs l1 v f u la hY hk hext hl hP hD hS hF
      have hF : (if (16 : Int32) ≤ l1 then (F_As_forget_23 t 100 (0 : Int32) v f u la) else (if l1 < 0 ∨ 16 ≤ l1.toNatClampNeg then none else (F_As_forget_2 t n2 (l1 + (1 : Int32)) v (va_up f 6 (upd (f 6) l1.toNatClampNeg (-1 : Int32))) u la))) = some RES := hF
      refine lv_iload_n hx hb d_As_forget_2 rfl (lv_at hl 1 rfl) ?_
      refine lv_bipush (v := (16 : Int32)) hx hb d_As_forget_3 (by decide) ?_
      refine lv_icmp_ge (tgt := 21) hx hb d_As_forget_5 (by decide) (fun (hh : (16 : Int32) ≤ l1) => ?_) (fun (hh : ¬ (16 : Int32) ≤ l1) => ?_)
      · rw [if_pos hh] at hF
        refine lv_iconst (v := (0 : Int32)) hx hb d_As_forget_21 (by decide) ?_
        refine lv_istore_n (lv' := [(1, .int (0 : Int32)), (0, .ref (g 91))]) hx hb d_As_forget_22 rfl hl (Nat.le_of_ble_eq_true rfl) rfl (fun ls hl => ?_)
        have hl : lv_has ls 2 [(0, .ref (g 91)), (1, .int (0 : Int32))] := lv_sub hl [1, 0] rfl
        exact K23 100 ls _ _ (0 : Int32) v f u la hY hk hext (lv_sub hl [0, 1] rfl) hP hD hS hF
      · rw [if_neg hh] at hF
        refine lv_aload_n hx hb d_As_forget_8 rfl (lv_at hl 0 rfl) ?_
        refine aw_g_0_6 B hP k_292 d_As_forget_9 ?_
        refine lv_iload_n hx hb d_As_forget_12 rfl (lv_at hl 1 rfl) ?_
        refine lv_iconst (v := (-1 : Int32)) hx hb d_As_forget_13 (by decide) ?_
        obtain ⟨hi, hF⟩ := dm_chk hF
        refine aw_s_4 (F := (f 6)) B hP hD hS rfl hi d_As_forget_14 (fun H locs hP hD hS => ?_)
        refine lv_iinc (k := 1) (v := (l1 + (1 : Int32))) (lv' := [(1, .int (l1 + (1 : Int32))), (0, .ref (g 91))]) hx hb d_As_forget_15 hl rfl (congrArg (fun q => l1 + q) (by decide)) (Nat.le_of_ble_eq_true rfl) rfl (fun ls hl => ?_)
        have hl : lv_has ls 2 [(0, .ref (g 91)), (1, .int (l1 + (1 : Int32)))] := lv_sub hl [1, 0] rfl
        refine lv_goto (tgt := 2) hx hb d_As_forget_18 (by decide) ?_
        exact ih2 ls _ _ (l1 + (1 : Int32)) v (va_up f 6 (upd (f 6) l1.toNatClampNeg (-1 : Int32))) u la hY hk hext (lv_sub hl [0, 1] rfl) hP hD hS hF
  have hF : (F_As_forget_2 t 100 (0 : Int32) v0 f0 u0 la0) = some RES := hF
  refine lv_iconst (v := (0 : Int32)) hx hb d_As_forget_0 (by decide) ?_
  refine lv_istore_n (lv' := [(1, .int (0 : Int32)), (0, .ref (g 91))]) hx hb d_As_forget_1 rfl hl (Nat.le_of_ble_eq_true rfl) rfl (fun ls hl => ?_)
  have hl : lv_has ls 2 [(0, .ref (g 91)), (1, .int (0 : Int32))] := lv_sub hl [1, 0] rfl
  exact K2 100 ls _ _ (0 : Int32) v0 f0 u0 la0 hY hk hext (lv_sub hl [0, 1] rfl) hP hD hS hF
abbrev b_As_free : ByteArray := prog_2_method_4_code
abbrev y_As_free : MethodName := { cls := "DelayMachine$Assembler", name := "free", desc := "()I" }
theorem d_As_free_0 : decode b_As_free 0 = .ok (.iconst 0, 1) := by decide +kernel
theorem d_As_free_1 : decode b_As_free 1 = .ok (.istore_n 1, 1) := by decide +kernel
theorem d_As_free_2 : decode b_As_free 2 = .ok (.iload_n 1, 1) := by decide +kernel
theorem d_As_free_3 : decode b_As_free 3 = .ok (.bipush (32), 2) := by decide +kernel
theorem d_As_free_5 : decode b_As_free 5 = .ok (.if_icmp .ge (47), 3) := by decide +kernel
theorem d_As_free_8 : decode b_As_free 8 = .ok (.aload_n 0, 1) := by decide +kernel
theorem d_As_free_9 : decode b_As_free 9 = .ok (.getfield 72, 3) := by decide +kernel
theorem d_As_free_12 : decode b_As_free 12 = .ok (.iload_n 1, 1) := by decide +kernel
theorem d_As_free_13 : decode b_As_free 13 = .ok (.iadd, 1) := by decide +kernel
theorem d_As_free_14 : decode b_As_free 14 = .ok (.bipush (32), 2) := by decide +kernel
theorem d_As_free_16 : decode b_As_free 16 = .ok (.irem, 1) := by decide +kernel
theorem d_As_free_17 : decode b_As_free 17 = .ok (.istore_n 2, 1) := by decide +kernel
theorem d_As_free_18 : decode b_As_free 18 = .ok (.aload_n 0, 1) := by decide +kernel
theorem d_As_free_19 : decode b_As_free 19 = .ok (.getfield 21, 3) := by decide +kernel
theorem d_As_free_22 : decode b_As_free 22 = .ok (.iload_n 2, 1) := by decide +kernel
theorem d_As_free_23 : decode b_As_free 23 = .ok (.baload, 1) := by decide +kernel
theorem d_As_free_24 : decode b_As_free 24 = .ok (.ifCond .ne (5), 3) := by decide +kernel
theorem d_As_free_27 : decode b_As_free 27 = .ok (.iload_n 2, 1) := by decide +kernel
theorem d_As_free_28 : decode b_As_free 28 = .ok (.ireturn, 1) := by decide +kernel
theorem d_As_free_29 : decode b_As_free 29 = .ok (.aload_n 0, 1) := by decide +kernel
theorem d_As_free_30 : decode b_As_free 30 = .ok (.getfield 21, 3) := by decide +kernel
theorem d_As_free_33 : decode b_As_free 33 = .ok (.bipush (32), 2) := by decide +kernel
theorem d_As_free_35 : decode b_As_free 35 = .ok (.iload_n 2, 1) := by decide +kernel
theorem d_As_free_36 : decode b_As_free 36 = .ok (.iadd, 1) := by decide +kernel
theorem d_As_free_37 : decode b_As_free 37 = .ok (.baload, 1) := by decide +kernel
theorem d_As_free_38 : decode b_As_free 38 = .ok (.ifCond .ne (8), 3) := by decide +kernel
theorem d_As_free_41 : decode b_As_free 41 = .ok (.bipush (32), 2) := by decide +kernel
theorem d_As_free_43 : decode b_As_free 43 = .ok (.iload_n 2, 1) := by decide +kernel
theorem d_As_free_44 : decode b_As_free 44 = .ok (.iadd, 1) := by decide +kernel
theorem d_As_free_45 : decode b_As_free 45 = .ok (.ireturn, 1) := by decide +kernel
theorem d_As_free_46 : decode b_As_free 46 = .ok (.iinc 1 (1), 3) := by decide +kernel
theorem d_As_free_49 : decode b_As_free 49 = .ok (.goto (-47), 3) := by decide +kernel
theorem d_As_free_52 : decode b_As_free 52 = .ok (.iconst (-1), 1) := by decide +kernel
theorem d_As_free_53 : decode b_As_free 53 = .ok (.ireturn, 1) := by decide +kernel
theorem hd_As_free : y_As_free.cls ≠ "java/lang/invoke/MethodHandle" ∧ y_As_free.cls ≠ "java/lang/invoke/VarHandle" ∧ (parseMethodDescriptor y_As_free.desc).map (fun d => d.parameters.length) = some 0 := by decide +kernel
abbrev rm_As_free : Room := { frames := 0, cells := 0, slots := 0, locals := 0 }
def F_As_free_2 (t : Nat → Nat → Int32) (v : Nat → Int32) (f : Nat → Nat → Int32) (u : Nat → Nat → Int32) (la : Nat → Option Nat)  : Nat → Int32 → Option (Int32)
  | 0, _ => none
  | n + 1, l1 => (if (32 : Int32) ≤ l1 then (some (-1 : Int32)) else (if (((v 8) + l1) - ((v 8) + l1) / (32 : Int32) * (32 : Int32)) < 0 ∨ 96 ≤ (((v 8) + l1) - ((v 8) + l1) / (32 : Int32) * (32 : Int32)).toNatClampNeg then none else (if ((f 3) (((v 8) + l1) - ((v 8) + l1) / (32 : Int32) * (32 : Int32)).toNatClampNeg) = (0 : Int32) then (some (((v 8) + l1) - ((v 8) + l1) / (32 : Int32) * (32 : Int32))) else (if ((32 : Int32) + (((v 8) + l1) - ((v 8) + l1) / (32 : Int32) * (32 : Int32))) < 0 ∨ 96 ≤ ((32 : Int32) + (((v 8) + l1) - ((v 8) + l1) / (32 : Int32) * (32 : Int32))).toNatClampNeg then none else (if ((f 3) ((32 : Int32) + (((v 8) + l1) - ((v 8) + l1) / (32 : Int32) * (32 : Int32))).toNatClampNeg) = (0 : Int32) then (some ((32 : Int32) + (((v 8) + l1) - ((v 8) + l1) / (32 : Int32) * (32 : Int32)))) else (F_As_free_2 t v f u la n (l1 + (1 : Int32))))))))
def F_As_free (t : Nat → Nat → Int32) (v : Nat → Int32) (f : Nat → Nat → Int32) (u : Nat → Nat → Int32) (la : Nat → Option Nat)  : Option (Int32) := (F_As_free_2 t v f u la 100 (0 : Int32))
set_option maxHeartbeats 4000000 in
set_option maxRecDepth 100000 in
theorem c_As_free (l : Launch) (G : dm_G) (g : Nat → Nat) (Y : aK) (t : Nat → Nat → Int32) (T : va_W) (K : aK) (v : Nat → Int32) (f : Nat → Nat → Int32) (u : Nat → Nat → Int32) (la : Nat → Option Nat) (RES : Int32) (hY : okA G Y (v 21)) (hk : okA G K (v 20)) (hF : F_As_free t v f u la = some RES) : dm_Ct l y_As_free b_As_free 3 (some .int) rm_As_free G (aw G g Y t T K v f u la) [.ref (g 91)] (fun ov w' => ov = some (.int RES) ∧ w' = (aw G g Y t T K v f u la)) := by
  refine dm_Ct.of (by decide +kernel) (Nat.le_of_ble_eq_true rfl) ?_
  intro p e s m below meth c A ls B hl hP hD hS
  have hx := B.1
  have hb := B.2.1
  have hl : lv_has ls 3 [(0, .ref (g 91))] := hl
  have K2 : ∀ (n2 : Nat) (ls : Array Slot) (H : Heap) (locs : List Loc) (l1 : Int32) , lv_has ls 3 [(0, .ref (g 91)), (1, .int l1)] → va_P G.1 dm_cl (aw G g Y t T K v f u la) H → va_D A (aw G g Y t T K v f u la) → va_S A s.heap H locs → F_As_free_2 t v f u la n2 l1  = some RES → W p l e rm_As_free s m ([.ref (g 91)] : List Value).toArray below meth c H locs 0 0 (dm_Z below G s ([.ref (g 91)] : List Value).toArray A rm_As_free.cells rm_As_free.slots (fun ov w' => ov = some (.int RES) ∧ w' = (aw G g Y t T K v f u la))) (F0 m 2 ls []) := by
    intro n2
    induction n2 with
    | zero => intro ls H locs l1 hl hP hD hS hF; cases hF
    | succ n2 ih2 =>
      intro ls H locs l1 hl hP hD hS hF
      have hF : (if (32 : Int32) ≤ l1 then (some (-1 : Int32)) else (if (((v 8) + l1) - ((v 8) + l1) / (32 : Int32) * (32 : Int32)) < 0 ∨ 96 ≤ (((v 8) + l1) - ((v 8) + l1) / (32 : Int32) * (32 : Int32)).toNatClampNeg then none else (if ((f 3) (((v 8) + l1) - ((v 8) + l1) / (32 : Int32) * (32 : Int32)).toNatClampNeg) = (0 : Int32) then (some (((v 8) + l1) - ((v 8) + l1) / (32 : Int32) * (32 : Int32))) else (if ((32 : Int32) + (((v 8) + l1) - ((v 8) + l1) / (32 : Int32) * (32 : Int32))) < 0 ∨ 96 ≤ ((32 : Int32) + (((v 8) + l1) - ((v 8) + l1) / (32 : Int32) * (32 : Int32))).toNatClampNeg then none else (if ((f 3) ((32 : Int32) + (((v 8) + l1) - ((v 8) + l1) / (32 : Int32) * (32 : Int32))).toNatClampNeg) = (0 : Int32) then (some ((32 : Int32) + (((v 8) + l1) - ((v 8) + l1) / (32 : Int32) * (32 : Int32)))) else (F_As_free_2 t v f u la n2 (l1 + (1 : Int32)))))))) = some RES := hF
      refine lv_iload_n hx hb d_As_free_2 rfl (lv_at hl 1 rfl) ?_
      refine lv_bipush (v := (32 : Int32)) hx hb d_As_free_3 (by decide) ?_
      refine lv_icmp_ge (tgt := 52) hx hb d_As_free_5 (by decide) (fun (hh : (32 : Int32) ≤ l1) => ?_) (fun (hh : ¬ (32 : Int32) ≤ l1) => ?_)
      · rw [if_pos hh] at hF
        refine lv_iconst (v := (-1 : Int32)) hx hb d_As_free_52 (by decide) ?_
        have hF := Option.some.inj hF
        subst hF
        exact dm_ret B rfl d_As_free_53 (by show 0 ≤ 0; omega) (by show 0 ≤ 0; omega) hP hD hS ⟨rfl, rfl⟩
      · rw [if_neg hh] at hF
        refine lv_aload_n hx hb d_As_free_8 rfl (lv_at hl 0 rfl) ?_
        refine aw_g_0_8 (x := (v 8)) B hP rfl k_296 d_As_free_9 ?_
        refine lv_iload_n hx hb d_As_free_12 rfl (lv_at hl 1 rfl) ?_
        refine lv_iadd hx hb d_As_free_13 ?_
        refine lv_bipush (v := (32 : Int32)) hx hb d_As_free_14 (by decide) ?_
        refine lv_irem hx hb d_As_free_16 (by decide) ?_
        refine lv_istore_n (lv' := [(2, .int (((v 8) + l1) - ((v 8) + l1) / (32 : Int32) * (32 : Int32))), (0, .ref (g 91)), (1, .int l1)]) hx hb d_As_free_17 rfl hl (Nat.le_of_ble_eq_true rfl) rfl (fun ls hl => ?_)
        have hl : lv_has ls 3 [(0, .ref (g 91)), (1, .int l1), (2, .int (((v 8) + l1) - ((v 8) + l1) / (32 : Int32) * (32 : Int32)))] := lv_sub hl [1, 2, 0] rfl
        refine lv_aload_n hx hb d_As_free_18 rfl (lv_at hl 0 rfl) ?_
        refine aw_g_0_3 B hP k_289 d_As_free_19 ?_
        refine lv_iload_n hx hb d_As_free_22 rfl (lv_at hl 2 rfl) ?_
        obtain ⟨hi, hF⟩ := dm_chk hF
        refine aw_a_1 (F := (f 3)) B hP rfl hi d_As_free_23 ?_
        refine lv_if_ne (tgt := 29) hx hb d_As_free_24 (by decide) (fun (hh : ¬ ((f 3) (((v 8) + l1) - ((v 8) + l1) / (32 : Int32) * (32 : Int32)).toNatClampNeg) = (0 : Int32)) => ?_) (fun (hh : ((f 3) (((v 8) + l1) - ((v 8) + l1) / (32 : Int32) * (32 : Int32)).toNatClampNeg) = (0 : Int32)) => ?_)
        · rw [if_neg hh] at hF
          refine lv_aload_n hx hb d_As_free_29 rfl (lv_at hl 0 rfl) ?_
          refine aw_g_0_3 B hP k_289 d_As_free_30 ?_
          refine lv_bipush (v := (32 : Int32)) hx hb d_As_free_33 (by decide) ?_
          refine lv_iload_n hx hb d_As_free_35 rfl (lv_at hl 2 rfl) ?_
          refine lv_iadd hx hb d_As_free_36 ?_
          obtain ⟨hi, hF⟩ := dm_chk hF
          refine aw_a_1 (F := (f 3)) B hP rfl hi d_As_free_37 ?_
          refine lv_if_ne (tgt := 46) hx hb d_As_free_38 (by decide) (fun (hh : ¬ ((f 3) ((32 : Int32) + (((v 8) + l1) - ((v 8) + l1) / (32 : Int32) * (32 : Int32))).toNatClampNeg) = (0 : Int32)) => ?_) (fun (hh : ((f 3) ((32 : Int32) + (((v 8) + l1) - ((v 8) + l1) / (32 : Int32) * (32 : Int32))).toNatClampNeg) = (0 : Int32)) => ?_)
          · rw [if_neg hh] at hF
            refine lv_iinc (k := 1) (v := (l1 + (1 : Int32))) (lv' := [(1, .int (l1 + (1 : Int32))), (0, .ref (g 91)), (2, .int (((v 8) + l1) - ((v 8) + l1) / (32 : Int32) * (32 : Int32)))]) hx hb d_As_free_46 hl rfl (congrArg (fun q => l1 + q) (by decide)) (Nat.le_of_ble_eq_true rfl) rfl (fun ls hl => ?_)
            have hl : lv_has ls 3 [(0, .ref (g 91)), (1, .int (l1 + (1 : Int32))), (2, .int (((v 8) + l1) - ((v 8) + l1) / (32 : Int32) * (32 : Int32)))] := lv_sub hl [1, 0, 2] rfl
            refine lv_goto (tgt := 2) hx hb d_As_free_49 (by decide) ?_
            exact ih2 ls _ _ (l1 + (1 : Int32)) (lv_sub hl [0, 1] rfl) hP hD hS hF
          · rw [if_pos hh] at hF
            refine lv_bipush (v := (32 : Int32)) hx hb d_As_free_41 (by decide) ?_
            refine lv_iload_n hx hb d_As_free_43 rfl (lv_at hl 2 rfl) ?_
            refine lv_iadd hx hb d_As_free_44 ?_
            have hF := Option.some.inj hF
            subst hF
            exact dm_ret B rfl d_As_free_45 (by show 0 ≤ 0; omega) (by show 0 ≤ 0; omega) hP hD hS ⟨rfl, rfl⟩
        · rw [if_pos hh] at hF
          refine lv_iload_n hx hb d_As_free_27 rfl (lv_at hl 2 rfl) ?_
          have hF := Option.some.inj hF
          subst hF
          exact dm_ret B rfl d_As_free_28 (by show 0 ≤ 0; omega) (by show 0 ≤ 0; omega) hP hD hS ⟨rfl, rfl⟩
  have hF : (F_As_free_2 t v f u la 100 (0 : Int32)) = some RES := hF
  refine lv_iconst (v := (0 : Int32)) hx hb d_As_free_0 (by decide) ?_
  refine lv_istore_n (lv' := [(1, .int (0 : Int32)), (0, .ref (g 91))]) hx hb d_As_free_1 rfl hl (Nat.le_of_ble_eq_true rfl) rfl (fun ls hl => ?_)
  have hl : lv_has ls 3 [(0, .ref (g 91)), (1, .int (0 : Int32))] := lv_sub hl [1, 0] rfl
  exact K2 100 ls _ _ (0 : Int32) (lv_sub hl [0, 1] rfl) hP hD hS hF
abbrev b_As_settle : ByteArray := prog_2_method_5_code
abbrev y_As_settle : MethodName := { cls := "DelayMachine$Assembler", name := "settle", desc := "(II)V" }
theorem d_As_settle_0 : decode b_As_settle 0 = .ok (.iconst 2, 1) := by decide +kernel
theorem d_As_settle_1 : decode b_As_settle 1 = .ok (.istore_n 3, 1) := by decide +kernel
theorem d_As_settle_2 : decode b_As_settle 2 = .ok (.iload_n 3, 1) := by decide +kernel
theorem d_As_settle_3 : decode b_As_settle 3 = .ok (.bipush (34), 2) := by decide +kernel
theorem d_As_settle_5 : decode b_As_settle 5 = .ok (.if_icmp .ge (61), 3) := by decide +kernel
theorem d_As_settle_8 : decode b_As_settle 8 = .ok (.aload_n 0, 1) := by decide +kernel
theorem d_As_settle_9 : decode b_As_settle 9 = .ok (.getfield 25, 3) := by decide +kernel
theorem d_As_settle_12 : decode b_As_settle 12 = .ok (.iload_n 1, 1) := by decide +kernel
theorem d_As_settle_13 : decode b_As_settle 13 = .ok (.iaload, 1) := by decide +kernel
theorem d_As_settle_14 : decode b_As_settle 14 = .ok (.ifCond .ge (52), 3) := by decide +kernel
theorem d_As_settle_17 : decode b_As_settle 17 = .ok (.iload_n 2, 1) := by decide +kernel
theorem d_As_settle_18 : decode b_As_settle 18 = .ok (.iload_n 3, 1) := by decide +kernel
theorem d_As_settle_19 : decode b_As_settle 19 = .ok (.iadd, 1) := by decide +kernel
theorem d_As_settle_20 : decode b_As_settle 20 = .ok (.bipush (32), 2) := by decide +kernel
theorem d_As_settle_22 : decode b_As_settle 22 = .ok (.irem, 1) := by decide +kernel
theorem d_As_settle_23 : decode b_As_settle 23 = .ok (.istore 4, 2) := by decide +kernel
theorem d_As_settle_25 : decode b_As_settle 25 = .ok (.aload_n 0, 1) := by decide +kernel
theorem d_As_settle_26 : decode b_As_settle 26 = .ok (.getfield 21, 3) := by decide +kernel
theorem d_As_settle_29 : decode b_As_settle 29 = .ok (.bipush (64), 2) := by decide +kernel
theorem d_As_settle_31 : decode b_As_settle 31 = .ok (.iload 4, 2) := by decide +kernel
theorem d_As_settle_33 : decode b_As_settle 33 = .ok (.iadd, 1) := by decide +kernel
theorem d_As_settle_34 : decode b_As_settle 34 = .ok (.baload, 1) := by decide +kernel
theorem d_As_settle_35 : decode b_As_settle 35 = .ok (.ifCond .eq (6), 3) := by decide +kernel
theorem d_As_settle_38 : decode b_As_settle 38 = .ok (.goto (22), 3) := by decide +kernel
theorem d_As_settle_41 : decode b_As_settle 41 = .ok (.aload_n 0, 1) := by decide +kernel
theorem d_As_settle_42 : decode b_As_settle 42 = .ok (.getfield 21, 3) := by decide +kernel
theorem d_As_settle_45 : decode b_As_settle 45 = .ok (.bipush (64), 2) := by decide +kernel
theorem d_As_settle_47 : decode b_As_settle 47 = .ok (.iload 4, 2) := by decide +kernel
theorem d_As_settle_49 : decode b_As_settle 49 = .ok (.iadd, 1) := by decide +kernel
theorem d_As_settle_50 : decode b_As_settle 50 = .ok (.iconst 1, 1) := by decide +kernel
theorem d_As_settle_51 : decode b_As_settle 51 = .ok (.bastore, 1) := by decide +kernel
theorem d_As_settle_52 : decode b_As_settle 52 = .ok (.aload_n 0, 1) := by decide +kernel
theorem d_As_settle_53 : decode b_As_settle 53 = .ok (.getfield 25, 3) := by decide +kernel
theorem d_As_settle_56 : decode b_As_settle 56 = .ok (.iload_n 1, 1) := by decide +kernel
theorem d_As_settle_57 : decode b_As_settle 57 = .ok (.iload 4, 2) := by decide +kernel
theorem d_As_settle_59 : decode b_As_settle 59 = .ok (.iastore, 1) := by decide +kernel
theorem d_As_settle_60 : decode b_As_settle 60 = .ok (.iinc 3 (1), 3) := by decide +kernel
theorem d_As_settle_63 : decode b_As_settle 63 = .ok (.goto (-61), 3) := by decide +kernel
theorem d_As_settle_66 : decode b_As_settle 66 = .ok (.return_, 1) := by decide +kernel
theorem hd_As_settle : y_As_settle.cls ≠ "java/lang/invoke/MethodHandle" ∧ y_As_settle.cls ≠ "java/lang/invoke/VarHandle" ∧ (parseMethodDescriptor y_As_settle.desc).map (fun d => d.parameters.length) = some 2 := by decide +kernel
abbrev rm_As_settle : Room := { frames := 0, cells := 0, slots := 0, locals := 0 }
def F_As_settle_60 (t : Nat → Nat → Int32) (x1 x2 : Int32)  (k2 : Int32 → (Nat → Int32) → (Nat → Nat → Int32) → (Nat → Nat → Int32) → (Nat → Option Nat) → Option ((Nat → Int32) × (Nat → Nat → Int32) × (Nat → Nat → Int32) × (Nat → Option Nat))) (l3 : Int32) (v : Nat → Int32) (f : Nat → Nat → Int32) (u : Nat → Nat → Int32) (la : Nat → Option Nat) : Option ((Nat → Int32) × (Nat → Nat → Int32) × (Nat → Nat → Int32) × (Nat → Option Nat)) := (k2 (l3 + (1 : Int32)) v f u la)
def F_As_settle_2 (t : Nat → Nat → Int32) (x1 x2 : Int32)   : Nat → Int32 → (Nat → Int32) → (Nat → Nat → Int32) → (Nat → Nat → Int32) → (Nat → Option Nat) → Option ((Nat → Int32) × (Nat → Nat → Int32) × (Nat → Nat → Int32) × (Nat → Option Nat))
  | 0, _, _, _, _, _ => none
  | n + 1, l3, v, f, u, la => (if (34 : Int32) ≤ l3 then (some (v, f, u, la)) else (if x1 < 0 ∨ 16 ≤ x1.toNatClampNeg then none else (if (0 : Int32) ≤ ((f 4) x1.toNatClampNeg) then (some (v, f, u, la)) else (if ((64 : Int32) + ((x2 + l3) - (x2 + l3) / (32 : Int32) * (32 : Int32))) < 0 ∨ 96 ≤ ((64 : Int32) + ((x2 + l3) - (x2 + l3) / (32 : Int32) * (32 : Int32))).toNatClampNeg then none else (if ((f 3) ((64 : Int32) + ((x2 + l3) - (x2 + l3) / (32 : Int32) * (32 : Int32))).toNatClampNeg) = (0 : Int32) then (if ((64 : Int32) + ((x2 + l3) - (x2 + l3) / (32 : Int32) * (32 : Int32))) < 0 ∨ 96 ≤ ((64 : Int32) + ((x2 + l3) - (x2 + l3) / (32 : Int32) * (32 : Int32))).toNatClampNeg then none else (if x1 < 0 ∨ 16 ≤ x1.toNatClampNeg then none else (F_As_settle_60 t x1 x2 (F_As_settle_2 t x1 x2 n) l3 v (va_up (va_up f 3 (upd (f 3) ((64 : Int32) + ((x2 + l3) - (x2 + l3) / (32 : Int32) * (32 : Int32))).toNatClampNeg ((1 : Int32) &&& 1))) 4 (upd (f 4) x1.toNatClampNeg ((x2 + l3) - (x2 + l3) / (32 : Int32) * (32 : Int32)))) u la))) else (F_As_settle_60 t x1 x2 (F_As_settle_2 t x1 x2 n) l3 v f u la))))))
def F_As_settle (t : Nat → Nat → Int32) (x1 x2 : Int32)  (v0 : Nat → Int32) (f0 : Nat → Nat → Int32) (u0 : Nat → Nat → Int32) (la0 : Nat → Option Nat) : Option ((Nat → Int32) × (Nat → Nat → Int32) × (Nat → Nat → Int32) × (Nat → Option Nat)) := (F_As_settle_2 t x1 x2 100 (2 : Int32) v0 f0 u0 la0)
set_option maxHeartbeats 4000000 in
set_option maxRecDepth 100000 in
theorem c_As_settle (l : Launch) (G : dm_G) (g : Nat → Nat) (Y : aK) (t : Nat → Nat → Int32) (T : va_W) (K : aK) (x1 x2 : Int32) (v0 : Nat → Int32) (f0 : Nat → Nat → Int32) (u0 : Nat → Nat → Int32) (la0 : Nat → Option Nat) (RES : (Nat → Int32) × (Nat → Nat → Int32) × (Nat → Nat → Int32) × (Nat → Option Nat)) (hY : okA G Y (v0 21)) (hk : okA G K (v0 20)) (hF : F_As_settle t x1 x2 v0 f0 u0 la0 = some RES) : dm_Ct l y_As_settle b_As_settle 5 none rm_As_settle G (aw G g Y t T K v0 f0 u0 la0) [.ref (g 91), .int x1, .int x2] (fun ov w' => okA G Y (RES.1 21) ∧ okA G K (RES.1 20) ∧ extP K K (v0 20) (RES.1 20) ∧ ov = none ∧ w' = (aw G g Y t T K RES.1 RES.2.1 RES.2.2.1 RES.2.2.2)) := by
  refine dm_Ct.of (by decide +kernel) (Nat.le_of_ble_eq_true rfl) ?_
  intro p e s m below meth c A ls B hl hP hD hS
  have hx := B.1
  have hb := B.2.1
  have hl : lv_has ls 5 [(0, .ref (g 91)), (1, .int x1), (2, .int x2)] := hl
  have hext : extP K K (v0 20) (v0 20) := extP.rf
  have K2 : ∀ (n2 : Nat) (ls : Array Slot) (H : Heap) (locs : List Loc) (l3 : Int32) (v : Nat → Int32) (f : Nat → Nat → Int32) (u : Nat → Nat → Int32) (la : Nat → Option Nat), okA G Y (v 21) → okA G K (v 20) → extP K K (v0 20) (v 20) → lv_has ls 5 [(0, .ref (g 91)), (1, .int x1), (2, .int x2), (3, .int l3)] → va_P G.1 dm_cl (aw G g Y t T K v f u la) H → va_D A (aw G g Y t T K v f u la) → va_S A s.heap H locs → F_As_settle_2 t x1 x2 n2 l3 v f u la = some RES → W p l e rm_As_settle s m ([.ref (g 91), .int x1, .int x2] : List Value).toArray below meth c H locs 0 0 (dm_Z below G s ([.ref (g 91), .int x1, .int x2] : List Value).toArray A rm_As_settle.cells rm_As_settle.slots (fun ov w' => okA G Y (RES.1 21) ∧ okA G K (RES.1 20) ∧ extP K K (v0 20) (RES.1 20) ∧ ov = none ∧ w' = (aw G g Y t T K RES.1 RES.2.1 RES.2.2.1 RES.2.2.2))) (F0 m 2 ls []) := by
    intro n2
    induction n2 with
    | zero => intro ls H locs l3 v f u la hY hk hext hl hP hD hS hF; cases hF
    | succ n2 ih2 =>
      have K60 : ∀ (ls : Array Slot) (H : Heap) (locs : List Loc) (l3 : Int32) (v : Nat → Int32) (f : Nat → Nat → Int32) (u : Nat → Nat → Int32) (la : Nat → Option Nat), okA G Y (v 21) → okA G K (v 20) → extP K K (v0 20) (v 20) → lv_has ls 5 [(0, .ref (g 91)), (1, .int x1), (2, .int x2), (3, .int l3)] → va_P G.1 dm_cl (aw G g Y t T K v f u la) H → va_D A (aw G g Y t T K v f u la) → va_S A s.heap H locs → F_As_settle_60 t x1 x2 (F_As_settle_2 t x1 x2 n2) l3 v f u la = some RES → W p l e rm_As_settle s m ([.ref (g 91), .int x1, .int x2] : List Value).toArray below meth c H locs 0 0 (dm_Z below G s ([.ref (g 91), .int x1, .int x2] : List Value).toArray A rm_As_settle.cells rm_As_settle.slots (fun ov w' => okA G Y (RES.1 21) ∧ okA G K (RES.1 20) ∧ extP K K (v0 20) (RES.1 20) ∧ ov = none ∧ w' = (aw G g Y t T K RES.1 RES.2.1 RES.2.2.1 RES.2.2.2))) (F0 m 60 ls []) := by
        intro ls H locs l3 v f u la hY hk hext hl hP hD hS hF
        have hF : ((F_As_settle_2 t x1 x2 n2) (l3 + (1 : Int32)) v f u la) = some RES := hF
        refine lv_iinc (k := 3) (v := (l3 + (1 : Int32))) (lv' := [(3, .int (l3 + (1 : Int32))), (0, .ref (g 91)), (1, .int x1), (2, .int x2)]) hx hb d_As_settle_60 hl rfl (congrArg (fun q => l3 + q) (by decide)) (Nat.le_of_ble_eq_true rfl) rfl (fun ls hl => ?_)
        have hl : lv_has ls 5 [(0, .ref (g 91)), (1, .int x1), (2, .int x2), (3, .int (l3 + (1 : Int32)))] := lv_sub hl [1, 2, 3, 0] rfl
        refine lv_goto (tgt := 2) hx hb d_As_settle_63 (by decide) ?_
        exact ih2 ls _ _ (l3 + (1 : Int32)) v f u la hY hk hext (lv_sub hl [0, 1, 2, 3] rfl) hP hD hS hF
      intro ls H locs l3 v f u la hY hk hext hl hP hD hS hF
      have hF : (if (34 : Int32) ≤ l3 then (some (v, f, u, la)) else (if x1 < 0 ∨ 16 ≤ x1.toNatClampNeg then none else (if (0 : Int32) ≤ ((f 4) x1.toNatClampNeg) then (some (v, f, u, la)) else (if ((64 : Int32) + ((x2 + l3) - (x2 + l3) / (32 : Int32) * (32 : Int32))) < 0 ∨ 96 ≤ ((64 : Int32) + ((x2 + l3) - (x2 + l3) / (32 : Int32) * (32 : Int32))).toNatClampNeg then none else (if ((f 3) ((64 : Int32) + ((x2 + l3) - (x2 + l3) / (32 : Int32) * (32 : Int32))).toNatClampNeg) = (0 : Int32) then (if ((64 : Int32) + ((x2 + l3) - (x2 + l3) / (32 : Int32) * (32 : Int32))) < 0 ∨ 96 ≤ ((64 : Int32) + ((x2 + l3) - (x2 + l3) / (32 : Int32) * (32 : Int32))).toNatClampNeg then none else (if x1 < 0 ∨ 16 ≤ x1.toNatClampNeg then none else (F_As_settle_60 t x1 x2 (F_As_settle_2 t x1 x2 n2) l3 v (va_up (va_up f 3 (upd (f 3) ((64 : Int32) + ((x2 + l3) - (x2 + l3) / (32 : Int32) * (32 : Int32))).toNatClampNeg ((1 : Int32) &&& 1))) 4 (upd (f 4) x1.toNatClampNeg ((x2 + l3) - (x2 + l3) / (32 : Int32) * (32 : Int32)))) u la))) else (F_As_settle_60 t x1 x2 (F_As_settle_2 t x1 x2 n2) l3 v f u la)))))) = some RES := hF
      refine lv_iload_n hx hb d_As_settle_2 rfl (lv_at hl 3 rfl) ?_
      refine lv_bipush (v := (34 : Int32)) hx hb d_As_settle_3 (by decide) ?_
      refine lv_icmp_ge (tgt := 66) hx hb d_As_settle_5 (by decide) (fun (hh : (34 : Int32) ≤ l3) => ?_) (fun (hh : ¬ (34 : Int32) ≤ l3) => ?_)
      · rw [if_pos hh] at hF
        have hF := Option.some.inj hF
        subst hF
        exact dm_retv B d_As_settle_66 (by show 0 ≤ 0; omega) (by show 0 ≤ 0; omega) hP hD hS ⟨hY, hk, hext, rfl, rfl⟩
      · rw [if_neg hh] at hF
        refine lv_aload_n hx hb d_As_settle_8 rfl (lv_at hl 0 rfl) ?_
        refine aw_g_0_4 B hP k_290 d_As_settle_9 ?_
        refine lv_iload_n hx hb d_As_settle_12 rfl (lv_at hl 1 rfl) ?_
        obtain ⟨hi, hF⟩ := dm_chk hF
        refine aw_a_2 (F := (f 4)) B hP rfl hi d_As_settle_13 ?_
        refine lv_if_ge (tgt := 66) hx hb d_As_settle_14 (by decide) (fun (hh : (0 : Int32) ≤ ((f 4) x1.toNatClampNeg)) => ?_) (fun (hh : ¬ (0 : Int32) ≤ ((f 4) x1.toNatClampNeg)) => ?_)
        · rw [if_pos hh] at hF
          have hF := Option.some.inj hF
          subst hF
          exact dm_retv B d_As_settle_66 (by show 0 ≤ 0; omega) (by show 0 ≤ 0; omega) hP hD hS ⟨hY, hk, hext, rfl, rfl⟩
        · rw [if_neg hh] at hF
          refine lv_iload_n hx hb d_As_settle_17 rfl (lv_at hl 2 rfl) ?_
          refine lv_iload_n hx hb d_As_settle_18 rfl (lv_at hl 3 rfl) ?_
          refine lv_iadd hx hb d_As_settle_19 ?_
          refine lv_bipush (v := (32 : Int32)) hx hb d_As_settle_20 (by decide) ?_
          refine lv_irem hx hb d_As_settle_22 (by decide) ?_
          refine lv_istore (lv' := [(4, .int ((x2 + l3) - (x2 + l3) / (32 : Int32) * (32 : Int32))), (0, .ref (g 91)), (1, .int x1), (2, .int x2), (3, .int l3)]) hx hb d_As_settle_23 hl (Nat.le_of_ble_eq_true rfl) rfl (fun ls hl => ?_)
          have hl : lv_has ls 5 [(0, .ref (g 91)), (1, .int x1), (2, .int x2), (3, .int l3), (4, .int ((x2 + l3) - (x2 + l3) / (32 : Int32) * (32 : Int32)))] := lv_sub hl [1, 2, 3, 4, 0] rfl
          refine lv_aload_n hx hb d_As_settle_25 rfl (lv_at hl 0 rfl) ?_
          refine aw_g_0_3 B hP k_289 d_As_settle_26 ?_
          refine lv_bipush (v := (64 : Int32)) hx hb d_As_settle_29 (by decide) ?_
          refine lv_iload hx hb d_As_settle_31 (lv_at hl 4 rfl) ?_
          refine lv_iadd hx hb d_As_settle_33 ?_
          obtain ⟨hi, hF⟩ := dm_chk hF
          refine aw_a_1 (F := (f 3)) B hP rfl hi d_As_settle_34 ?_
          refine lv_if_eq (tgt := 41) hx hb d_As_settle_35 (by decide) (fun (hh : ((f 3) ((64 : Int32) + ((x2 + l3) - (x2 + l3) / (32 : Int32) * (32 : Int32))).toNatClampNeg) = (0 : Int32)) => ?_) (fun (hh : ¬ ((f 3) ((64 : Int32) + ((x2 + l3) - (x2 + l3) / (32 : Int32) * (32 : Int32))).toNatClampNeg) = (0 : Int32)) => ?_)
          · rw [if_pos hh] at hF
            refine lv_aload_n hx hb d_As_settle_41 rfl (lv_at hl 0 rfl) ?_
            refine aw_g_0_3 B hP k_289 d_As_settle_42 ?_
            refine lv_bipush (v := (64 : Int32)) hx hb d_As_settle_45 (by decide) ?_
            refine lv_iload hx hb d_As_settle_47 (lv_at hl 4 rfl) ?_
            refine lv_iadd hx hb d_As_settle_49 ?_
            refine lv_iconst (v := (1 : Int32)) hx hb d_As_settle_50 (by decide) ?_
            obtain ⟨hi, hF⟩ := dm_chk hF
            refine aw_s_1 (F := (f 3)) B hP hD hS rfl hi d_As_settle_51 (fun H locs hP hD hS => ?_)
            refine lv_aload_n hx hb d_As_settle_52 rfl (lv_at hl 0 rfl) ?_
            refine aw_g_0_4 B hP k_290 d_As_settle_53 ?_
            refine lv_iload_n hx hb d_As_settle_56 rfl (lv_at hl 1 rfl) ?_
            refine lv_iload hx hb d_As_settle_57 (lv_at hl 4 rfl) ?_
            obtain ⟨hi, hF⟩ := dm_chk hF
            refine aw_s_2 (F := (f 4)) B hP hD hS rfl hi d_As_settle_59 (fun H locs hP hD hS => ?_)
            exact K60 ls _ _ l3 v (va_up (va_up f 3 (upd (f 3) ((64 : Int32) + ((x2 + l3) - (x2 + l3) / (32 : Int32) * (32 : Int32))).toNatClampNeg ((1 : Int32) &&& 1))) 4 (upd (f 4) x1.toNatClampNeg ((x2 + l3) - (x2 + l3) / (32 : Int32) * (32 : Int32)))) u la hY hk hext (lv_sub hl [0, 1, 2, 3] rfl) hP hD hS hF
          · rw [if_neg hh] at hF
            refine lv_goto (tgt := 60) hx hb d_As_settle_38 (by decide) ?_
            exact K60 ls _ _ l3 v f u la hY hk hext (lv_sub hl [0, 1, 2, 3] rfl) hP hD hS hF
  have hF : (F_As_settle_2 t x1 x2 100 (2 : Int32) v0 f0 u0 la0) = some RES := hF
  refine lv_iconst (v := (2 : Int32)) hx hb d_As_settle_0 (by decide) ?_
  refine lv_istore_n (lv' := [(3, .int (2 : Int32)), (0, .ref (g 91)), (1, .int x1), (2, .int x2)]) hx hb d_As_settle_1 rfl hl (Nat.le_of_ble_eq_true rfl) rfl (fun ls hl => ?_)
  have hl : lv_has ls 5 [(0, .ref (g 91)), (1, .int x1), (2, .int x2), (3, .int (2 : Int32))] := lv_sub hl [1, 2, 3, 0] rfl
  exact K2 100 ls _ _ (2 : Int32) v0 f0 u0 la0 hY hk hext (lv_sub hl [0, 1, 2, 3] rfl) hP hD hS hF
abbrev b_As_pair : ByteArray := prog_2_method_7_code
abbrev y_As_pair : MethodName := { cls := "DelayMachine$Assembler", name := "pair", desc := "(II)Z" }
theorem d_As_pair_0 : decode b_As_pair 0 = .ok (.aload_n 0, 1) := by decide +kernel
theorem d_As_pair_1 : decode b_As_pair 1 = .ok (.getfield 21, 3) := by decide +kernel
theorem d_As_pair_4 : decode b_As_pair 4 = .ok (.bipush (32), 2) := by decide +kernel
theorem d_As_pair_6 : decode b_As_pair 6 = .ok (.iload_n 1, 1) := by decide +kernel
theorem d_As_pair_7 : decode b_As_pair 7 = .ok (.imul, 1) := by decide +kernel
theorem d_As_pair_8 : decode b_As_pair 8 = .ok (.iload_n 2, 1) := by decide +kernel
theorem d_As_pair_9 : decode b_As_pair 9 = .ok (.iadd, 1) := by decide +kernel
theorem d_As_pair_10 : decode b_As_pair 10 = .ok (.baload, 1) := by decide +kernel
theorem d_As_pair_11 : decode b_As_pair 11 = .ok (.ifCond .ne (26), 3) := by decide +kernel
theorem d_As_pair_14 : decode b_As_pair 14 = .ok (.aload_n 0, 1) := by decide +kernel
theorem d_As_pair_15 : decode b_As_pair 15 = .ok (.getfield 21, 3) := by decide +kernel
theorem d_As_pair_18 : decode b_As_pair 18 = .ok (.bipush (32), 2) := by decide +kernel
theorem d_As_pair_20 : decode b_As_pair 20 = .ok (.iload_n 1, 1) := by decide +kernel
theorem d_As_pair_21 : decode b_As_pair 21 = .ok (.imul, 1) := by decide +kernel
theorem d_As_pair_22 : decode b_As_pair 22 = .ok (.iload_n 2, 1) := by decide +kernel
theorem d_As_pair_23 : decode b_As_pair 23 = .ok (.iconst 1, 1) := by decide +kernel
theorem d_As_pair_24 : decode b_As_pair 24 = .ok (.iadd, 1) := by decide +kernel
theorem d_As_pair_25 : decode b_As_pair 25 = .ok (.bipush (32), 2) := by decide +kernel
theorem d_As_pair_27 : decode b_As_pair 27 = .ok (.irem, 1) := by decide +kernel
theorem d_As_pair_28 : decode b_As_pair 28 = .ok (.iadd, 1) := by decide +kernel
theorem d_As_pair_29 : decode b_As_pair 29 = .ok (.baload, 1) := by decide +kernel
theorem d_As_pair_30 : decode b_As_pair 30 = .ok (.ifCond .ne (7), 3) := by decide +kernel
theorem d_As_pair_33 : decode b_As_pair 33 = .ok (.iconst 1, 1) := by decide +kernel
theorem d_As_pair_34 : decode b_As_pair 34 = .ok (.goto (4), 3) := by decide +kernel
theorem d_As_pair_37 : decode b_As_pair 37 = .ok (.iconst 0, 1) := by decide +kernel
theorem d_As_pair_38 : decode b_As_pair 38 = .ok (.ireturn, 1) := by decide +kernel
theorem hd_As_pair : y_As_pair.cls ≠ "java/lang/invoke/MethodHandle" ∧ y_As_pair.cls ≠ "java/lang/invoke/VarHandle" ∧ (parseMethodDescriptor y_As_pair.desc).map (fun d => d.parameters.length) = some 2 := by decide +kernel
abbrev rm_As_pair : Room := { frames := 0, cells := 0, slots := 0, locals := 0 }
def F_As_pair_37 (t : Nat → Nat → Int32) (x1 x2 : Int32) (v : Nat → Int32) (f : Nat → Nat → Int32) (u : Nat → Nat → Int32) (la : Nat → Option Nat)    : Option (Int32) := (some (0 : Int32))
def F_As_pair (t : Nat → Nat → Int32) (x1 x2 : Int32) (v : Nat → Int32) (f : Nat → Nat → Int32) (u : Nat → Nat → Int32) (la : Nat → Option Nat)  : Option (Int32) := (if (((32 : Int32) * x1) + x2) < 0 ∨ 96 ≤ (((32 : Int32) * x1) + x2).toNatClampNeg then none else (if ((f 3) (((32 : Int32) * x1) + x2).toNatClampNeg) = (0 : Int32) then (if (((32 : Int32) * x1) + ((x2 + (1 : Int32)) - (x2 + (1 : Int32)) / (32 : Int32) * (32 : Int32))) < 0 ∨ 96 ≤ (((32 : Int32) * x1) + ((x2 + (1 : Int32)) - (x2 + (1 : Int32)) / (32 : Int32) * (32 : Int32))).toNatClampNeg then none else (if ((f 3) (((32 : Int32) * x1) + ((x2 + (1 : Int32)) - (x2 + (1 : Int32)) / (32 : Int32) * (32 : Int32))).toNatClampNeg) = (0 : Int32) then (some (1 : Int32)) else (F_As_pair_37 t x1 x2 v f u la))) else (F_As_pair_37 t x1 x2 v f u la)))
set_option maxHeartbeats 4000000 in
set_option maxRecDepth 100000 in
theorem c_As_pair (l : Launch) (G : dm_G) (g : Nat → Nat) (Y : aK) (t : Nat → Nat → Int32) (T : va_W) (K : aK) (x1 x2 : Int32) (v : Nat → Int32) (f : Nat → Nat → Int32) (u : Nat → Nat → Int32) (la : Nat → Option Nat) (RES : Int32) (hY : okA G Y (v 21)) (hk : okA G K (v 20)) (hF : F_As_pair t x1 x2 v f u la = some RES) : dm_Ct l y_As_pair b_As_pair 3 (some .boolean) rm_As_pair G (aw G g Y t T K v f u la) [.ref (g 91), .int x1, .int x2] (fun ov w' => ov = some (.int RES) ∧ w' = (aw G g Y t T K v f u la)) := by
  refine dm_Ct.of (by decide +kernel) (Nat.le_of_ble_eq_true rfl) ?_
  intro p e s m below meth c A ls B hl hP hD hS
  have hx := B.1
  have hb := B.2.1
  have hl : lv_has ls 3 [(0, .ref (g 91)), (1, .int x1), (2, .int x2)] := hl
  have K37 : ∀ (ls : Array Slot) (H : Heap) (locs : List Loc)  , lv_has ls 3 [] → va_P G.1 dm_cl (aw G g Y t T K v f u la) H → va_D A (aw G g Y t T K v f u la) → va_S A s.heap H locs → F_As_pair_37 t x1 x2 v f u la   = some RES → W p l e rm_As_pair s m ([.ref (g 91), .int x1, .int x2] : List Value).toArray below meth c H locs 0 0 (dm_Z below G s ([.ref (g 91), .int x1, .int x2] : List Value).toArray A rm_As_pair.cells rm_As_pair.slots (fun ov w' => ov = some (.int RES) ∧ w' = (aw G g Y t T K v f u la))) (F0 m 37 ls []) := by
    intro ls H locs  hl hP hD hS hF
    have hF : (some (0 : Int32)) = some RES := hF
    refine lv_iconst (v := (0 : Int32)) hx hb d_As_pair_37 (by decide) ?_
    have hF := Option.some.inj hF
    subst hF
    exact dm_ret B (by decide) d_As_pair_38 (by show 0 ≤ 0; omega) (by show 0 ≤ 0; omega) hP hD hS ⟨rfl, rfl⟩
  have hF : (if (((32 : Int32) * x1) + x2) < 0 ∨ 96 ≤ (((32 : Int32) * x1) + x2).toNatClampNeg then none else (if ((f 3) (((32 : Int32) * x1) + x2).toNatClampNeg) = (0 : Int32) then (if (((32 : Int32) * x1) + ((x2 + (1 : Int32)) - (x2 + (1 : Int32)) / (32 : Int32) * (32 : Int32))) < 0 ∨ 96 ≤ (((32 : Int32) * x1) + ((x2 + (1 : Int32)) - (x2 + (1 : Int32)) / (32 : Int32) * (32 : Int32))).toNatClampNeg then none else (if ((f 3) (((32 : Int32) * x1) + ((x2 + (1 : Int32)) - (x2 + (1 : Int32)) / (32 : Int32) * (32 : Int32))).toNatClampNeg) = (0 : Int32) then (some (1 : Int32)) else (F_As_pair_37 t x1 x2 v f u la))) else (F_As_pair_37 t x1 x2 v f u la))) = some RES := hF
  refine lv_aload_n hx hb d_As_pair_0 rfl (lv_at hl 0 rfl) ?_
  refine aw_g_0_3 B hP k_289 d_As_pair_1 ?_
  refine lv_bipush (v := (32 : Int32)) hx hb d_As_pair_4 (by decide) ?_
  refine lv_iload_n hx hb d_As_pair_6 rfl (lv_at hl 1 rfl) ?_
  refine lv_imul hx hb d_As_pair_7 ?_
  refine lv_iload_n hx hb d_As_pair_8 rfl (lv_at hl 2 rfl) ?_
  refine lv_iadd hx hb d_As_pair_9 ?_
  obtain ⟨hi, hF⟩ := dm_chk hF
  refine aw_a_1 (F := (f 3)) B hP rfl hi d_As_pair_10 ?_
  refine lv_if_ne (tgt := 37) hx hb d_As_pair_11 (by decide) (fun (hh : ¬ ((f 3) (((32 : Int32) * x1) + x2).toNatClampNeg) = (0 : Int32)) => ?_) (fun (hh : ((f 3) (((32 : Int32) * x1) + x2).toNatClampNeg) = (0 : Int32)) => ?_)
  · rw [if_neg hh] at hF
    exact K37 ls _ _  (lv_sub hl [] rfl) hP hD hS hF
  · rw [if_pos hh] at hF
    refine lv_aload_n hx hb d_As_pair_14 rfl (lv_at hl 0 rfl) ?_
    refine aw_g_0_3 B hP k_289 d_As_pair_15 ?_
    refine lv_bipush (v := (32 : Int32)) hx hb d_As_pair_18 (by decide) ?_
    refine lv_iload_n hx hb d_As_pair_20 rfl (lv_at hl 1 rfl) ?_
    refine lv_imul hx hb d_As_pair_21 ?_
    refine lv_iload_n hx hb d_As_pair_22 rfl (lv_at hl 2 rfl) ?_
    refine lv_iconst (v := (1 : Int32)) hx hb d_As_pair_23 (by decide) ?_
    refine lv_iadd hx hb d_As_pair_24 ?_
    refine lv_bipush (v := (32 : Int32)) hx hb d_As_pair_25 (by decide) ?_
    refine lv_irem hx hb d_As_pair_27 (by decide) ?_
    refine lv_iadd hx hb d_As_pair_28 ?_
    obtain ⟨hi, hF⟩ := dm_chk hF
    refine aw_a_1 (F := (f 3)) B hP rfl hi d_As_pair_29 ?_
    refine lv_if_ne (tgt := 37) hx hb d_As_pair_30 (by decide) (fun (hh : ¬ ((f 3) (((32 : Int32) * x1) + ((x2 + (1 : Int32)) - (x2 + (1 : Int32)) / (32 : Int32) * (32 : Int32))).toNatClampNeg) = (0 : Int32)) => ?_) (fun (hh : ((f 3) (((32 : Int32) * x1) + ((x2 + (1 : Int32)) - (x2 + (1 : Int32)) / (32 : Int32) * (32 : Int32))).toNatClampNeg) = (0 : Int32)) => ?_)
    · rw [if_neg hh] at hF
      exact K37 ls _ _  (lv_sub hl [] rfl) hP hD hS hF
    · rw [if_pos hh] at hF
      refine lv_iconst (v := (1 : Int32)) hx hb d_As_pair_33 (by decide) ?_
      refine lv_goto (tgt := 38) hx hb d_As_pair_34 (by decide) ?_
      have hF := Option.some.inj hF
      subst hF
      exact dm_ret B (by decide) d_As_pair_38 (by show 0 ≤ 0; omega) (by show 0 ≤ 0; omega) hP hD hS ⟨rfl, rfl⟩
