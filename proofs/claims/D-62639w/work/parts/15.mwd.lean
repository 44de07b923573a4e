abbrev b_Ma_move_0 : ByteArray := prog_6_method_7_code
abbrev y_Ma_move_0 : MethodName := { cls := "DelayMachine$Machine", name := "move", desc := "(LDelayMachine$Window;Z)V" }
theorem d_Ma_move_0_0 : decode b_Ma_move_0 0 = .ok (.aload_n 1, 1) := by decide +kernel
theorem d_Ma_move_0_1 : decode b_Ma_move_0 1 = .ok (.aload_n 0, 1) := by decide +kernel
theorem d_Ma_move_0_2 : decode b_Ma_move_0 2 = .ok (.getfield 103, 3) := by decide +kernel
theorem d_Ma_move_0_5 : decode b_Ma_move_0 5 = .ok (.invokevirtual 138, 3) := by decide +kernel
theorem d_Ma_move_0_8 : decode b_Ma_move_0 8 = .ok (.ifCond .ne (4), 3) := by decide +kernel
theorem d_Ma_move_0_11 : decode b_Ma_move_0 11 = .ok (.return_, 1) := by decide +kernel
theorem d_Ma_move_0_12 : decode b_Ma_move_0 12 = .ok (.aload_n 1, 1) := by decide +kernel
theorem d_Ma_move_0_13 : decode b_Ma_move_0 13 = .ok (.getfield 130, 3) := by decide +kernel
theorem d_Ma_move_0_16 : decode b_Ma_move_0 16 = .ok (.aload_n 0, 1) := by decide +kernel
theorem d_Ma_move_0_17 : decode b_Ma_move_0 17 = .ok (.getfield 103, 3) := by decide +kernel
theorem d_Ma_move_0_20 : decode b_Ma_move_0 20 = .ok (.invokeinterface 142 2, 5) := by decide +kernel
theorem d_Ma_move_0_25 : decode b_Ma_move_0 25 = .ok (.istore_n 3, 1) := by decide +kernel
theorem d_Ma_move_0_26 : decode b_Ma_move_0 26 = .ok (.aload_n 0, 1) := by decide +kernel
theorem d_Ma_move_0_27 : decode b_Ma_move_0 27 = .ok (.getfield 109, 3) := by decide +kernel
theorem d_Ma_move_0_30 : decode b_Ma_move_0 30 = .ok (.istore 4, 2) := by decide +kernel
theorem d_Ma_move_0_32 : decode b_Ma_move_0 32 = .ok (.aload_n 1, 1) := by decide +kernel
theorem d_Ma_move_0_33 : decode b_Ma_move_0 33 = .ok (.getfield 134, 3) := by decide +kernel
theorem d_Ma_move_0_36 : decode b_Ma_move_0 36 = .ok (.aload_n 0, 1) := by decide +kernel
theorem d_Ma_move_0_37 : decode b_Ma_move_0 37 = .ok (.getfield 103, 3) := by decide +kernel
theorem d_Ma_move_0_40 : decode b_Ma_move_0 40 = .ok (.iload_n 3, 1) := by decide +kernel
theorem d_Ma_move_0_41 : decode b_Ma_move_0 41 = .ok (.invokeinterface 146 3, 5) := by decide +kernel
theorem d_Ma_move_0_46 : decode b_Ma_move_0 46 = .ok (.iload_n 2, 1) := by decide +kernel
theorem d_Ma_move_0_47 : decode b_Ma_move_0 47 = .ok (.ifCond .ne (9), 3) := by decide +kernel
theorem d_Ma_move_0_50 : decode b_Ma_move_0 50 = .ok (.aload_n 0, 1) := by decide +kernel
theorem d_Ma_move_0_51 : decode b_Ma_move_0 51 = .ok (.iload 4, 2) := by decide +kernel
theorem d_Ma_move_0_53 : decode b_Ma_move_0 53 = .ok (.putfield 109, 3) := by decide +kernel
theorem d_Ma_move_0_56 : decode b_Ma_move_0 56 = .ok (.return_, 1) := by decide +kernel
theorem hd_Ma_move_0 : y_Ma_move_0.cls ≠ "java/lang/invoke/MethodHandle" ∧ y_Ma_move_0.cls ≠ "java/lang/invoke/VarHandle" ∧ (parseMethodDescriptor y_Ma_move_0.desc).map (fun d => d.parameters.length) = some 2 := by decide +kernel
abbrev rm_Ma_move_0 : Room := { frames := 3, cells := 0, slots := 0, locals := 66 }
def F_Ma_move_0_46 (x2 : Int32)   (l4 : Int32) (v : Nat → Int32) (f : Nat → Nat → Int32) (w : Nat → Nat) : Option ((Nat → Int32) × (Nat → Nat → Int32) × (Nat → Nat)) := (if x2 = (0 : Int32) then (if l4 = 0 ∨ l4 = 1 then (some ((va_up v 13 l4), f, w)) else none) else (some (v, f, w)))
def F_Ma_move_0_25 (x2 : Int32)   (s0 : Int32) (v : Nat → Int32) (f : Nat → Nat → Int32) (w : Nat → Nat) : Option ((Nat → Int32) × (Nat → Nat → Int32) × (Nat → Nat)) := (if (w 1) = 0 then (Option.bind (F_Do_take_0 (v 8) s0 v f w) (fun z1 => (F_Ma_move_0_46 x2 (v 13) z1.1 z1.2.1 z1.2.2))) else (if (w 1) = 1 then (Option.bind (F_Do_take_1 (v 8) s0 v f w) (fun z2 => (F_Ma_move_0_46 x2 (v 13) z2.1 z2.2.1 z2.2.2))) else (if (w 1) = 2 then (Option.bind (F_Pr_take_2 (v 8) s0 v f w) (fun z3 => (F_Ma_move_0_46 x2 (v 13) z3.1 z3.2.1 z3.2.2))) else (if (w 1) = 3 then (Option.bind (F_Pr_take_3 (v 8) s0 v f w) (fun z4 => (F_Ma_move_0_46 x2 (v 13) z4.1 z4.2.1 z4.2.2))) else (if (w 1) = 4 then (Option.bind (F_Pr_take_4 (v 8) s0 v f w) (fun z5 => (F_Ma_move_0_46 x2 (v 13) z5.1 z5.2.1 z5.2.2))) else (if (w 1) = 5 then (Option.bind (F_Pr_take_5 (v 8) s0 v f w) (fun z6 => (F_Ma_move_0_46 x2 (v 13) z6.1 z6.2.1 z6.2.2))) else (if (w 1) = 6 then (Option.bind (F_Pr_take_6 (v 8) s0 v f w) (fun z7 => (F_Ma_move_0_46 x2 (v 13) z7.1 z7.2.1 z7.2.2))) else (if (w 1) = 7 then (Option.bind (F_Pr_take_7 (v 8) s0 v f w) (fun z8 => (F_Ma_move_0_46 x2 (v 13) z8.1 z8.2.1 z8.2.2))) else (if (w 1) = 8 then (Option.bind (F_Pr_take_8 (v 8) s0 v f w) (fun z9 => (F_Ma_move_0_46 x2 (v 13) z9.1 z9.2.1 z9.2.2))) else (if (w 1) = 9 then (Option.bind (F_Do_take_9 (v 8) s0 v f w) (fun z10 => (F_Ma_move_0_46 x2 (v 13) z10.1 z10.2.1 z10.2.2))) else (if (w 1) = 10 then (Option.bind (F_Do_take_10 (v 8) s0 v f w) (fun z11 => (F_Ma_move_0_46 x2 (v 13) z11.1 z11.2.1 z11.2.2))) else (if (w 1) = 11 then (Option.bind (F_Do_take_11 (v 8) s0 v f w) (fun z12 => (F_Ma_move_0_46 x2 (v 13) z12.1 z12.2.1 z12.2.2))) else (if (w 1) = 12 then (Option.bind (F_Do_take_12 (v 8) s0 v f w) (fun z13 => (F_Ma_move_0_46 x2 (v 13) z13.1 z13.2.1 z13.2.2))) else (if (w 1) = 13 then (Option.bind (F_Do_take_13 (v 8) s0 v f w) (fun z14 => (F_Ma_move_0_46 x2 (v 13) z14.1 z14.2.1 z14.2.2))) else (if (w 1) = 14 then (Option.bind (F_Do_take_14 (v 8) s0 v f w) (fun z15 => (F_Ma_move_0_46 x2 (v 13) z15.1 z15.2.1 z15.2.2))) else (if (w 1) = 15 then (Option.bind (F_Do_take_15 (v 8) s0 v f w) (fun z16 => (F_Ma_move_0_46 x2 (v 13) z16.1 z16.2.1 z16.2.2))) else none))))))))))))))))
def F_Ma_move_0 (x2 : Int32)  (v : Nat → Int32) (f : Nat → Nat → Int32) (w : Nat → Nat) : Option ((Nat → Int32) × (Nat → Nat → Int32) × (Nat → Nat)) := (Option.bind (F_Wi_open_0 (v 8) v f w) (fun z1 => (if z1 = (0 : Int32) then (some (v, f, w)) else (if (w 0) = 0 then (Option.bind (F_Rk_word_0 (v 8) v f w) (fun z2 => (F_Ma_move_0_25 x2 z2.1 z2.2.1 z2.2.2.1 z2.2.2.2))) else (if (w 0) = 1 then (Option.bind (F_Rk_word_1 (v 8) v f w) (fun z3 => (F_Ma_move_0_25 x2 z3.1 z3.2.1 z3.2.2.1 z3.2.2.2))) else (if (w 0) = 2 then (Option.bind (F_Pr_word_2 (v 8) v f w) (fun z4 => (F_Ma_move_0_25 x2 z4 v f w))) else (if (w 0) = 3 then (Option.bind (F_Pr_word_3 (v 8) v f w) (fun z5 => (F_Ma_move_0_25 x2 z5 v f w))) else (if (w 0) = 4 then (Option.bind (F_Pr_word_4 (v 8) v f w) (fun z6 => (F_Ma_move_0_25 x2 z6 v f w))) else (if (w 0) = 5 then (Option.bind (F_Pr_word_5 (v 8) v f w) (fun z7 => (F_Ma_move_0_25 x2 z7 v f w))) else (if (w 0) = 6 then (Option.bind (F_Pr_word_6 (v 8) v f w) (fun z8 => (F_Ma_move_0_25 x2 z8 v f w))) else (if (w 0) = 7 then (Option.bind (F_Pr_word_7 (v 8) v f w) (fun z9 => (F_Ma_move_0_25 x2 z9 v f w))) else (if (w 0) = 8 then (Option.bind (F_Pr_word_8 (v 8) v f w) (fun z10 => (F_Ma_move_0_25 x2 z10 v f w))) else (if (w 0) = 9 then (Option.bind (F_Rk_word_9 (v 8) v f w) (fun z11 => (F_Ma_move_0_25 x2 z11.1 z11.2.1 z11.2.2.1 z11.2.2.2))) else (if (w 0) = 10 then (Option.bind (F_Rk_word_10 (v 8) v f w) (fun z12 => (F_Ma_move_0_25 x2 z12.1 z12.2.1 z12.2.2.1 z12.2.2.2))) else (if (w 0) = 11 then (Option.bind (F_Rk_word_11 (v 8) v f w) (fun z13 => (F_Ma_move_0_25 x2 z13.1 z13.2.1 z13.2.2.1 z13.2.2.2))) else (if (w 0) = 12 then (Option.bind (F_Rk_word_12 (v 8) v f w) (fun z14 => (F_Ma_move_0_25 x2 z14.1 z14.2.1 z14.2.2.1 z14.2.2.2))) else (if (w 0) = 13 then (Option.bind (F_Rk_word_13 (v 8) v f w) (fun z15 => (F_Ma_move_0_25 x2 z15.1 z15.2.1 z15.2.2.1 z15.2.2.2))) else (if (w 0) = 14 then (Option.bind (F_Rk_word_14 (v 8) v f w) (fun z16 => (F_Ma_move_0_25 x2 z16.1 z16.2.1 z16.2.2.1 z16.2.2.2))) else (if (w 0) = 15 then (Option.bind (F_Rk_word_15 (v 8) v f w) (fun z17 => (F_Ma_move_0_25 x2 z17.1 z17.2.1 z17.2.2.1 z17.2.2.2))) else none)))))))))))))))))))
set_option maxHeartbeats 4000000 in
set_option maxRecDepth 100000 in
theorem c_Ma_move_0 (l : Launch) (G : dm_G) (g h : Nat → Nat) (x2 : Int32) (v : Nat → Int32) (f : Nat → Nat → Int32) (w : Nat → Nat) (RES : (Nat → Int32) × (Nat → Nat → Int32) × (Nat → Nat)) (hF : F_Ma_move_0 x2 v f w = some RES) : dm_Ct l y_Ma_move_0 b_Ma_move_0 5 none rm_Ma_move_0 G (mw G g h v f w) [.ref (g 0), .ref (h 0), .int x2] (fun ov w' => ov = none ∧ w' = (mw G g h RES.1 RES.2.1 RES.2.2)) := by
  refine dm_Ct.of (by decide +kernel) (Nat.le_of_ble_eq_true rfl) ?_
  intro p e s m below meth c A ls B hl hP hD hS
  have hx := B.1
  have hb := B.2.1
  have hl : lv_has ls 5 [(0, .ref (g 0)), (1, .ref (h 0)), (2, .int x2)] := hl
  have K46 : ∀ (ls : Array Slot) (H : Heap) (locs : List Loc) (l4 : Int32) (v : Nat → Int32) (f : Nat → Nat → Int32) (w : Nat → Nat), lv_has ls 5 [(0, .ref (g 0)), (2, .int x2), (4, .int l4)] → va_P G.1 dm_cl (mw G g h v f w) H → va_D A (mw G g h v f w) → va_S A s.heap H locs → F_Ma_move_0_46 x2 l4 v f w = some RES → W p l e rm_Ma_move_0 s m ([.ref (g 0), .ref (h 0), .int x2] : List Value).toArray below meth c H locs 0 0 (dm_Z below G s ([.ref (g 0), .ref (h 0), .int x2] : List Value).toArray A rm_Ma_move_0.cells rm_Ma_move_0.slots (fun ov w' => ov = none ∧ w' = (mw G g h RES.1 RES.2.1 RES.2.2))) (F0 m 46 ls []) := by
    intro ls H locs l4 v f w hl hP hD hS hF
    have hF : (if x2 = (0 : Int32) then (if l4 = 0 ∨ l4 = 1 then (some ((va_up v 13 l4), f, w)) else none) else (some (v, f, w))) = some RES := hF
    refine lv_iload_n hx hb d_Ma_move_0_46 rfl (lv_at hl 1 rfl) ?_
    refine lv_if_ne (tgt := 56) hx hb d_Ma_move_0_47 (by decide) (fun (hh : ¬ x2 = (0 : Int32)) => ?_) (fun (hh : x2 = (0 : Int32)) => ?_)
    · rw [if_neg hh] at hF
      have hF := Option.some.inj hF
      subst hF
      exact dm_retv B d_Ma_move_0_56 (by decide) (by decide) hP hD hS ⟨rfl, rfl⟩
    · rw [if_pos hh] at hF
      refine lv_aload_n hx hb d_Ma_move_0_50 rfl (lv_at hl 0 rfl) ?_
      refine lv_iload hx hb d_Ma_move_0_51 (lv_at hl 2 rfl) ?_
      obtain ⟨hz, hF⟩ := dm_ck1 hF
      refine mw_p_0_13 (x := l4) B hP hD hS hz k_140 d_Ma_move_0_53 (fun H locs hP hD hS => ?_)
      have hF := Option.some.inj hF
      subst hF
      exact dm_retv B d_Ma_move_0_56 (by decide) (by decide) hP hD hS ⟨rfl, rfl⟩
  have K25 : ∀ (ls : Array Slot) (H : Heap) (locs : List Loc) (s0 : Int32) (v : Nat → Int32) (f : Nat → Nat → Int32) (w : Nat → Nat), lv_has ls 5 [(0, .ref (g 0)), (1, .ref (h 0)), (2, .int x2)] → va_P G.1 dm_cl (mw G g h v f w) H → va_D A (mw G g h v f w) → va_S A s.heap H locs → F_Ma_move_0_25 x2 s0 v f w = some RES → W p l e rm_Ma_move_0 s m ([.ref (g 0), .ref (h 0), .int x2] : List Value).toArray below meth c H locs 0 0 (dm_Z below G s ([.ref (g 0), .ref (h 0), .int x2] : List Value).toArray A rm_Ma_move_0.cells rm_Ma_move_0.slots (fun ov w' => ov = none ∧ w' = (mw G g h RES.1 RES.2.1 RES.2.2))) (F0 m 25 ls [.int s0]) := by
    intro ls H locs s0 v f w hl hP hD hS hF
    have hF : (if (w 1) = 0 then (Option.bind (F_Do_take_0 (v 8) s0 v f w) (fun z1 => (F_Ma_move_0_46 x2 (v 13) z1.1 z1.2.1 z1.2.2))) else (if (w 1) = 1 then (Option.bind (F_Do_take_1 (v 8) s0 v f w) (fun z2 => (F_Ma_move_0_46 x2 (v 13) z2.1 z2.2.1 z2.2.2))) else (if (w 1) = 2 then (Option.bind (F_Pr_take_2 (v 8) s0 v f w) (fun z3 => (F_Ma_move_0_46 x2 (v 13) z3.1 z3.2.1 z3.2.2))) else (if (w 1) = 3 then (Option.bind (F_Pr_take_3 (v 8) s0 v f w) (fun z4 => (F_Ma_move_0_46 x2 (v 13) z4.1 z4.2.1 z4.2.2))) else (if (w 1) = 4 then (Option.bind (F_Pr_take_4 (v 8) s0 v f w) (fun z5 => (F_Ma_move_0_46 x2 (v 13) z5.1 z5.2.1 z5.2.2))) else (if (w 1) = 5 then (Option.bind (F_Pr_take_5 (v 8) s0 v f w) (fun z6 => (F_Ma_move_0_46 x2 (v 13) z6.1 z6.2.1 z6.2.2))) else (if (w 1) = 6 then (Option.bind (F_Pr_take_6 (v 8) s0 v f w) (fun z7 => (F_Ma_move_0_46 x2 (v 13) z7.1 z7.2.1 z7.2.2))) else (if (w 1) = 7 then (Option.bind (F_Pr_take_7 (v 8) s0 v f w) (fun z8 => (F_Ma_move_0_46 x2 (v 13) z8.1 z8.2.1 z8.2.2))) else (if (w 1) = 8 then (Option.bind (F_Pr_take_8 (v 8) s0 v f w) (fun z9 => (F_Ma_move_0_46 x2 (v 13) z9.1 z9.2.1 z9.2.2))) else (if (w 1) = 9 then (Option.bind (F_Do_take_9 (v 8) s0 v f w) (fun z10 => (F_Ma_move_0_46 x2 (v 13) z10.1 z10.2.1 z10.2.2))) else (if (w 1) = 10 then (Option.bind (F_Do_take_10 (v 8) s0 v f w) (fun z11 => (F_Ma_move_0_46 x2 (v 13) z11.1 z11.2.1 z11.2.2))) else (if (w 1) = 11 then (Option.bind (F_Do_take_11 (v 8) s0 v f w) (fun z12 => (F_Ma_move_0_46 x2 (v 13) z12.1 z12.2.1 z12.2.2))) else (if (w 1) = 12 then (Option.bind (F_Do_take_12 (v 8) s0 v f w) (fun z13 => (F_Ma_move_0_46 x2 (v 13) z13.1 z13.2.1 z13.2.2))) else (if (w 1) = 13 then (Option.bind (F_Do_take_13 (v 8) s0 v f w) (fun z14 => (F_Ma_move_0_46 x2 (v 13) z14.1 z14.2.1 z14.2.2))) else (if (w 1) = 14 then (Option.bind (F_Do_take_14 (v 8) s0 v f w) (fun z15 => (F_Ma_move_0_46 x2 (v 13) z15.1 z15.2.1 z15.2.2))) else (if (w 1) = 15 then (Option.bind (F_Do_take_15 (v 8) s0 v f w) (fun z16 => (F_Ma_move_0_46 x2 (v 13) z16.1 z16.2.1 z16.2.2))) else none)))))))))))))))) = some RES := hF
    refine lv_istore_n (lv' := [(3, .int s0), (0, .ref (g 0)), (1, .ref (h 0)), (2, .int x2)]) hx hb d_Ma_move_0_25 rfl hl (Nat.le_of_ble_eq_true rfl) rfl (fun ls hl => ?_)
    have hl : lv_has ls 5 [(0, .ref (g 0)), (1, .ref (h 0)), (2, .int x2), (3, .int s0)] := lv_sub hl [1, 2, 3, 0] rfl
    refine lv_aload_n hx hb d_Ma_move_0_26 rfl (lv_at hl 0 rfl) ?_
    refine mw_g_0_13 (x := (v 13)) B hP rfl k_140 d_Ma_move_0_27 ?_
    refine lv_istore (lv' := [(4, .int (v 13)), (0, .ref (g 0)), (1, .ref (h 0)), (2, .int x2), (3, .int s0)]) hx hb d_Ma_move_0_30 hl (Nat.le_of_ble_eq_true rfl) rfl (fun ls hl => ?_)
    have hl : lv_has ls 5 [(0, .ref (g 0)), (1, .ref (h 0)), (2, .int x2), (3, .int s0), (4, .int (v 13))] := lv_sub hl [1, 2, 3, 4, 0] rfl
    refine lv_aload_n hx hb d_Ma_move_0_32 rfl (lv_at hl 1 rfl) ?_
    refine mw_gn_9_3 B hP k_103 d_Ma_move_0_33 ?_
    refine lv_aload_n hx hb d_Ma_move_0_36 rfl (lv_at hl 0 rfl) ?_
    refine mw_g_0_8 (x := (v 8)) B hP rfl k_130 d_Ma_move_0_37 ?_
    refine lv_iload_n hx hb d_Ma_move_0_40 rfl (lv_at hl 3 rfl) ?_
    by_cases hk0 : (w 1) = 0
    · rw [if_pos hk0] at hF
      refine W.eq (g2 := F0 m 41 ls [.int s0, .int (v 8), .ref (g 60)]) (by rw [hk0]; rfl) ?_
      obtain ⟨z1, hcz1, hF⟩ := dm_bind hF
      refine dm_callFw B [.int (v 8), .int s0] (c_Do_take_0 l G g h (v 8) s0 v f w z1 hcz1) k_420 k_426 k_424 k_9 k_428 (List.mem_of_getElem? (i := 3) rfl) hd_Do_take_0.2.2 rfl ⟨by decide, by decide⟩ 41 rfl rfl hP hD hS hl.1 (rest := []) rfl (Nat.le_of_ble_eq_true rfl) d_Ma_move_0_41 ⟨by decide, by decide⟩ (fun ov w' H locs hq hP hD hS => ?_)
      obtain ⟨rfl, rfl⟩ := hq
      have hP : va_P G.1 dm_cl (mw G g h z1.1 z1.2.1 z1.2.2) H := hP
      have hD : va_D A (mw G g h z1.1 z1.2.1 z1.2.2) := hD
      refine W.eq (g2 := F0 m 46 ls []) rfl ?_
      exact K46 ls _ _ (v 13) z1.1 z1.2.1 z1.2.2 (lv_sub hl [0, 2, 4] rfl) hP hD hS hF
    rw [if_neg hk0] at hF
    by_cases hk1 : (w 1) = 1
    · rw [if_pos hk1] at hF
      refine W.eq (g2 := F0 m 41 ls [.int s0, .int (v 8), .ref (g 61)]) (by rw [hk1]; rfl) ?_
      obtain ⟨z2, hcz2, hF⟩ := dm_bind hF
      refine dm_callFw B [.int (v 8), .int s0] (c_Do_take_1 l G g h (v 8) s0 v f w z2 hcz2) k_420 k_426 k_424 k_9 k_428 (List.mem_of_getElem? (i := 3) rfl) hd_Do_take_1.2.2 rfl ⟨by decide, by decide⟩ 42 rfl rfl hP hD hS hl.1 (rest := []) rfl (Nat.le_of_ble_eq_true rfl) d_Ma_move_0_41 ⟨by decide, by decide⟩ (fun ov w' H locs hq hP hD hS => ?_)
      obtain ⟨rfl, rfl⟩ := hq
      have hP : va_P G.1 dm_cl (mw G g h z2.1 z2.2.1 z2.2.2) H := hP
      have hD : va_D A (mw G g h z2.1 z2.2.1 z2.2.2) := hD
      refine W.eq (g2 := F0 m 46 ls []) rfl ?_
      exact K46 ls _ _ (v 13) z2.1 z2.2.1 z2.2.2 (lv_sub hl [0, 2, 4] rfl) hP hD hS hF
    rw [if_neg hk1] at hF
    by_cases hk2 : (w 1) = 2
    · rw [if_pos hk2] at hF
      refine W.eq (g2 := F0 m 41 ls [.int s0, .int (v 8), .ref (g 32)]) (by rw [hk2]; rfl) ?_
      obtain ⟨z3, hcz3, hF⟩ := dm_bind hF
      refine dm_callFw B [.int (v 8), .int s0] (c_Pr_take_2 l G g h (v 8) s0 v f w z3 hcz3) k_420 k_459 k_457 k_7 k_461 (List.mem_of_getElem? (i := 2) rfl) hd_Pr_take_2.2.2 rfl ⟨by decide, by decide⟩ 25 rfl rfl hP hD hS hl.1 (rest := []) rfl (Nat.le_of_ble_eq_true rfl) d_Ma_move_0_41 ⟨by decide, by decide⟩ (fun ov w' H locs hq hP hD hS => ?_)
      obtain ⟨rfl, rfl⟩ := hq
      have hP : va_P G.1 dm_cl (mw G g h z3.1 z3.2.1 z3.2.2) H := hP
      have hD : va_D A (mw G g h z3.1 z3.2.1 z3.2.2) := hD
      refine W.eq (g2 := F0 m 46 ls []) rfl ?_
      exact K46 ls _ _ (v 13) z3.1 z3.2.1 z3.2.2 (lv_sub hl [0, 2, 4] rfl) hP hD hS hF
    rw [if_neg hk2] at hF
    by_cases hk3 : (w 1) = 3
    · rw [if_pos hk3] at hF
      refine W.eq (g2 := F0 m 41 ls [.int s0, .int (v 8), .ref (g 33)]) (by rw [hk3]; rfl) ?_
      obtain ⟨z4, hcz4, hF⟩ := dm_bind hF
      refine dm_callFw B [.int (v 8), .int s0] (c_Pr_take_3 l G g h (v 8) s0 v f w z4 hcz4) k_420 k_459 k_457 k_7 k_461 (List.mem_of_getElem? (i := 2) rfl) hd_Pr_take_3.2.2 rfl ⟨by decide, by decide⟩ 26 rfl rfl hP hD hS hl.1 (rest := []) rfl (Nat.le_of_ble_eq_true rfl) d_Ma_move_0_41 ⟨by decide, by decide⟩ (fun ov w' H locs hq hP hD hS => ?_)
      obtain ⟨rfl, rfl⟩ := hq
      have hP : va_P G.1 dm_cl (mw G g h z4.1 z4.2.1 z4.2.2) H := hP
      have hD : va_D A (mw G g h z4.1 z4.2.1 z4.2.2) := hD
      refine W.eq (g2 := F0 m 46 ls []) rfl ?_
      exact K46 ls _ _ (v 13) z4.1 z4.2.1 z4.2.2 (lv_sub hl [0, 2, 4] rfl) hP hD hS hF
    rw [if_neg hk3] at hF
    by_cases hk4 : (w 1) = 4
    · rw [if_pos hk4] at hF
      refine W.eq (g2 := F0 m 41 ls [.int s0, .int (v 8), .ref (g 34)]) (by rw [hk4]; rfl) ?_
      obtain ⟨z5, hcz5, hF⟩ := dm_bind hF
      refine dm_callFw B [.int (v 8), .int s0] (c_Pr_take_4 l G g h (v 8) s0 v f w z5 hcz5) k_420 k_459 k_457 k_7 k_461 (List.mem_of_getElem? (i := 2) rfl) hd_Pr_take_4.2.2 rfl ⟨by decide, by decide⟩ 27 rfl rfl hP hD hS hl.1 (rest := []) rfl (Nat.le_of_ble_eq_true rfl) d_Ma_move_0_41 ⟨by decide, by decide⟩ (fun ov w' H locs hq hP hD hS => ?_)
      obtain ⟨rfl, rfl⟩ := hq
      have hP : va_P G.1 dm_cl (mw G g h z5.1 z5.2.1 z5.2.2) H := hP
      have hD : va_D A (mw G g h z5.1 z5.2.1 z5.2.2) := hD
      refine W.eq (g2 := F0 m 46 ls []) rfl ?_
      exact K46 ls _ _ (v 13) z5.1 z5.2.1 z5.2.2 (lv_sub hl [0, 2, 4] rfl) hP hD hS hF
    rw [if_neg hk4] at hF
    by_cases hk5 : (w 1) = 5
    · rw [if_pos hk5] at hF
      refine W.eq (g2 := F0 m 41 ls [.int s0, .int (v 8), .ref (g 35)]) (by rw [hk5]; rfl) ?_
      obtain ⟨z6, hcz6, hF⟩ := dm_bind hF
      refine dm_callFw B [.int (v 8), .int s0] (c_Pr_take_5 l G g h (v 8) s0 v f w z6 hcz6) k_420 k_459 k_457 k_7 k_461 (List.mem_of_getElem? (i := 2) rfl) hd_Pr_take_5.2.2 rfl ⟨by decide, by decide⟩ 28 rfl rfl hP hD hS hl.1 (rest := []) rfl (Nat.le_of_ble_eq_true rfl) d_Ma_move_0_41 ⟨by decide, by decide⟩ (fun ov w' H locs hq hP hD hS => ?_)
      obtain ⟨rfl, rfl⟩ := hq
      have hP : va_P G.1 dm_cl (mw G g h z6.1 z6.2.1 z6.2.2) H := hP
      have hD : va_D A (mw G g h z6.1 z6.2.1 z6.2.2) := hD
      refine W.eq (g2 := F0 m 46 ls []) rfl ?_
      exact K46 ls _ _ (v 13) z6.1 z6.2.1 z6.2.2 (lv_sub hl [0, 2, 4] rfl) hP hD hS hF
    rw [if_neg hk5] at hF
    by_cases hk6 : (w 1) = 6
    · rw [if_pos hk6] at hF
      refine W.eq (g2 := F0 m 41 ls [.int s0, .int (v 8), .ref (g 36)]) (by rw [hk6]; rfl) ?_
      obtain ⟨z7, hcz7, hF⟩ := dm_bind hF
      refine dm_callFw B [.int (v 8), .int s0] (c_Pr_take_6 l G g h (v 8) s0 v f w z7 hcz7) k_420 k_459 k_457 k_7 k_461 (List.mem_of_getElem? (i := 2) rfl) hd_Pr_take_6.2.2 rfl ⟨by decide, by decide⟩ 29 rfl rfl hP hD hS hl.1 (rest := []) rfl (Nat.le_of_ble_eq_true rfl) d_Ma_move_0_41 ⟨by decide, by decide⟩ (fun ov w' H locs hq hP hD hS => ?_)
      obtain ⟨rfl, rfl⟩ := hq
      have hP : va_P G.1 dm_cl (mw G g h z7.1 z7.2.1 z7.2.2) H := hP
      have hD : va_D A (mw G g h z7.1 z7.2.1 z7.2.2) := hD
      refine W.eq (g2 := F0 m 46 ls []) rfl ?_
      exact K46 ls _ _ (v 13) z7.1 z7.2.1 z7.2.2 (lv_sub hl [0, 2, 4] rfl) hP hD hS hF
    rw [if_neg hk6] at hF
    by_cases hk7 : (w 1) = 7
    · rw [if_pos hk7] at hF
      refine W.eq (g2 := F0 m 41 ls [.int s0, .int (v 8), .ref (g 37)]) (by rw [hk7]; rfl) ?_
      obtain ⟨z8, hcz8, hF⟩ := dm_bind hF
      refine dm_callFw B [.int (v 8), .int s0] (c_Pr_take_7 l G g h (v 8) s0 v f w z8 hcz8) k_420 k_459 k_457 k_7 k_461 (List.mem_of_getElem? (i := 2) rfl) hd_Pr_take_7.2.2 rfl ⟨by decide, by decide⟩ 30 rfl rfl hP hD hS hl.1 (rest := []) rfl (Nat.le_of_ble_eq_true rfl) d_Ma_move_0_41 ⟨by decide, by decide⟩ (fun ov w' H locs hq hP hD hS => ?_)
      obtain ⟨rfl, rfl⟩ := hq
      have hP : va_P G.1 dm_cl (mw G g h z8.1 z8.2.1 z8.2.2) H := hP
      have hD : va_D A (mw G g h z8.1 z8.2.1 z8.2.2) := hD
      refine W.eq (g2 := F0 m 46 ls []) rfl ?_
      exact K46 ls _ _ (v 13) z8.1 z8.2.1 z8.2.2 (lv_sub hl [0, 2, 4] rfl) hP hD hS hF
    rw [if_neg hk7] at hF
    by_cases hk8 : (w 1) = 8
    · rw [if_pos hk8] at hF
      refine W.eq (g2 := F0 m 41 ls [.int s0, .int (v 8), .ref (g 38)]) (by rw [hk8]; rfl) ?_
      obtain ⟨z9, hcz9, hF⟩ := dm_bind hF
      refine dm_callFw B [.int (v 8), .int s0] (c_Pr_take_8 l G g h (v 8) s0 v f w z9 hcz9) k_420 k_459 k_457 k_7 k_461 (List.mem_of_getElem? (i := 2) rfl) hd_Pr_take_8.2.2 rfl ⟨by decide, by decide⟩ 31 rfl rfl hP hD hS hl.1 (rest := []) rfl (Nat.le_of_ble_eq_true rfl) d_Ma_move_0_41 ⟨by decide, by decide⟩ (fun ov w' H locs hq hP hD hS => ?_)
      obtain ⟨rfl, rfl⟩ := hq
      have hP : va_P G.1 dm_cl (mw G g h z9.1 z9.2.1 z9.2.2) H := hP
      have hD : va_D A (mw G g h z9.1 z9.2.1 z9.2.2) := hD
      refine W.eq (g2 := F0 m 46 ls []) rfl ?_
      exact K46 ls _ _ (v 13) z9.1 z9.2.1 z9.2.2 (lv_sub hl [0, 2, 4] rfl) hP hD hS hF
    rw [if_neg hk8] at hF
    by_cases hk9 : (w 1) = 9
    · rw [if_pos hk9] at hF
      refine W.eq (g2 := F0 m 41 ls [.int s0, .int (v 8), .ref (g 69)]) (by rw [hk9]; rfl) ?_
      obtain ⟨z10, hcz10, hF⟩ := dm_bind hF
      refine dm_callFw B [.int (v 8), .int s0] (c_Do_take_9 l G g h (v 8) s0 v f w z10 hcz10) k_420 k_426 k_424 k_9 k_428 (List.mem_of_getElem? (i := 3) rfl) hd_Do_take_9.2.2 rfl ⟨by decide, by decide⟩ 43 rfl rfl hP hD hS hl.1 (rest := []) rfl (Nat.le_of_ble_eq_true rfl) d_Ma_move_0_41 ⟨by decide, by decide⟩ (fun ov w' H locs hq hP hD hS => ?_)
      obtain ⟨rfl, rfl⟩ := hq
      have hP : va_P G.1 dm_cl (mw G g h z10.1 z10.2.1 z10.2.2) H := hP
      have hD : va_D A (mw G g h z10.1 z10.2.1 z10.2.2) := hD
      refine W.eq (g2 := F0 m 46 ls []) rfl ?_
      exact K46 ls _ _ (v 13) z10.1 z10.2.1 z10.2.2 (lv_sub hl [0, 2, 4] rfl) hP hD hS hF
    rw [if_neg hk9] at hF
    by_cases hk10 : (w 1) = 10
    · rw [if_pos hk10] at hF
      refine W.eq (g2 := F0 m 41 ls [.int s0, .int (v 8), .ref (g 70)]) (by rw [hk10]; rfl) ?_
      obtain ⟨z11, hcz11, hF⟩ := dm_bind hF
      refine dm_callFw B [.int (v 8), .int s0] (c_Do_take_10 l G g h (v 8) s0 v f w z11 hcz11) k_420 k_426 k_424 k_9 k_428 (List.mem_of_getElem? (i := 3) rfl) hd_Do_take_10.2.2 rfl ⟨by decide, by decide⟩ 44 rfl rfl hP hD hS hl.1 (rest := []) rfl (Nat.le_of_ble_eq_true rfl) d_Ma_move_0_41 ⟨by decide, by decide⟩ (fun ov w' H locs hq hP hD hS => ?_)
      obtain ⟨rfl, rfl⟩ := hq
      have hP : va_P G.1 dm_cl (mw G g h z11.1 z11.2.1 z11.2.2) H := hP
      have hD : va_D A (mw G g h z11.1 z11.2.1 z11.2.2) := hD
      refine W.eq (g2 := F0 m 46 ls []) rfl ?_
      exact K46 ls _ _ (v 13) z11.1 z11.2.1 z11.2.2 (lv_sub hl [0, 2, 4] rfl) hP hD hS hF
    rw [if_neg hk10] at hF
    by_cases hk11 : (w 1) = 11
    · rw [if_pos hk11] at hF
      refine W.eq (g2 := F0 m 41 ls [.int s0, .int (v 8), .ref (g 71)]) (by rw [hk11]; rfl) ?_
      obtain ⟨z12, hcz12, hF⟩ := dm_bind hF
      refine dm_callFw B [.int (v 8), .int s0] (c_Do_take_11 l G g h (v 8) s0 v f w z12 hcz12) k_420 k_426 k_424 k_9 k_428 (List.mem_of_getElem? (i := 3) rfl) hd_Do_take_11.2.2 rfl ⟨by decide, by decide⟩ 45 rfl rfl hP hD hS hl.1 (rest := []) rfl (Nat.le_of_ble_eq_true rfl) d_Ma_move_0_41 ⟨by decide, by decide⟩ (fun ov w' H locs hq hP hD hS => ?_)
      obtain ⟨rfl, rfl⟩ := hq
      have hP : va_P G.1 dm_cl (mw G g h z12.1 z12.2.1 z12.2.2) H := hP
      have hD : va_D A (mw G g h z12.1 z12.2.1 z12.2.2) := hD
      refine W.eq (g2 := F0 m 46 ls []) rfl ?_
      exact K46 ls _ _ (v 13) z12.1 z12.2.1 z12.2.2 (lv_sub hl [0, 2, 4] rfl) hP hD hS hF
    rw [if_neg hk11] at hF
    by_cases hk12 : (w 1) = 12
    · rw [if_pos hk12] at hF
      refine W.eq (g2 := F0 m 41 ls [.int s0, .int (v 8), .ref (g 72)]) (by rw [hk12]; rfl) ?_
      obtain ⟨z13, hcz13, hF⟩ := dm_bind hF
      refine dm_callFw B [.int (v 8), .int s0] (c_Do_take_12 l G g h (v 8) s0 v f w z13 hcz13) k_420 k_426 k_424 k_9 k_428 (List.mem_of_getElem? (i := 3) rfl) hd_Do_take_12.2.2 rfl ⟨by decide, by decide⟩ 46 rfl rfl hP hD hS hl.1 (rest := []) rfl (Nat.le_of_ble_eq_true rfl) d_Ma_move_0_41 ⟨by decide, by decide⟩ (fun ov w' H locs hq hP hD hS => ?_)
      obtain ⟨rfl, rfl⟩ := hq
      have hP : va_P G.1 dm_cl (mw G g h z13.1 z13.2.1 z13.2.2) H := hP
      have hD : va_D A (mw G g h z13.1 z13.2.1 z13.2.2) := hD
      refine W.eq (g2 := F0 m 46 ls []) rfl ?_
      exact K46 ls _ _ (v 13) z13.1 z13.2.1 z13.2.2 (lv_sub hl [0, 2, 4] rfl) hP hD hS hF
    rw [if_neg hk12] at hF
    by_cases hk13 : (w 1) = 13
    · rw [if_pos hk13] at hF
      refine W.eq (g2 := F0 m 41 ls [.int s0, .int (v 8), .ref (g 73)]) (by rw [hk13]; rfl) ?_
      obtain ⟨z14, hcz14, hF⟩ := dm_bind hF
      refine dm_callFw B [.int (v 8), .int s0] (c_Do_take_13 l G g h (v 8) s0 v f w z14 hcz14) k_420 k_426 k_424 k_9 k_428 (List.mem_of_getElem? (i := 3) rfl) hd_Do_take_13.2.2 rfl ⟨by decide, by decide⟩ 47 rfl rfl hP hD hS hl.1 (rest := []) rfl (Nat.le_of_ble_eq_true rfl) d_Ma_move_0_41 ⟨by decide, by decide⟩ (fun ov w' H locs hq hP hD hS => ?_)
      obtain ⟨rfl, rfl⟩ := hq
      have hP : va_P G.1 dm_cl (mw G g h z14.1 z14.2.1 z14.2.2) H := hP
      have hD : va_D A (mw G g h z14.1 z14.2.1 z14.2.2) := hD
      refine W.eq (g2 := F0 m 46 ls []) rfl ?_
      exact K46 ls _ _ (v 13) z14.1 z14.2.1 z14.2.2 (lv_sub hl [0, 2, 4] rfl) hP hD hS hF
    rw [if_neg hk13] at hF
    by_cases hk14 : (w 1) = 14
    · rw [if_pos hk14] at hF
      refine W.eq (g2 := F0 m 41 ls [.int s0, .int (v 8), .ref (g 74)]) (by rw [hk14]; rfl) ?_
      obtain ⟨z15, hcz15, hF⟩ := dm_bind hF
      refine dm_callFw B [.int (v 8), .int s0] (c_Do_take_14 l G g h (v 8) s0 v f w z15 hcz15) k_420 k_426 k_424 k_9 k_428 (List.mem_of_getElem? (i := 3) rfl) hd_Do_take_14.2.2 rfl ⟨by decide, by decide⟩ 48 rfl rfl hP hD hS hl.1 (rest := []) rfl (Nat.le_of_ble_eq_true rfl) d_Ma_move_0_41 ⟨by decide, by decide⟩ (fun ov w' H locs hq hP hD hS => ?_)
      obtain ⟨rfl, rfl⟩ := hq
      have hP : va_P G.1 dm_cl (mw G g h z15.1 z15.2.1 z15.2.2) H := hP
      have hD : va_D A (mw G g h z15.1 z15.2.1 z15.2.2) := hD
      refine W.eq (g2 := F0 m 46 ls []) rfl ?_
      exact K46 ls _ _ (v 13) z15.1 z15.2.1 z15.2.2 (lv_sub hl [0, 2, 4] rfl) hP hD hS hF
    rw [if_neg hk14] at hF
    by_cases hk15 : (w 1) = 15
    · rw [if_pos hk15] at hF
      refine W.eq (g2 := F0 m 41 ls [.int s0, .int (v 8), .ref (g 75)]) (by rw [hk15]; rfl) ?_
      obtain ⟨z16, hcz16, hF⟩ := dm_bind hF
      refine dm_callFw B [.int (v 8), .int s0] (c_Do_take_15 l G g h (v 8) s0 v f w z16 hcz16) k_420 k_426 k_424 k_9 k_428 (List.mem_of_getElem? (i := 3) rfl) hd_Do_take_15.2.2 rfl ⟨by decide, by decide⟩ 49 rfl rfl hP hD hS hl.1 (rest := []) rfl (Nat.le_of_ble_eq_true rfl) d_Ma_move_0_41 ⟨by decide, by decide⟩ (fun ov w' H locs hq hP hD hS => ?_)
      obtain ⟨rfl, rfl⟩ := hq
      have hP : va_P G.1 dm_cl (mw G g h z16.1 z16.2.1 z16.2.2) H := hP
      have hD : va_D A (mw G g h z16.1 z16.2.1 z16.2.2) := hD
      refine W.eq (g2 := F0 m 46 ls []) rfl ?_
      exact K46 ls _ _ (v 13) z16.1 z16.2.1 z16.2.2 (lv_sub hl [0, 2, 4] rfl) hP hD hS hF
    rw [if_neg hk15] at hF
    cases hF
  have hF : (Option.bind (F_Wi_open_0 (v 8) v f w) (fun z1 => (if z1 = (0 : Int32) then (some (v, f, w)) else (if (w 0) = 0 then (Option.bind (F_Rk_word_0 (v 8) v f w) (fun z2 => (F_Ma_move_0_25 x2 z2.1 z2.2.1 z2.2.2.1 z2.2.2.2))) else (if (w 0) = 1 then (Option.bind (F_Rk_word_1 (v 8) v f w) (fun z3 => (F_Ma_move_0_25 x2 z3.1 z3.2.1 z3.2.2.1 z3.2.2.2))) else (if (w 0) = 2 then (Option.bind (F_Pr_word_2 (v 8) v f w) (fun z4 => (F_Ma_move_0_25 x2 z4 v f w))) else (if (w 0) = 3 then (Option.bind (F_Pr_word_3 (v 8) v f w) (fun z5 => (F_Ma_move_0_25 x2 z5 v f w))) else (if (w 0) = 4 then (Option.bind (F_Pr_word_4 (v 8) v f w) (fun z6 => (F_Ma_move_0_25 x2 z6 v f w))) else (if (w 0) = 5 then (Option.bind (F_Pr_word_5 (v 8) v f w) (fun z7 => (F_Ma_move_0_25 x2 z7 v f w))) else (if (w 0) = 6 then (Option.bind (F_Pr_word_6 (v 8) v f w) (fun z8 => (F_Ma_move_0_25 x2 z8 v f w))) else (if (w 0) = 7 then (Option.bind (F_Pr_word_7 (v 8) v f w) (fun z9 => (F_Ma_move_0_25 x2 z9 v f w))) else (if (w 0) = 8 then (Option.bind (F_Pr_word_8 (v 8) v f w) (fun z10 => (F_Ma_move_0_25 x2 z10 v f w))) else (if (w 0) = 9 then (Option.bind (F_Rk_word_9 (v 8) v f w) (fun z11 => (F_Ma_move_0_25 x2 z11.1 z11.2.1 z11.2.2.1 z11.2.2.2))) else (if (w 0) = 10 then (Option.bind (F_Rk_word_10 (v 8) v f w) (fun z12 => (F_Ma_move_0_25 x2 z12.1 z12.2.1 z12.2.2.1 z12.2.2.2))) else (if (w 0) = 11 then (Option.bind (F_Rk_word_11 (v 8) v f w) (fun z13 => (F_Ma_move_0_25 x2 z13.1 z13.2.1 z13.2.2.1 z13.2.2.2))) else (if (w 0) = 12 then (Option.bind (F_Rk_word_12 (v 8) v f w) (fun z14 => (F_Ma_move_0_25 x2 z14.1 z14.2.1 z14.2.2.1 z14.2.2.2))) else (if (w 0) = 13 then (Option.bind (F_Rk_word_13 (v 8) v f w) (fun z15 => (F_Ma_move_0_25 x2 z15.1 z15.2.1 z15.2.2.1 z15.2.2.2))) else (if (w 0) = 14 then (Option.bind (F_Rk_word_14 (v 8) v f w) (fun z16 => (F_Ma_move_0_25 x2 z16.1 z16.2.1 z16.2.2.1 z16.2.2.2))) else (if (w 0) = 15 then (Option.bind (F_Rk_word_15 (v 8) v f w) (fun z17 => (F_Ma_move_0_25 x2 z17.1 z17.2.1 z17.2.2.1 z17.2.2.2))) else none))))))))))))))))))) = some RES := hF
  refine lv_aload_n hx hb d_Ma_move_0_0 rfl (lv_at hl 1 rfl) ?_
  refine lv_aload_n hx hb d_Ma_move_0_1 rfl (lv_at hl 0 rfl) ?_
  refine mw_g_0_8 (x := (v 8)) B hP rfl k_130 d_Ma_move_0_2 ?_
  obtain ⟨z1, hcz1, hF⟩ := dm_bind hF
  refine dm_callVw B [.int (v 8)] (c_Wi_open_0 l G g h (v 8) v f w z1 hcz1) k_386 k_387 k_388 k_5 k_389 hd_Wi_open_0 rfl ⟨by decide, by decide⟩ 9 rfl rfl hP hD hS hl.1 (rest := []) rfl (Nat.le_of_ble_eq_true rfl) d_Ma_move_0_5 ⟨by decide, by decide⟩ (fun ov w' H locs hq hP hD hS => ?_)
  obtain ⟨rfl, rfl⟩ := hq
  have hP : va_P G.1 dm_cl (mw G g h v f w) H := hP
  have hD : va_D A (mw G g h v f w) := hD
  refine W.eq (g2 := F0 m 8 ls [.int z1]) rfl ?_
  refine lv_if_ne (tgt := 12) hx hb d_Ma_move_0_8 (by decide) (fun (hh : ¬ z1 = (0 : Int32)) => ?_) (fun (hh : z1 = (0 : Int32)) => ?_)
  · rw [if_neg hh] at hF
    refine lv_aload_n hx hb d_Ma_move_0_12 rfl (lv_at hl 1 rfl) ?_
    refine mw_gn_9_2 B hP k_102 d_Ma_move_0_13 ?_
    refine lv_aload_n hx hb d_Ma_move_0_16 rfl (lv_at hl 0 rfl) ?_
    refine mw_g_0_8 (x := (v 8)) B hP rfl k_130 d_Ma_move_0_17 ?_
    by_cases hk0 : (w 0) = 0
    · rw [if_pos hk0] at hF
      refine W.eq (g2 := F0 m 20 ls [.int (v 8), .ref (g 40)]) (by rw [hk0]; rfl) ?_
      obtain ⟨z2, hcz2, hF⟩ := dm_bind hF
      refine dm_callFw B [.int (v 8)] (c_Rk_word_0 l G g h (v 8) v f w z2 hcz2) k_391 k_407 k_405 k_8 k_409 (List.mem_of_getElem? (i := 1) rfl) hd_Rk_word_0.2.2 rfl ⟨by decide, by decide⟩ 32 rfl rfl hP hD hS hl.1 (rest := []) rfl (Nat.le_of_ble_eq_true rfl) d_Ma_move_0_20 ⟨by decide, by decide⟩ (fun ov w' H locs hq hP hD hS => ?_)
      obtain ⟨rfl, rfl⟩ := hq
      have hP : va_P G.1 dm_cl (mw G g h z2.2.1 z2.2.2.1 z2.2.2.2) H := hP
      have hD : va_D A (mw G g h z2.2.1 z2.2.2.1 z2.2.2.2) := hD
      refine W.eq (g2 := F0 m 25 ls [.int z2.1]) rfl ?_
      exact K25 ls _ _ z2.1 z2.2.1 z2.2.2.1 z2.2.2.2 (lv_sub hl [0, 1, 2] rfl) hP hD hS hF
    rw [if_neg hk0] at hF
    by_cases hk1 : (w 0) = 1
    · rw [if_pos hk1] at hF
      refine W.eq (g2 := F0 m 20 ls [.int (v 8), .ref (g 41)]) (by rw [hk1]; rfl) ?_
      obtain ⟨z3, hcz3, hF⟩ := dm_bind hF
      refine dm_callFw B [.int (v 8)] (c_Rk_word_1 l G g h (v 8) v f w z3 hcz3) k_391 k_407 k_405 k_8 k_409 (List.mem_of_getElem? (i := 1) rfl) hd_Rk_word_1.2.2 rfl ⟨by decide, by decide⟩ 33 rfl rfl hP hD hS hl.1 (rest := []) rfl (Nat.le_of_ble_eq_true rfl) d_Ma_move_0_20 ⟨by decide, by decide⟩ (fun ov w' H locs hq hP hD hS => ?_)
      obtain ⟨rfl, rfl⟩ := hq
      have hP : va_P G.1 dm_cl (mw G g h z3.2.1 z3.2.2.1 z3.2.2.2) H := hP
      have hD : va_D A (mw G g h z3.2.1 z3.2.2.1 z3.2.2.2) := hD
      refine W.eq (g2 := F0 m 25 ls [.int z3.1]) rfl ?_
      exact K25 ls _ _ z3.1 z3.2.1 z3.2.2.1 z3.2.2.2 (lv_sub hl [0, 1, 2] rfl) hP hD hS hF
    rw [if_neg hk1] at hF
    by_cases hk2 : (w 0) = 2
    · rw [if_pos hk2] at hF
      refine W.eq (g2 := F0 m 20 ls [.int (v 8), .ref (g 32)]) (by rw [hk2]; rfl) ?_
      obtain ⟨z4, hcz4, hF⟩ := dm_bind hF
      refine dm_callFw B [.int (v 8)] (c_Pr_word_2 l G g h (v 8) v f w z4 hcz4) k_391 k_397 k_395 k_7 k_399 (List.mem_of_getElem? (i := 0) rfl) hd_Pr_word_2.2.2 rfl ⟨by decide, by decide⟩ 25 rfl rfl hP hD hS hl.1 (rest := []) rfl (Nat.le_of_ble_eq_true rfl) d_Ma_move_0_20 ⟨by decide, by decide⟩ (fun ov w' H locs hq hP hD hS => ?_)
      obtain ⟨rfl, rfl⟩ := hq
      have hP : va_P G.1 dm_cl (mw G g h v f w) H := hP
      have hD : va_D A (mw G g h v f w) := hD
      refine W.eq (g2 := F0 m 25 ls [.int z4]) rfl ?_
      exact K25 ls _ _ z4 v f w (lv_sub hl [0, 1, 2] rfl) hP hD hS hF
    rw [if_neg hk2] at hF
    by_cases hk3 : (w 0) = 3
    · rw [if_pos hk3] at hF
      refine W.eq (g2 := F0 m 20 ls [.int (v 8), .ref (g 33)]) (by rw [hk3]; rfl) ?_
      obtain ⟨z5, hcz5, hF⟩ := dm_bind hF
      refine dm_callFw B [.int (v 8)] (c_Pr_word_3 l G g h (v 8) v f w z5 hcz5) k_391 k_397 k_395 k_7 k_399 (List.mem_of_getElem? (i := 0) rfl) hd_Pr_word_3.2.2 rfl ⟨by decide, by decide⟩ 26 rfl rfl hP hD hS hl.1 (rest := []) rfl (Nat.le_of_ble_eq_true rfl) d_Ma_move_0_20 ⟨by decide, by decide⟩ (fun ov w' H locs hq hP hD hS => ?_)
      obtain ⟨rfl, rfl⟩ := hq
      have hP : va_P G.1 dm_cl (mw G g h v f w) H := hP
      have hD : va_D A (mw G g h v f w) := hD
      refine W.eq (g2 := F0 m 25 ls [.int z5]) rfl ?_
      exact K25 ls _ _ z5 v f w (lv_sub hl [0, 1, 2] rfl) hP hD hS hF
    rw [if_neg hk3] at hF
    by_cases hk4 : (w 0) = 4
    · rw [if_pos hk4] at hF
      refine W.eq (g2 := F0 m 20 ls [.int (v 8), .ref (g 34)]) (by rw [hk4]; rfl) ?_
      obtain ⟨z6, hcz6, hF⟩ := dm_bind hF
      refine dm_callFw B [.int (v 8)] (c_Pr_word_4 l G g h (v 8) v f w z6 hcz6) k_391 k_397 k_395 k_7 k_399 (List.mem_of_getElem? (i := 0) rfl) hd_Pr_word_4.2.2 rfl ⟨by decide, by decide⟩ 27 rfl rfl hP hD hS hl.1 (rest := []) rfl (Nat.le_of_ble_eq_true rfl) d_Ma_move_0_20 ⟨by decide, by decide⟩ (fun ov w' H locs hq hP hD hS => ?_)
      obtain ⟨rfl, rfl⟩ := hq
      have hP : va_P G.1 dm_cl (mw G g h v f w) H := hP
      have hD : va_D A (mw G g h v f w) := hD
      refine W.eq (g2 := F0 m 25 ls [.int z6]) rfl ?_
      exact K25 ls _ _ z6 v f w (lv_sub hl [0, 1, 2] rfl) hP hD hS hF
    rw [if_neg hk4] at hF
    by_cases hk5 : (w 0) = 5
    · rw [if_pos hk5] at hF
      refine W.eq (g2 := F0 m 20 ls [.int (v 8), .ref (g 35)]) (by rw [hk5]; rfl) ?_
      obtain ⟨z7, hcz7, hF⟩ := dm_bind hF
      refine dm_callFw B [.int (v 8)] (c_Pr_word_5 l G g h (v 8) v f w z7 hcz7) k_391 k_397 k_395 k_7 k_399 (List.mem_of_getElem? (i := 0) rfl) hd_Pr_word_5.2.2 rfl ⟨by decide, by decide⟩ 28 rfl rfl hP hD hS hl.1 (rest := []) rfl (Nat.le_of_ble_eq_true rfl) d_Ma_move_0_20 ⟨by decide, by decide⟩ (fun ov w' H locs hq hP hD hS => ?_)
      obtain ⟨rfl, rfl⟩ := hq
      have hP : va_P G.1 dm_cl (mw G g h v f w) H := hP
      have hD : va_D A (mw G g h v f w) := hD
      refine W.eq (g2 := F0 m 25 ls [.int z7]) rfl ?_
      exact K25 ls _ _ z7 v f w (lv_sub hl [0, 1, 2] rfl) hP hD hS hF
    rw [if_neg hk5] at hF
    by_cases hk6 : (w 0) = 6
    · rw [if_pos hk6] at hF
      refine W.eq (g2 := F0 m 20 ls [.int (v 8), .ref (g 36)]) (by rw [hk6]; rfl) ?_
      obtain ⟨z8, hcz8, hF⟩ := dm_bind hF
      refine dm_callFw B [.int (v 8)] (c_Pr_word_6 l G g h (v 8) v f w z8 hcz8) k_391 k_397 k_395 k_7 k_399 (List.mem_of_getElem? (i := 0) rfl) hd_Pr_word_6.2.2 rfl ⟨by decide, by decide⟩ 29 rfl rfl hP hD hS hl.1 (rest := []) rfl (Nat.le_of_ble_eq_true rfl) d_Ma_move_0_20 ⟨by decide, by decide⟩ (fun ov w' H locs hq hP hD hS => ?_)
      obtain ⟨rfl, rfl⟩ := hq
      have hP : va_P G.1 dm_cl (mw G g h v f w) H := hP
      have hD : va_D A (mw G g h v f w) := hD
      refine W.eq (g2 := F0 m 25 ls [.int z8]) rfl ?_
      exact K25 ls _ _ z8 v f w (lv_sub hl [0, 1, 2] rfl) hP hD hS hF
    rw [if_neg hk6] at hF
    by_cases hk7 : (w 0) = 7
    · rw [if_pos hk7] at hF
      refine W.eq (g2 := F0 m 20 ls [.int (v 8), .ref (g 37)]) (by rw [hk7]; rfl) ?_
      obtain ⟨z9, hcz9, hF⟩ := dm_bind hF
      refine dm_callFw B [.int (v 8)] (c_Pr_word_7 l G g h (v 8) v f w z9 hcz9) k_391 k_397 k_395 k_7 k_399 (List.mem_of_getElem? (i := 0) rfl) hd_Pr_word_7.2.2 rfl ⟨by decide, by decide⟩ 30 rfl rfl hP hD hS hl.1 (rest := []) rfl (Nat.le_of_ble_eq_true rfl) d_Ma_move_0_20 ⟨by decide, by decide⟩ (fun ov w' H locs hq hP hD hS => ?_)
      obtain ⟨rfl, rfl⟩ := hq
      have hP : va_P G.1 dm_cl (mw G g h v f w) H := hP
      have hD : va_D A (mw G g h v f w) := hD
      refine W.eq (g2 := F0 m 25 ls [.int z9]) rfl ?_
      exact K25 ls _ _ z9 v f w (lv_sub hl [0, 1, 2] rfl) hP hD hS hF
    rw [if_neg hk7] at hF
    by_cases hk8 : (w 0) = 8
    · rw [if_pos hk8] at hF
      refine W.eq (g2 := F0 m 20 ls [.int (v 8), .ref (g 38)]) (by rw [hk8]; rfl) ?_
      obtain ⟨z10, hcz10, hF⟩ := dm_bind hF
      refine dm_callFw B [.int (v 8)] (c_Pr_word_8 l G g h (v 8) v f w z10 hcz10) k_391 k_397 k_395 k_7 k_399 (List.mem_of_getElem? (i := 0) rfl) hd_Pr_word_8.2.2 rfl ⟨by decide, by decide⟩ 31 rfl rfl hP hD hS hl.1 (rest := []) rfl (Nat.le_of_ble_eq_true rfl) d_Ma_move_0_20 ⟨by decide, by decide⟩ (fun ov w' H locs hq hP hD hS => ?_)
      obtain ⟨rfl, rfl⟩ := hq
      have hP : va_P G.1 dm_cl (mw G g h v f w) H := hP
      have hD : va_D A (mw G g h v f w) := hD
      refine W.eq (g2 := F0 m 25 ls [.int z10]) rfl ?_
      exact K25 ls _ _ z10 v f w (lv_sub hl [0, 1, 2] rfl) hP hD hS hF
    rw [if_neg hk8] at hF
    by_cases hk9 : (w 0) = 9
    · rw [if_pos hk9] at hF
      refine W.eq (g2 := F0 m 20 ls [.int (v 8), .ref (g 49)]) (by rw [hk9]; rfl) ?_
      obtain ⟨z11, hcz11, hF⟩ := dm_bind hF
      refine dm_callFw B [.int (v 8)] (c_Rk_word_9 l G g h (v 8) v f w z11 hcz11) k_391 k_407 k_405 k_8 k_409 (List.mem_of_getElem? (i := 1) rfl) hd_Rk_word_9.2.2 rfl ⟨by decide, by decide⟩ 34 rfl rfl hP hD hS hl.1 (rest := []) rfl (Nat.le_of_ble_eq_true rfl) d_Ma_move_0_20 ⟨by decide, by decide⟩ (fun ov w' H locs hq hP hD hS => ?_)
      obtain ⟨rfl, rfl⟩ := hq
      have hP : va_P G.1 dm_cl (mw G g h z11.2.1 z11.2.2.1 z11.2.2.2) H := hP
      have hD : va_D A (mw G g h z11.2.1 z11.2.2.1 z11.2.2.2) := hD
      refine W.eq (g2 := F0 m 25 ls [.int z11.1]) rfl ?_
      exact K25 ls _ _ z11.1 z11.2.1 z11.2.2.1 z11.2.2.2 (lv_sub hl [0, 1, 2] rfl) hP hD hS hF
    rw [if_neg hk9] at hF
    by_cases hk10 : (w 0) = 10
    · rw [if_pos hk10] at hF
      refine W.eq (g2 := F0 m 20 ls [.int (v 8), .ref (g 50)]) (by rw [hk10]; rfl) ?_
      obtain ⟨z12, hcz12, hF⟩ := dm_bind hF
      refine dm_callFw B [.int (v 8)] (c_Rk_word_10 l G g h (v 8) v f w z12 hcz12) k_391 k_407 k_405 k_8 k_409 (List.mem_of_getElem? (i := 1) rfl) hd_Rk_word_10.2.2 rfl ⟨by decide, by decide⟩ 35 rfl rfl hP hD hS hl.1 (rest := []) rfl (Nat.le_of_ble_eq_true rfl) d_Ma_move_0_20 ⟨by decide, by decide⟩ (fun ov w' H locs hq hP hD hS => ?_)
      obtain ⟨rfl, rfl⟩ := hq
      have hP : va_P G.1 dm_cl (mw G g h z12.2.1 z12.2.2.1 z12.2.2.2) H := hP
      have hD : va_D A (mw G g h z12.2.1 z12.2.2.1 z12.2.2.2) := hD
      refine W.eq (g2 := F0 m 25 ls [.int z12.1]) rfl ?_
      exact K25 ls _ _ z12.1 z12.2.1 z12.2.2.1 z12.2.2.2 (lv_sub hl [0, 1, 2] rfl) hP hD hS hF
    rw [if_neg hk10] at hF
    by_cases hk11 : (w 0) = 11
    · rw [if_pos hk11] at hF
      refine W.eq (g2 := F0 m 20 ls [.int (v 8), .ref (g 51)]) (by rw [hk11]; rfl) ?_
      obtain ⟨z13, hcz13, hF⟩ := dm_bind hF
      refine dm_callFw B [.int (v 8)] (c_Rk_word_11 l G g h (v 8) v f w z13 hcz13) k_391 k_407 k_405 k_8 k_409 (List.mem_of_getElem? (i := 1) rfl) hd_Rk_word_11.2.2 rfl ⟨by decide, by decide⟩ 36 rfl rfl hP hD hS hl.1 (rest := []) rfl (Nat.le_of_ble_eq_true rfl) d_Ma_move_0_20 ⟨by decide, by decide⟩ (fun ov w' H locs hq hP hD hS => ?_)
      obtain ⟨rfl, rfl⟩ := hq
      have hP : va_P G.1 dm_cl (mw G g h z13.2.1 z13.2.2.1 z13.2.2.2) H := hP
      have hD : va_D A (mw G g h z13.2.1 z13.2.2.1 z13.2.2.2) := hD
      refine W.eq (g2 := F0 m 25 ls [.int z13.1]) rfl ?_
      exact K25 ls _ _ z13.1 z13.2.1 z13.2.2.1 z13.2.2.2 (lv_sub hl [0, 1, 2] rfl) hP hD hS hF
    rw [if_neg hk11] at hF
    by_cases hk12 : (w 0) = 12
    · rw [if_pos hk12] at hF
      refine W.eq (g2 := F0 m 20 ls [.int (v 8), .ref (g 52)]) (by rw [hk12]; rfl) ?_
      obtain ⟨z14, hcz14, hF⟩ := dm_bind hF
      refine dm_callFw B [.int (v 8)] (c_Rk_word_12 l G g h (v 8) v f w z14 hcz14) k_391 k_407 k_405 k_8 k_409 (List.mem_of_getElem? (i := 1) rfl) hd_Rk_word_12.2.2 rfl ⟨by decide, by decide⟩ 37 rfl rfl hP hD hS hl.1 (rest := []) rfl (Nat.le_of_ble_eq_true rfl) d_Ma_move_0_20 ⟨by decide, by decide⟩ (fun ov w' H locs hq hP hD hS => ?_)
      obtain ⟨rfl, rfl⟩ := hq
      have hP : va_P G.1 dm_cl (mw G g h z14.2.1 z14.2.2.1 z14.2.2.2) H := hP
      have hD : va_D A (mw G g h z14.2.1 z14.2.2.1 z14.2.2.2) := hD
      refine W.eq (g2 := F0 m 25 ls [.int z14.1]) rfl ?_
      exact K25 ls _ _ z14.1 z14.2.1 z14.2.2.1 z14.2.2.2 (lv_sub hl [0, 1, 2] rfl) hP hD hS hF
    rw [if_neg hk12] at hF
    by_cases hk13 : (w 0) = 13
    · rw [if_pos hk13] at hF
      refine W.eq (g2 := F0 m 20 ls [.int (v 8), .ref (g 53)]) (by rw [hk13]; rfl) ?_
      obtain ⟨z15, hcz15, hF⟩ := dm_bind hF
      refine dm_callFw B [.int (v 8)] (c_Rk_word_13 l G g h (v 8) v f w z15 hcz15) k_391 k_407 k_405 k_8 k_409 (List.mem_of_getElem? (i := 1) rfl) hd_Rk_word_13.2.2 rfl ⟨by decide, by decide⟩ 38 rfl rfl hP hD hS hl.1 (rest := []) rfl (Nat.le_of_ble_eq_true rfl) d_Ma_move_0_20 ⟨by decide, by decide⟩ (fun ov w' H locs hq hP hD hS => ?_)
      obtain ⟨rfl, rfl⟩ := hq
      have hP : va_P G.1 dm_cl (mw G g h z15.2.1 z15.2.2.1 z15.2.2.2) H := hP
      have hD : va_D A (mw G g h z15.2.1 z15.2.2.1 z15.2.2.2) := hD
      refine W.eq (g2 := F0 m 25 ls [.int z15.1]) rfl ?_
      exact K25 ls _ _ z15.1 z15.2.1 z15.2.2.1 z15.2.2.2 (lv_sub hl [0, 1, 2] rfl) hP hD hS hF
    rw [if_neg hk13] at hF
    by_cases hk14 : (w 0) = 14
    · rw [if_pos hk14] at hF
      refine W.eq (g2 := F0 m 20 ls [.int (v 8), .ref (g 54)]) (by rw [hk14]; rfl) ?_
      obtain ⟨z16, hcz16, hF⟩ := dm_bind hF
      refine dm_callFw B [.int (v 8)] (c_Rk_word_14 l G g h (v 8) v f w z16 hcz16) k_391 k_407 k_405 k_8 k_409 (List.mem_of_getElem? (i := 1) rfl) hd_Rk_word_14.2.2 rfl ⟨by decide, by decide⟩ 39 rfl rfl hP hD hS hl.1 (rest := []) rfl (Nat.le_of_ble_eq_true rfl) d_Ma_move_0_20 ⟨by decide, by decide⟩ (fun ov w' H locs hq hP hD hS => ?_)
      obtain ⟨rfl, rfl⟩ := hq
      have hP : va_P G.1 dm_cl (mw G g h z16.2.1 z16.2.2.1 z16.2.2.2) H := hP
      have hD : va_D A (mw G g h z16.2.1 z16.2.2.1 z16.2.2.2) := hD
      refine W.eq (g2 := F0 m 25 ls [.int z16.1]) rfl ?_
      exact K25 ls _ _ z16.1 z16.2.1 z16.2.2.1 z16.2.2.2 (lv_sub hl [0, 1, 2] rfl) hP hD hS hF
    rw [if_neg hk14] at hF
    by_cases hk15 : (w 0) = 15
    · rw [if_pos hk15] at hF
      refine W.eq (g2 := F0 m 20 ls [.int (v 8), .ref (g 55)]) (by rw [hk15]; rfl) ?_
      obtain ⟨z17, hcz17, hF⟩ := dm_bind hF
      refine dm_callFw B [.int (v 8)] (c_Rk_word_15 l G g h (v 8) v f w z17 hcz17) k_391 k_407 k_405 k_8 k_409 (List.mem_of_getElem? (i := 1) rfl) hd_Rk_word_15.2.2 rfl ⟨by decide, by decide⟩ 40 rfl rfl hP hD hS hl.1 (rest := []) rfl (Nat.le_of_ble_eq_true rfl) d_Ma_move_0_20 ⟨by decide, by decide⟩ (fun ov w' H locs hq hP hD hS => ?_)
      obtain ⟨rfl, rfl⟩ := hq
      have hP : va_P G.1 dm_cl (mw G g h z17.2.1 z17.2.2.1 z17.2.2.2) H := hP
      have hD : va_D A (mw G g h z17.2.1 z17.2.2.1 z17.2.2.2) := hD
      refine W.eq (g2 := F0 m 25 ls [.int z17.1]) rfl ?_
      exact K25 ls _ _ z17.1 z17.2.1 z17.2.2.1 z17.2.2.2 (lv_sub hl [0, 1, 2] rfl) hP hD hS hF
    rw [if_neg hk15] at hF
    cases hF
  · rw [if_pos hh] at hF
    have hF := Option.some.inj hF
    subst hF
    exact dm_retv B d_Ma_move_0_11 (by decide) (by decide) hP hD hS ⟨rfl, rfl⟩
abbrev b_Ma_move_1 : ByteArray := prog_6_method_7_code
abbrev y_Ma_move_1 : MethodName := { cls := "DelayMachine$Machine", name := "move", desc := "(LDelayMachine$Window;Z)V" }
theorem hd_Ma_move_1 : y_Ma_move_1.cls ≠ "java/lang/invoke/MethodHandle" ∧ y_Ma_move_1.cls ≠ "java/lang/invoke/VarHandle" ∧ (parseMethodDescriptor y_Ma_move_1.desc).map (fun d => d.parameters.length) = some 2 := by decide +kernel
abbrev rm_Ma_move_1 : Room := { frames := 3, cells := 0, slots := 0, locals := 66 }
def F_Ma_move_1_46 (x2 : Int32)   (l4 : Int32) (v : Nat → Int32) (f : Nat → Nat → Int32) (w : Nat → Nat) : Option ((Nat → Int32) × (Nat → Nat → Int32) × (Nat → Nat)) := (if x2 = (0 : Int32) then (if l4 = 0 ∨ l4 = 1 then (some ((va_up v 13 l4), f, w)) else none) else (some (v, f, w)))
def F_Ma_move_1_25 (x2 : Int32)   (s0 : Int32) (v : Nat → Int32) (f : Nat → Nat → Int32) (w : Nat → Nat) : Option ((Nat → Int32) × (Nat → Nat → Int32) × (Nat → Nat)) := (if (w 3) = 0 then (Option.bind (F_Do_take_0 (v 8) s0 v f w) (fun z1 => (F_Ma_move_1_46 x2 (v 13) z1.1 z1.2.1 z1.2.2))) else (if (w 3) = 1 then (Option.bind (F_Do_take_1 (v 8) s0 v f w) (fun z2 => (F_Ma_move_1_46 x2 (v 13) z2.1 z2.2.1 z2.2.2))) else (if (w 3) = 2 then (Option.bind (F_Pr_take_2 (v 8) s0 v f w) (fun z3 => (F_Ma_move_1_46 x2 (v 13) z3.1 z3.2.1 z3.2.2))) else (if (w 3) = 3 then (Option.bind (F_Pr_take_3 (v 8) s0 v f w) (fun z4 => (F_Ma_move_1_46 x2 (v 13) z4.1 z4.2.1 z4.2.2))) else (if (w 3) = 4 then (Option.bind (F_Pr_take_4 (v 8) s0 v f w) (fun z5 => (F_Ma_move_1_46 x2 (v 13) z5.1 z5.2.1 z5.2.2))) else (if (w 3) = 5 then (Option.bind (F_Pr_take_5 (v 8) s0 v f w) (fun z6 => (F_Ma_move_1_46 x2 (v 13) z6.1 z6.2.1 z6.2.2))) else (if (w 3) = 6 then (Option.bind (F_Pr_take_6 (v 8) s0 v f w) (fun z7 => (F_Ma_move_1_46 x2 (v 13) z7.1 z7.2.1 z7.2.2))) else (if (w 3) = 7 then (Option.bind (F_Pr_take_7 (v 8) s0 v f w) (fun z8 => (F_Ma_move_1_46 x2 (v 13) z8.1 z8.2.1 z8.2.2))) else (if (w 3) = 8 then (Option.bind (F_Pr_take_8 (v 8) s0 v f w) (fun z9 => (F_Ma_move_1_46 x2 (v 13) z9.1 z9.2.1 z9.2.2))) else (if (w 3) = 9 then (Option.bind (F_Do_take_9 (v 8) s0 v f w) (fun z10 => (F_Ma_move_1_46 x2 (v 13) z10.1 z10.2.1 z10.2.2))) else (if (w 3) = 10 then (Option.bind (F_Do_take_10 (v 8) s0 v f w) (fun z11 => (F_Ma_move_1_46 x2 (v 13) z11.1 z11.2.1 z11.2.2))) else (if (w 3) = 11 then (Option.bind (F_Do_take_11 (v 8) s0 v f w) (fun z12 => (F_Ma_move_1_46 x2 (v 13) z12.1 z12.2.1 z12.2.2))) else (if (w 3) = 12 then (Option.bind (F_Do_take_12 (v 8) s0 v f w) (fun z13 => (F_Ma_move_1_46 x2 (v 13) z13.1 z13.2.1 z13.2.2))) else (if (w 3) = 13 then (Option.bind (F_Do_take_13 (v 8) s0 v f w) (fun z14 => (F_Ma_move_1_46 x2 (v 13) z14.1 z14.2.1 z14.2.2))) else (if (w 3) = 14 then (Option.bind (F_Do_take_14 (v 8) s0 v f w) (fun z15 => (F_Ma_move_1_46 x2 (v 13) z15.1 z15.2.1 z15.2.2))) else (if (w 3) = 15 then (Option.bind (F_Do_take_15 (v 8) s0 v f w) (fun z16 => (F_Ma_move_1_46 x2 (v 13) z16.1 z16.2.1 z16.2.2))) else none))))))))))))))))
def F_Ma_move_1 (x2 : Int32)  (v : Nat → Int32) (f : Nat → Nat → Int32) (w : Nat → Nat) : Option ((Nat → Int32) × (Nat → Nat → Int32) × (Nat → Nat)) := (Option.bind (F_Wi_open_1 (v 8) v f w) (fun z1 => (if z1 = (0 : Int32) then (some (v, f, w)) else (if (w 2) = 0 then (Option.bind (F_Rk_word_0 (v 8) v f w) (fun z2 => (F_Ma_move_1_25 x2 z2.1 z2.2.1 z2.2.2.1 z2.2.2.2))) else (if (w 2) = 1 then (Option.bind (F_Rk_word_1 (v 8) v f w) (fun z3 => (F_Ma_move_1_25 x2 z3.1 z3.2.1 z3.2.2.1 z3.2.2.2))) else (if (w 2) = 2 then (Option.bind (F_Pr_word_2 (v 8) v f w) (fun z4 => (F_Ma_move_1_25 x2 z4 v f w))) else (if (w 2) = 3 then (Option.bind (F_Pr_word_3 (v 8) v f w) (fun z5 => (F_Ma_move_1_25 x2 z5 v f w))) else (if (w 2) = 4 then (Option.bind (F_Pr_word_4 (v 8) v f w) (fun z6 => (F_Ma_move_1_25 x2 z6 v f w))) else (if (w 2) = 5 then (Option.bind (F_Pr_word_5 (v 8) v f w) (fun z7 => (F_Ma_move_1_25 x2 z7 v f w))) else (if (w 2) = 6 then (Option.bind (F_Pr_word_6 (v 8) v f w) (fun z8 => (F_Ma_move_1_25 x2 z8 v f w))) else (if (w 2) = 7 then (Option.bind (F_Pr_word_7 (v 8) v f w) (fun z9 => (F_Ma_move_1_25 x2 z9 v f w))) else (if (w 2) = 8 then (Option.bind (F_Pr_word_8 (v 8) v f w) (fun z10 => (F_Ma_move_1_25 x2 z10 v f w))) else (if (w 2) = 9 then (Option.bind (F_Rk_word_9 (v 8) v f w) (fun z11 => (F_Ma_move_1_25 x2 z11.1 z11.2.1 z11.2.2.1 z11.2.2.2))) else (if (w 2) = 10 then (Option.bind (F_Rk_word_10 (v 8) v f w) (fun z12 => (F_Ma_move_1_25 x2 z12.1 z12.2.1 z12.2.2.1 z12.2.2.2))) else (if (w 2) = 11 then (Option.bind (F_Rk_word_11 (v 8) v f w) (fun z13 => (F_Ma_move_1_25 x2 z13.1 z13.2.1 z13.2.2.1 z13.2.2.2))) else (if (w 2) = 12 then (Option.bind (F_Rk_word_12 (v 8) v f w) (fun z14 => (F_Ma_move_1_25 x2 z14.1 z14.2.1 z14.2.2.1 z14.2.2.2))) else (if (w 2) = 13 then (Option.bind (F_Rk_word_13 (v 8) v f w) (fun z15 => (F_Ma_move_1_25 x2 z15.1 z15.2.1 z15.2.2.1 z15.2.2.2))) else (if (w 2) = 14 then (Option.bind (F_Rk_word_14 (v 8) v f w) (fun z16 => (F_Ma_move_1_25 x2 z16.1 z16.2.1 z16.2.2.1 z16.2.2.2))) else (if (w 2) = 15 then (Option.bind (F_Rk_word_15 (v 8) v f w) (fun z17 => (F_Ma_move_1_25 x2 z17.1 z17.2.1 z17.2.2.1 z17.2.2.2))) else none)))))))))))))))))))
set_option maxHeartbeats 4000000 in
set_option maxRecDepth 100000 in
theorem c_Ma_move_1 (l : Launch) (G : dm_G) (g h : Nat → Nat) (x2 : Int32) (v : Nat → Int32) (f : Nat → Nat → Int32) (w : Nat → Nat) (RES : (Nat → Int32) × (Nat → Nat → Int32) × (Nat → Nat)) (hF : F_Ma_move_1 x2 v f w = some RES) : dm_Ct l y_Ma_move_1 b_Ma_move_1 5 none rm_Ma_move_1 G (mw G g h v f w) [.ref (g 0), .ref (h 1), .int x2] (fun ov w' => ov = none ∧ w' = (mw G g h RES.1 RES.2.1 RES.2.2)) := by
  refine dm_Ct.of (by decide +kernel) (Nat.le_of_ble_eq_true rfl) ?_
  intro p e s m below meth c A ls B hl hP hD hS
  have hx := B.1
  have hb := B.2.1
  have hl : lv_has ls 5 [(0, .ref (g 0)), (1, .ref (h 1)), (2, .int x2)] := hl
  have K46 : ∀ (ls : Array Slot) (H : Heap) (locs : List Loc) (l4 : Int32) (v : Nat → Int32) (f : Nat → Nat → Int32) (w : Nat → Nat), lv_has ls 5 [(0, .ref (g 0)), (2, .int x2), (4, .int l4)] → va_P G.1 dm_cl (mw G g h v f w) H → va_D A (mw G g h v f w) → va_S A s.heap H locs → F_Ma_move_1_46 x2 l4 v f w = some RES → W p l e rm_Ma_move_1 s m ([.ref (g 0), .ref (h 1), .int x2] : List Value).toArray below meth c H locs 0 0 (dm_Z below G s ([.ref (g 0), .ref (h 1), .int x2] : List Value).toArray A rm_Ma_move_1.cells rm_Ma_move_1.slots (fun ov w' => ov = none ∧ w' = (mw G g h RES.1 RES.2.1 RES.2.2))) (F0 m 46 ls []) := by
    intro ls H locs l4 v f w hl hP hD hS hF
    have hF : (if x2 = (0 : Int32) then (if l4 = 0 ∨ l4 = 1 then (some ((va_up v 13 l4), f, w)) else none) else (some (v, f, w))) = some RES := hF
    refine lv_iload_n hx hb d_Ma_move_0_46 rfl (lv_at hl 1 rfl) ?_
    refine lv_if_ne (tgt := 56) hx hb d_Ma_move_0_47 (by decide) (fun (hh : ¬ x2 = (0 : Int32)) => ?_) (fun (hh : x2 = (0 : Int32)) => ?_)
    · rw [if_neg hh] at hF
      have hF := Option.some.inj hF
      subst hF
      exact dm_retv B d_Ma_move_0_56 (by decide) (by decide) hP hD hS ⟨rfl, rfl⟩
    · rw [if_pos hh] at hF
      refine lv_aload_n hx hb d_Ma_move_0_50 rfl (lv_at hl 0 rfl) ?_
      refine lv_iload hx hb d_Ma_move_0_51 (lv_at hl 2 rfl) ?_
      obtain ⟨hz, hF⟩ := dm_ck1 hF
      refine mw_p_0_13 (x := l4) B hP hD hS hz k_140 d_Ma_move_0_53 (fun H locs hP hD hS => ?_)
      have hF := Option.some.inj hF
      subst hF
      exact dm_retv B d_Ma_move_0_56 (by decide) (by decide) hP hD hS ⟨rfl, rfl⟩
  have K25 : ∀ (ls : Array Slot) (H : Heap) (locs : List Loc) (s0 : Int32) (v : Nat → Int32) (f : Nat → Nat → Int32) (w : Nat → Nat), lv_has ls 5 [(0, .ref (g 0)), (1, .ref (h 1)), (2, .int x2)] → va_P G.1 dm_cl (mw G g h v f w) H → va_D A (mw G g h v f w) → va_S A s.heap H locs → F_Ma_move_1_25 x2 s0 v f w = some RES → W p l e rm_Ma_move_1 s m ([.ref (g 0), .ref (h 1), .int x2] : List Value).toArray below meth c H locs 0 0 (dm_Z below G s ([.ref (g 0), .ref (h 1), .int x2] : List Value).toArray A rm_Ma_move_1.cells rm_Ma_move_1.slots (fun ov w' => ov = none ∧ w' = (mw G g h RES.1 RES.2.1 RES.2.2))) (F0 m 25 ls [.int s0]) := by
    intro ls H locs s0 v f w hl hP hD hS hF
    have hF : (if (w 3) = 0 then (Option.bind (F_Do_take_0 (v 8) s0 v f w) (fun z1 => (F_Ma_move_1_46 x2 (v 13) z1.1 z1.2.1 z1.2.2))) else (if (w 3) = 1 then (Option.bind (F_Do_take_1 (v 8) s0 v f w) (fun z2 => (F_Ma_move_1_46 x2 (v 13) z2.1 z2.2.1 z2.2.2))) else (if (w 3) = 2 then (Option.bind (F_Pr_take_2 (v 8) s0 v f w) (fun z3 => (F_Ma_move_1_46 x2 (v 13) z3.1 z3.2.1 z3.2.2))) else (if (w 3) = 3 then (Option.bind (F_Pr_take_3 (v 8) s0 v f w) (fun z4 => (F_Ma_move_1_46 x2 (v 13) z4.1 z4.2.1 z4.2.2))) else (if (w 3) = 4 then (Option.bind (F_Pr_take_4 (v 8) s0 v f w) (fun z5 => (F_Ma_move_1_46 x2 (v 13) z5.1 z5.2.1 z5.2.2))) else (if (w 3) = 5 then (Option.bind (F_Pr_take_5 (v 8) s0 v f w) (fun z6 => (F_Ma_move_1_46 x2 (v 13) z6.1 z6.2.1 z6.2.2))) else (if (w 3) = 6 then (Option.bind (F_Pr_take_6 (v 8) s0 v f w) (fun z7 => (F_Ma_move_1_46 x2 (v 13) z7.1 z7.2.1 z7.2.2))) else (if (w 3) = 7 then (Option.bind (F_Pr_take_7 (v 8) s0 v f w) (fun z8 => (F_Ma_move_1_46 x2 (v 13) z8.1 z8.2.1 z8.2.2))) else (if (w 3) = 8 then (Option.bind (F_Pr_take_8 (v 8) s0 v f w) (fun z9 => (F_Ma_move_1_46 x2 (v 13) z9.1 z9.2.1 z9.2.2))) else (if (w 3) = 9 then (Option.bind (F_Do_take_9 (v 8) s0 v f w) (fun z10 => (F_Ma_move_1_46 x2 (v 13) z10.1 z10.2.1 z10.2.2))) else (if (w 3) = 10 then (Option.bind (F_Do_take_10 (v 8) s0 v f w) (fun z11 => (F_Ma_move_1_46 x2 (v 13) z11.1 z11.2.1 z11.2.2))) else (if (w 3) = 11 then (Option.bind (F_Do_take_11 (v 8) s0 v f w) (fun z12 => (F_Ma_move_1_46 x2 (v 13) z12.1 z12.2.1 z12.2.2))) else (if (w 3) = 12 then (Option.bind (F_Do_take_12 (v 8) s0 v f w) (fun z13 => (F_Ma_move_1_46 x2 (v 13) z13.1 z13.2.1 z13.2.2))) else (if (w 3) = 13 then (Option.bind (F_Do_take_13 (v 8) s0 v f w) (fun z14 => (F_Ma_move_1_46 x2 (v 13) z14.1 z14.2.1 z14.2.2))) else (if (w 3) = 14 then (Option.bind (F_Do_take_14 (v 8) s0 v f w) (fun z15 => (F_Ma_move_1_46 x2 (v 13) z15.1 z15.2.1 z15.2.2))) else (if (w 3) = 15 then (Option.bind (F_Do_take_15 (v 8) s0 v f w) (fun z16 => (F_Ma_move_1_46 x2 (v 13) z16.1 z16.2.1 z16.2.2))) else none)))))))))))))))) = some RES := hF
    refine lv_istore_n (lv' := [(3, .int s0), (0, .ref (g 0)), (1, .ref (h 1)), (2, .int x2)]) hx hb d_Ma_move_0_25 rfl hl (Nat.le_of_ble_eq_true rfl) rfl (fun ls hl => ?_)
    have hl : lv_has ls 5 [(0, .ref (g 0)), (1, .ref (h 1)), (2, .int x2), (3, .int s0)] := lv_sub hl [1, 2, 3, 0] rfl
    refine lv_aload_n hx hb d_Ma_move_0_26 rfl (lv_at hl 0 rfl) ?_
    refine mw_g_0_13 (x := (v 13)) B hP rfl k_140 d_Ma_move_0_27 ?_
    refine lv_istore (lv' := [(4, .int (v 13)), (0, .ref (g 0)), (1, .ref (h 1)), (2, .int x2), (3, .int s0)]) hx hb d_Ma_move_0_30 hl (Nat.le_of_ble_eq_true rfl) rfl (fun ls hl => ?_)
    have hl : lv_has ls 5 [(0, .ref (g 0)), (1, .ref (h 1)), (2, .int x2), (3, .int s0), (4, .int (v 13))] := lv_sub hl [1, 2, 3, 4, 0] rfl
    refine lv_aload_n hx hb d_Ma_move_0_32 rfl (lv_at hl 1 rfl) ?_
    refine mw_gn_10_3 B hP k_103 d_Ma_move_0_33 ?_
    refine lv_aload_n hx hb d_Ma_move_0_36 rfl (lv_at hl 0 rfl) ?_
    refine mw_g_0_8 (x := (v 8)) B hP rfl k_130 d_Ma_move_0_37 ?_
    refine lv_iload_n hx hb d_Ma_move_0_40 rfl (lv_at hl 3 rfl) ?_
    by_cases hk0 : (w 3) = 0
    · rw [if_pos hk0] at hF
      refine W.eq (g2 := F0 m 41 ls [.int s0, .int (v 8), .ref (g 60)]) (by rw [hk0]; rfl) ?_
      obtain ⟨z1, hcz1, hF⟩ := dm_bind hF
      refine dm_callFw B [.int (v 8), .int s0] (c_Do_take_0 l G g h (v 8) s0 v f w z1 hcz1) k_420 k_426 k_424 k_9 k_428 (List.mem_of_getElem? (i := 3) rfl) hd_Do_take_0.2.2 rfl ⟨by decide, by decide⟩ 41 rfl rfl hP hD hS hl.1 (rest := []) rfl (Nat.le_of_ble_eq_true rfl) d_Ma_move_0_41 ⟨by decide, by decide⟩ (fun ov w' H locs hq hP hD hS => ?_)
      obtain ⟨rfl, rfl⟩ := hq
      have hP : va_P G.1 dm_cl (mw G g h z1.1 z1.2.1 z1.2.2) H := hP
      have hD : va_D A (mw G g h z1.1 z1.2.1 z1.2.2) := hD
      refine W.eq (g2 := F0 m 46 ls []) rfl ?_
      exact K46 ls _ _ (v 13) z1.1 z1.2.1 z1.2.2 (lv_sub hl [0, 2, 4] rfl) hP hD hS hF
    rw [if_neg hk0] at hF
    by_cases hk1 : (w 3) = 1
    · rw [if_pos hk1] at hF
      refine W.eq (g2 := F0 m 41 ls [.int s0, .int (v 8), .ref (g 61)]) (by rw [hk1]; rfl) ?_
      obtain ⟨z2, hcz2, hF⟩ := dm_bind hF
      refine dm_callFw B [.int (v 8), .int s0] (c_Do_take_1 l G g h (v 8) s0 v f w z2 hcz2) k_420 k_426 k_424 k_9 k_428 (List.mem_of_getElem? (i := 3) rfl) hd_Do_take_1.2.2 rfl ⟨by decide, by decide⟩ 42 rfl rfl hP hD hS hl.1 (rest := []) rfl (Nat.le_of_ble_eq_true rfl) d_Ma_move_0_41 ⟨by decide, by decide⟩ (fun ov w' H locs hq hP hD hS => ?_)
      obtain ⟨rfl, rfl⟩ := hq
      have hP : va_P G.1 dm_cl (mw G g h z2.1 z2.2.1 z2.2.2) H := hP
      have hD : va_D A (mw G g h z2.1 z2.2.1 z2.2.2) := hD
      refine W.eq (g2 := F0 m 46 ls []) rfl ?_
      exact K46 ls _ _ (v 13) z2.1 z2.2.1 z2.2.2 (lv_sub hl [0, 2, 4] rfl) hP hD hS hF
    rw [if_neg hk1] at hF
    by_cases hk2 : (w 3) = 2
    · rw [if_pos hk2] at hF
      refine W.eq (g2 := F0 m 41 ls [.int s0, .int (v 8), .ref (g 32)]) (by rw [hk2]; rfl) ?_
      obtain ⟨z3, hcz3, hF⟩ := dm_bind hF
      refine dm_callFw B [.int (v 8), .int s0] (c_Pr_take_2 l G g h (v 8) s0 v f w z3 hcz3) k_420 k_459 k_457 k_7 k_461 (List.mem_of_getElem? (i := 2) rfl) hd_Pr_take_2.2.2 rfl ⟨by decide, by decide⟩ 25 rfl rfl hP hD hS hl.1 (rest := []) rfl (Nat.le_of_ble_eq_true rfl) d_Ma_move_0_41 ⟨by decide, by decide⟩ (fun ov w' H locs hq hP hD hS => ?_)
      obtain ⟨rfl, rfl⟩ := hq
      have hP : va_P G.1 dm_cl (mw G g h z3.1 z3.2.1 z3.2.2) H := hP
      have hD : va_D A (mw G g h z3.1 z3.2.1 z3.2.2) := hD
      refine W.eq (g2 := F0 m 46 ls []) rfl ?_
      exact K46 ls _ _ (v 13) z3.1 z3.2.1 z3.2.2 (lv_sub hl [0, 2, 4] rfl) hP hD hS hF
    rw [if_neg hk2] at hF
    by_cases hk3 : (w 3) = 3
    · rw [if_pos hk3] at hF
      refine W.eq (g2 := F0 m 41 ls [.int s0, .int (v 8), .ref (g 33)]) (by rw [hk3]; rfl) ?_
      obtain ⟨z4, hcz4, hF⟩ := dm_bind hF
      refine dm_callFw B [.int (v 8), .int s0] (c_Pr_take_3 l G g h (v 8) s0 v f w z4 hcz4) k_420 k_459 k_457 k_7 k_461 (List.mem_of_getElem? (i := 2) rfl) hd_Pr_take_3.2.2 rfl ⟨by decide, by decide⟩ 26 rfl rfl hP hD hS hl.1 (rest := []) rfl (Nat.le_of_ble_eq_true rfl) d_Ma_move_0_41 ⟨by decide, by decide⟩ (fun ov w' H locs hq hP hD hS => ?_)
      obtain ⟨rfl, rfl⟩ := hq
      have hP : va_P G.1 dm_cl (mw G g h z4.1 z4.2.1 z4.2.2) H := hP
      have hD : va_D A (mw G g h z4.1 z4.2.1 z4.2.2) := hD
      refine W.eq (g2 := F0 m 46 ls []) rfl ?_
      exact K46 ls _ _ (v 13) z4.1 z4.2.1 z4.2.2 (lv_sub hl [0, 2, 4] rfl) hP hD hS hF
    rw [if_neg hk3] at hF
    by_cases hk4 : (w 3) = 4
    · rw [if_pos hk4] at hF
      refine W.eq (g2 := F0 m 41 ls [.int s0, .int (v 8), .ref (g 34)]) (by rw [hk4]; rfl) ?_
      obtain ⟨z5, hcz5, hF⟩ := dm_bind hF
      refine dm_callFw B [.int (v 8), .int s0] (c_Pr_take_4 l G g h (v 8) s0 v f w z5 hcz5) k_420 k_459 k_457 k_7 k_461 (List.mem_of_getElem? (i := 2) rfl) hd_Pr_take_4.2.2 rfl ⟨by decide, by decide⟩ 27 rfl rfl hP hD hS hl.1 (rest := []) rfl (Nat.le_of_ble_eq_true rfl) d_Ma_move_0_41 ⟨by decide, by decide⟩ (fun ov w' H locs hq hP hD hS => ?_)
      obtain ⟨rfl, rfl⟩ := hq
      have hP : va_P G.1 dm_cl (mw G g h z5.1 z5.2.1 z5.2.2) H := hP
      have hD : va_D A (mw G g h z5.1 z5.2.1 z5.2.2) := hD
      refine W.eq (g2 := F0 m 46 ls []) rfl ?_
      exact K46 ls _ _ (v 13) z5.1 z5.2.1 z5.2.2 (lv_sub hl [0, 2, 4] rfl) hP hD hS hF
    rw [if_neg hk4] at hF
    by_cases hk5 : (w 3) = 5
    · rw [if_pos hk5] at hF
      refine W.eq (g2 := F0 m 41 ls [.int s0, .int (v 8), .ref (g 35)]) (by rw [hk5]; rfl) ?_
      obtain ⟨z6, hcz6, hF⟩ := dm_bind hF
      refine dm_callFw B [.int (v 8), .int s0] (c_Pr_take_5 l G g h (v 8) s0 v f w z6 hcz6) k_420 k_459 k_457 k_7 k_461 (List.mem_of_getElem? (i := 2) rfl) hd_Pr_take_5.2.2 rfl ⟨by decide, by decide⟩ 28 rfl rfl hP hD hS hl.1 (rest := []) rfl (Nat.le_of_ble_eq_true rfl) d_Ma_move_0_41 ⟨by decide, by decide⟩ (fun ov w' H locs hq hP hD hS => ?_)
      obtain ⟨rfl, rfl⟩ := hq
      have hP : va_P G.1 dm_cl (mw G g h z6.1 z6.2.1 z6.2.2) H := hP
      have hD : va_D A (mw G g h z6.1 z6.2.1 z6.2.2) := hD
      refine W.eq (g2 := F0 m 46 ls []) rfl ?_
      exact K46 ls _ _ (v 13) z6.1 z6.2.1 z6.2.2 (lv_sub hl [0, 2, 4] rfl) hP hD hS hF
    rw [if_neg hk5] at hF
    by_cases hk6 : (w 3) = 6
    · rw [if_pos hk6] at hF
      refine W.eq (g2 := F0 m 41 ls [.int s0, .int (v 8), .ref (g 36)]) (by rw [hk6]; rfl) ?_
      obtain ⟨z7, hcz7, hF⟩ := dm_bind hF
      refine dm_callFw B [.int (v 8), .int s0] (c_Pr_take_6 l G g h (v 8) s0 v f w z7 hcz7) k_420 k_459 k_457 k_7 k_461 (List.mem_of_getElem? (i := 2) rfl) hd_Pr_take_6.2.2 rfl ⟨by decide, by decide⟩ 29 rfl rfl hP hD hS hl.1 (rest := []) rfl (Nat.le_of_ble_eq_true rfl) d_Ma_move_0_41 ⟨by decide, by decide⟩ (fun ov w' H locs hq hP hD hS => ?_)
      obtain ⟨rfl, rfl⟩ := hq
      have hP : va_P G.1 dm_cl (mw G g h z7.1 z7.2.1 z7.2.2) H := hP
      have hD : va_D A (mw G g h z7.1 z7.2.1 z7.2.2) := hD
      refine W.eq (g2 := F0 m 46 ls []) rfl ?_
      exact K46 ls _ _ (v 13) z7.1 z7.2.1 z7.2.2 (lv_sub hl [0, 2, 4] rfl) hP hD hS hF
    rw [if_neg hk6] at hF
    by_cases hk7 : (w 3) = 7
    · rw [if_pos hk7] at hF
      refine W.eq (g2 := F0 m 41 ls [.int s0, .int (v 8), .ref (g 37)]) (by rw [hk7]; rfl) ?_
      obtain ⟨z8, hcz8, hF⟩ := dm_bind hF
      refine dm_callFw B [.int (v 8), .int s0] (c_Pr_take_7 l G g h (v 8) s0 v f w z8 hcz8) k_420 k_459 k_457 k_7 k_461 (List.mem_of_getElem? (i := 2) rfl) hd_Pr_take_7.2.2 rfl ⟨by decide, by decide⟩ 30 rfl rfl hP hD hS hl.1 (rest := []) rfl (Nat.le_of_ble_eq_true rfl) d_Ma_move_0_41 ⟨by decide, by decide⟩ (fun ov w' H locs hq hP hD hS => ?_)
      obtain ⟨rfl, rfl⟩ := hq
      have hP : va_P G.1 dm_cl (mw G g h z8.1 z8.2.1 z8.2.2) H := hP
      have hD : va_D A (mw G g h z8.1 z8.2.1 z8.2.2) := hD
      refine W.eq (g2 := F0 m 46 ls []) rfl ?_
      exact K46 ls _ _ (v 13) z8.1 z8.2.1 z8.2.2 (lv_sub hl [0, 2, 4] rfl) hP hD hS hF
    rw [if_neg hk7] at hF
    by_cases hk8 : (w 3) = 8
    · rw [if_pos hk8] at hF
      refine W.eq (g2 := F0 m 41 ls [.int s0, .int (v 8), .ref (g 38)]) (by rw [hk8]; rfl) ?_
      obtain ⟨z9, hcz9, hF⟩ := dm_bind hF
      refine dm_callFw B [.int (v 8), .int s0] (c_Pr_take_8 l G g h (v 8) s0 v f w z9 hcz9) k_420 k_459 k_457 k_7 k_461 (List.mem_of_getElem? (i := 2) rfl) hd_Pr_take_8.2.2 rfl ⟨by decide, by decide⟩ 31 rfl rfl hP hD hS hl.1 (rest := []) rfl (Nat.le_of_ble_eq_true rfl) d_Ma_move_0_41 ⟨by decide, by decide⟩ (fun ov w' H locs hq hP hD hS => ?_)
      obtain ⟨rfl, rfl⟩ := hq
      have hP : va_P G.1 dm_cl (mw G g h z9.1 z9.2.1 z9.2.2) H := hP
      have hD : va_D A (mw G g h z9.1 z9.2.1 z9.2.2) := hD
      refine W.eq (g2 := F0 m 46 ls []) rfl ?_
      exact K46 ls _ _ (v 13) z9.1 z9.2.1 z9.2.2 (lv_sub hl [0, 2, 4] rfl) hP hD hS hF
    rw [if_neg hk8] at hF
    by_cases hk9 : (w 3) = 9
    · rw [if_pos hk9] at hF
      refine W.eq (g2 := F0 m 41 ls [.int s0, .int (v 8), .ref (g 69)]) (by rw [hk9]; rfl) ?_
      obtain ⟨z10, hcz10, hF⟩ := dm_bind hF
      refine dm_callFw B [.int (v 8), .int s0] (c_Do_take_9 l G g h (v 8) s0 v f w z10 hcz10) k_420 k_426 k_424 k_9 k_428 (List.mem_of_getElem? (i := 3) rfl) hd_Do_take_9.2.2 rfl ⟨by decide, by decide⟩ 43 rfl rfl hP hD hS hl.1 (rest := []) rfl (Nat.le_of_ble_eq_true rfl) d_Ma_move_0_41 ⟨by decide, by decide⟩ (fun ov w' H locs hq hP hD hS => ?_)
      obtain ⟨rfl, rfl⟩ := hq
      have hP : va_P G.1 dm_cl (mw G g h z10.1 z10.2.1 z10.2.2) H := hP
      have hD : va_D A (mw G g h z10.1 z10.2.1 z10.2.2) := hD
      refine W.eq (g2 := F0 m 46 ls []) rfl ?_
      exact K46 ls _ _ (v 13) z10.1 z10.2.1 z10.2.2 (lv_sub hl [0, 2, 4] rfl) hP hD hS hF
    rw [if_neg hk9] at hF
    by_cases hk10 : (w 3) = 10
    · rw [if_pos hk10] at hF
      refine W.eq (g2 := F0 m 41 ls [.int s0, .int (v 8), .ref (g 70)]) (by rw [hk10]; rfl) ?_
      obtain ⟨z11, hcz11, hF⟩ := dm_bind hF
      refine dm_callFw B [.int (v 8), .int s0] (c_Do_take_10 l G g h (v 8) s0 v f w z11 hcz11) k_420 k_426 k_424 k_9 k_428 (List.mem_of_getElem? (i := 3) rfl) hd_Do_take_10.2.2 rfl ⟨by decide, by decide⟩ 44 rfl rfl hP hD hS hl.1 (rest := []) rfl (Nat.le_of_ble_eq_true rfl) d_Ma_move_0_41 ⟨by decide, by decide⟩ (fun ov w' H locs hq hP hD hS => ?_)
      obtain ⟨rfl, rfl⟩ := hq
      have hP : va_P G.1 dm_cl (mw G g h z11.1 z11.2.1 z11.2.2) H := hP
      have hD : va_D A (mw G g h z11.1 z11.2.1 z11.2.2) := hD
      refine W.eq (g2 := F0 m 46 ls []) rfl ?_
      exact K46 ls _ _ (v 13) z11.1 z11.2.1 z11.2.2 (lv_sub hl [0, 2, 4] rfl) hP hD hS hF
    rw [if_neg hk10] at hF
    by_cases hk11 : (w 3) = 11
    · rw [if_pos hk11] at hF
      refine W.eq (g2 := F0 m 41 ls [.int s0, .int (v 8), .ref (g 71)]) (by rw [hk11]; rfl) ?_
      obtain ⟨z12, hcz12, hF⟩ := dm_bind hF
      refine dm_callFw B [.int (v 8), .int s0] (c_Do_take_11 l G g h (v 8) s0 v f w z12 hcz12) k_420 k_426 k_424 k_9 k_428 (List.mem_of_getElem? (i := 3) rfl) hd_Do_take_11.2.2 rfl ⟨by decide, by decide⟩ 45 rfl rfl hP hD hS hl.1 (rest := []) rfl (Nat.le_of_ble_eq_true rfl) d_Ma_move_0_41 ⟨by decide, by decide⟩ (fun ov w' H locs hq hP hD hS => ?_)
      obtain ⟨rfl, rfl⟩ := hq
      have hP : va_P G.1 dm_cl (mw G g h z12.1 z12.2.1 z12.2.2) H := hP
      have hD : va_D A (mw G g h z12.1 z12.2.1 z12.2.2) := hD
      refine W.eq (g2 := F0 m 46 ls []) rfl ?_
      exact K46 ls _ _ (v 13) z12.1 z12.2.1 z12.2.2 (lv_sub hl [0, 2, 4] rfl) hP hD hS hF
    rw [if_neg hk11] at hF
    by_cases hk12 : (w 3) = 12
    · rw [if_pos hk12] at hF
      refine W.eq (g2 := F0 m 41 ls [.int s0, .int (v 8), .ref (g 72)]) (by rw [hk12]; rfl) ?_
      obtain ⟨z13, hcz13, hF⟩ := dm_bind hF
      refine dm_callFw B [.int (v 8), .int s0] (c_Do_take_12 l G g h (v 8) s0 v f w z13 hcz13) k_420 k_426 k_424 k_9 k_428 (List.mem_of_getElem? (i := 3) rfl) hd_Do_take_12.2.2 rfl ⟨by decide, by decide⟩ 46 rfl rfl hP hD hS hl.1 (rest := []) rfl (Nat.le_of_ble_eq_true rfl) d_Ma_move_0_41 ⟨by decide, by decide⟩ (fun ov w' H locs hq hP hD hS => ?_)
      obtain ⟨rfl, rfl⟩ := hq
      have hP : va_P G.1 dm_cl (mw G g h z13.1 z13.2.1 z13.2.2) H := hP
      have hD : va_D A (mw G g h z13.1 z13.2.1 z13.2.2) := hD
      refine W.eq (g2 := F0 m 46 ls []) rfl ?_
      exact K46 ls _ _ (v 13) z13.1 z13.2.1 z13.2.2 (lv_sub hl [0, 2, 4] rfl) hP hD hS hF
    rw [if_neg hk12] at hF
    by_cases hk13 : (w 3) = 13
    · rw [if_pos hk13] at hF
      refine W.eq (g2 := F0 m 41 ls [.int s0, .int (v 8), .ref (g 73)]) (by rw [hk13]; rfl) ?_
      obtain ⟨z14, hcz14, hF⟩ := dm_bind hF
      refine dm_callFw B [.int (v 8), .int s0] (c_Do_take_13 l G g h (v 8) s0 v f w z14 hcz14) k_420 k_426 k_424 k_9 k_428 (List.mem_of_getElem? (i := 3) rfl) hd_Do_take_13.2.2 rfl ⟨by decide, by decide⟩ 47 rfl rfl hP hD hS hl.1 (rest := []) rfl (Nat.le_of_ble_eq_true rfl) d_Ma_move_0_41 ⟨by decide, by decide⟩ (fun ov w' H locs hq hP hD hS => ?_)
      obtain ⟨rfl, rfl⟩ := hq
      have hP : va_P G.1 dm_cl (mw G g h z14.1 z14.2.1 z14.2.2) H := hP
      have hD : va_D A (mw G g h z14.1 z14.2.1 z14.2.2) := hD
      refine W.eq (g2 := F0 m 46 ls []) rfl ?_
      exact K46 ls _ _ (v 13) z14.1 z14.2.1 z14.2.2 (lv_sub hl [0, 2, 4] rfl) hP hD hS hF
    rw [if_neg hk13] at hF
    by_cases hk14 : (w 3) = 14
    · rw [if_pos hk14] at hF
      refine W.eq (g2 := F0 m 41 ls [.int s0, .int (v 8), .ref (g 74)]) (by rw [hk14]; rfl) ?_
      obtain ⟨z15, hcz15, hF⟩ := dm_bind hF
      refine dm_callFw B [.int (v 8), .int s0] (c_Do_take_14 l G g h (v 8) s0 v f w z15 hcz15) k_420 k_426 k_424 k_9 k_428 (List.mem_of_getElem? (i := 3) rfl) hd_Do_take_14.2.2 rfl ⟨by decide, by decide⟩ 48 rfl rfl hP hD hS hl.1 (rest := []) rfl (Nat.le_of_ble_eq_true rfl) d_Ma_move_0_41 ⟨by decide, by decide⟩ (fun ov w' H locs hq hP hD hS => ?_)
      obtain ⟨rfl, rfl⟩ := hq
      have hP : va_P G.1 dm_cl (mw G g h z15.1 z15.2.1 z15.2.2) H := hP
      have hD : va_D A (mw G g h z15.1 z15.2.1 z15.2.2) := hD
      refine W.eq (g2 := F0 m 46 ls []) rfl ?_
      exact K46 ls _ _ (v 13) z15.1 z15.2.1 z15.2.2 (lv_sub hl [0, 2, 4] rfl) hP hD hS hF
    rw [if_neg hk14] at hF
    by_cases hk15 : (w 3) = 15
    · rw [if_pos hk15] at hF
      refine W.eq (g2 := F0 m 41 ls [.int s0, .int (v 8), .ref (g 75)]) (by rw [hk15]; rfl) ?_
      obtain ⟨z16, hcz16, hF⟩ := dm_bind hF
      refine dm_callFw B [.int (v 8), .int s0] (c_Do_take_15 l G g h (v 8) s0 v f w z16 hcz16) k_420 k_426 k_424 k_9 k_428 (List.mem_of_getElem? (i := 3) rfl) hd_Do_take_15.2.2 rfl ⟨by decide, by decide⟩ 49 rfl rfl hP hD hS hl.1 (rest := []) rfl (Nat.le_of_ble_eq_true rfl) d_Ma_move_0_41 ⟨by decide, by decide⟩ (fun ov w' H locs hq hP hD hS => ?_)
      obtain ⟨rfl, rfl⟩ := hq
      have hP : va_P G.1 dm_cl (mw G g h z16.1 z16.2.1 z16.2.2) H := hP
      have hD : va_D A (mw G g h z16.1 z16.2.1 z16.2.2) := hD
      refine W.eq (g2 := F0 m 46 ls []) rfl ?_
      exact K46 ls _ _ (v 13) z16.1 z16.2.1 z16.2.2 (lv_sub hl [0, 2, 4] rfl) hP hD hS hF
    rw [if_neg hk15] at hF
    cases hF
  have hF : (Option.bind (F_Wi_open_1 (v 8) v f w) (fun z1 => (if z1 = (0 : Int32) then (some (v, f, w)) else (if (w 2) = 0 then (Option.bind (F_Rk_word_0 (v 8) v f w) (fun z2 => (F_Ma_move_1_25 x2 z2.1 z2.2.1 z2.2.2.1 z2.2.2.2))) else (if (w 2) = 1 then (Option.bind (F_Rk_word_1 (v 8) v f w) (fun z3 => (F_Ma_move_1_25 x2 z3.1 z3.2.1 z3.2.2.1 z3.2.2.2))) else (if (w 2) = 2 then (Option.bind (F_Pr_word_2 (v 8) v f w) (fun z4 => (F_Ma_move_1_25 x2 z4 v f w))) else (if (w 2) = 3 then (Option.bind (F_Pr_word_3 (v 8) v f w) (fun z5 => (F_Ma_move_1_25 x2 z5 v f w))) else (if (w 2) = 4 then (Option.bind (F_Pr_word_4 (v 8) v f w) (fun z6 => (F_Ma_move_1_25 x2 z6 v f w))) else (if (w 2) = 5 then (Option.bind (F_Pr_word_5 (v 8) v f w) (fun z7 => (F_Ma_move_1_25 x2 z7 v f w))) else (if (w 2) = 6 then (Option.bind (F_Pr_word_6 (v 8) v f w) (fun z8 => (F_Ma_move_1_25 x2 z8 v f w))) else (if (w 2) = 7 then (Option.bind (F_Pr_word_7 (v 8) v f w) (fun z9 => (F_Ma_move_1_25 x2 z9 v f w))) else (if (w 2) = 8 then (Option.bind (F_Pr_word_8 (v 8) v f w) (fun z10 => (F_Ma_move_1_25 x2 z10 v f w))) else (if (w 2) = 9 then (Option.bind (F_Rk_word_9 (v 8) v f w) (fun z11 => (F_Ma_move_1_25 x2 z11.1 z11.2.1 z11.2.2.1 z11.2.2.2))) else (if (w 2) = 10 then (Option.bind (F_Rk_word_10 (v 8) v f w) (fun z12 => (F_Ma_move_1_25 x2 z12.1 z12.2.1 z12.2.2.1 z12.2.2.2))) else (if (w 2) = 11 then (Option.bind (F_Rk_word_11 (v 8) v f w) (fun z13 => (F_Ma_move_1_25 x2 z13.1 z13.2.1 z13.2.2.1 z13.2.2.2))) else (if (w 2) = 12 then (Option.bind (F_Rk_word_12 (v 8) v f w) (fun z14 => (F_Ma_move_1_25 x2 z14.1 z14.2.1 z14.2.2.1 z14.2.2.2))) else (if (w 2) = 13 then (Option.bind (F_Rk_word_13 (v 8) v f w) (fun z15 => (F_Ma_move_1_25 x2 z15.1 z15.2.1 z15.2.2.1 z15.2.2.2))) else (if (w 2) = 14 then (Option.bind (F_Rk_word_14 (v 8) v f w) (fun z16 => (F_Ma_move_1_25 x2 z16.1 z16.2.1 z16.2.2.1 z16.2.2.2))) else (if (w 2) = 15 then (Option.bind (F_Rk_word_15 (v 8) v f w) (fun z17 => (F_Ma_move_1_25 x2 z17.1 z17.2.1 z17.2.2.1 z17.2.2.2))) else none))))))))))))))))))) = some RES := hF
  refine lv_aload_n hx hb d_Ma_move_0_0 rfl (lv_at hl 1 rfl) ?_
  refine lv_aload_n hx hb d_Ma_move_0_1 rfl (lv_at hl 0 rfl) ?_
  refine mw_g_0_8 (x := (v 8)) B hP rfl k_130 d_Ma_move_0_2 ?_
  obtain ⟨z1, hcz1, hF⟩ := dm_bind hF
  refine dm_callVw B [.int (v 8)] (c_Wi_open_1 l G g h (v 8) v f w z1 hcz1) k_386 k_387 k_388 k_5 k_389 hd_Wi_open_1 rfl ⟨by decide, by decide⟩ 10 rfl rfl hP hD hS hl.1 (rest := []) rfl (Nat.le_of_ble_eq_true rfl) d_Ma_move_0_5 ⟨by decide, by decide⟩ (fun ov w' H locs hq hP hD hS => ?_)
  obtain ⟨rfl, rfl⟩ := hq
  have hP : va_P G.1 dm_cl (mw G g h v f w) H := hP
  have hD : va_D A (mw G g h v f w) := hD
  refine W.eq (g2 := F0 m 8 ls [.int z1]) rfl ?_
  refine lv_if_ne (tgt := 12) hx hb d_Ma_move_0_8 (by decide) (fun (hh : ¬ z1 = (0 : Int32)) => ?_) (fun (hh : z1 = (0 : Int32)) => ?_)
  · rw [if_neg hh] at hF
    refine lv_aload_n hx hb d_Ma_move_0_12 rfl (lv_at hl 1 rfl) ?_
    refine mw_gn_10_2 B hP k_102 d_Ma_move_0_13 ?_
    refine lv_aload_n hx hb d_Ma_move_0_16 rfl (lv_at hl 0 rfl) ?_
    refine mw_g_0_8 (x := (v 8)) B hP rfl k_130 d_Ma_move_0_17 ?_
    by_cases hk0 : (w 2) = 0
    · rw [if_pos hk0] at hF
      refine W.eq (g2 := F0 m 20 ls [.int (v 8), .ref (g 40)]) (by rw [hk0]; rfl) ?_
      obtain ⟨z2, hcz2, hF⟩ := dm_bind hF
      refine dm_callFw B [.int (v 8)] (c_Rk_word_0 l G g h (v 8) v f w z2 hcz2) k_391 k_407 k_405 k_8 k_409 (List.mem_of_getElem? (i := 1) rfl) hd_Rk_word_0.2.2 rfl ⟨by decide, by decide⟩ 32 rfl rfl hP hD hS hl.1 (rest := []) rfl (Nat.le_of_ble_eq_true rfl) d_Ma_move_0_20 ⟨by decide, by decide⟩ (fun ov w' H locs hq hP hD hS => ?_)
      obtain ⟨rfl, rfl⟩ := hq
      have hP : va_P G.1 dm_cl (mw G g h z2.2.1 z2.2.2.1 z2.2.2.2) H := hP
      have hD : va_D A (mw G g h z2.2.1 z2.2.2.1 z2.2.2.2) := hD
      refine W.eq (g2 := F0 m 25 ls [.int z2.1]) rfl ?_
      exact K25 ls _ _ z2.1 z2.2.1 z2.2.2.1 z2.2.2.2 (lv_sub hl [0, 1, 2] rfl) hP hD hS hF
    rw [if_neg hk0] at hF
    by_cases hk1 : (w 2) = 1
    · rw [if_pos hk1] at hF
      refine W.eq (g2 := F0 m 20 ls [.int (v 8), .ref (g 41)]) (by rw [hk1]; rfl) ?_
      obtain ⟨z3, hcz3, hF⟩ := dm_bind hF
      refine dm_callFw B [.int (v 8)] (c_Rk_word_1 l G g h (v 8) v f w z3 hcz3) k_391 k_407 k_405 k_8 k_409 (List.mem_of_getElem? (i := 1) rfl) hd_Rk_word_1.2.2 rfl ⟨by decide, by decide⟩ 33 rfl rfl hP hD hS hl.1 (rest := []) rfl (Nat.le_of_ble_eq_true rfl) d_Ma_move_0_20 ⟨by decide, by decide⟩ (fun ov w' H locs hq hP hD hS => ?_)
      obtain ⟨rfl, rfl⟩ := hq
      have hP : va_P G.1 dm_cl (mw G g h z3.2.1 z3.2.2.1 z3.2.2.2) H := hP
      have hD : va_D A (mw G g h z3.2.1 z3.2.2.1 z3.2.2.2) := hD
      refine W.eq (g2 := F0 m 25 ls [.int z3.1]) rfl ?_
      exact K25 ls _ _ z3.1 z3.2.1 z3.2.2.1 z3.2.2.2 (lv_sub hl [0, 1, 2] rfl) hP hD hS hF
    rw [if_neg hk1] at hF
    by_cases hk2 : (w 2) = 2
    · rw [if_pos hk2] at hF
      refine W.eq (g2 := F0 m 20 ls [.int (v 8), .ref (g 32)]) (by rw [hk2]; rfl) ?_
      obtain ⟨z4, hcz4, hF⟩ := dm_bind hF
      refine dm_callFw B [.int (v 8)] (c_Pr_word_2 l G g h (v 8) v f w z4 hcz4) k_391 k_397 k_395 k_7 k_399 (List.mem_of_getElem? (i := 0) rfl) hd_Pr_word_2.2.2 rfl ⟨by decide, by decide⟩ 25 rfl rfl hP hD hS hl.1 (rest := []) rfl (Nat.le_of_ble_eq_true rfl) d_Ma_move_0_20 ⟨by decide, by decide⟩ (fun ov w' H locs hq hP hD hS => ?_)
      obtain ⟨rfl, rfl⟩ := hq
      have hP : va_P G.1 dm_cl (mw G g h v f w) H := hP
      have hD : va_D A (mw G g h v f w) := hD
      refine W.eq (g2 := F0 m 25 ls [.int z4]) rfl ?_
      exact K25 ls _ _ z4 v f w (lv_sub hl [0, 1, 2] rfl) hP hD hS hF
    rw [if_neg hk2] at hF
    by_cases hk3 : (w 2) = 3
    · rw [if_pos hk3] at hF
      refine W.eq (g2 := F0 m 20 ls [.int (v 8), .ref (g 33)]) (by rw [hk3]; rfl) ?_
      obtain ⟨z5, hcz5, hF⟩ := dm_bind hF
      refine dm_callFw B [.int (v 8)] (c_Pr_word_3 l G g h (v 8) v f w z5 hcz5) k_391 k_397 k_395 k_7 k_399 (List.mem_of_getElem? (i := 0) rfl) hd_Pr_word_3.2.2 rfl ⟨by decide, by decide⟩ 26 rfl rfl hP hD hS hl.1 (rest := []) rfl (Nat.le_of_ble_eq_true rfl) d_Ma_move_0_20 ⟨by decide, by decide⟩ (fun ov w' H locs hq hP hD hS => ?_)
      obtain ⟨rfl, rfl⟩ := hq
      have hP : va_P G.1 dm_cl (mw G g h v f w) H := hP
      have hD : va_D A (mw G g h v f w) := hD
      refine W.eq (g2 := F0 m 25 ls [.int z5]) rfl ?_
      exact K25 ls _ _ z5 v f w (lv_sub hl [0, 1, 2] rfl) hP hD hS hF
    rw [if_neg hk3] at hF
    by_cases hk4 : (w 2) = 4
    · rw [if_pos hk4] at hF
      refine W.eq (g2 := F0 m 20 ls [.int (v 8), .ref (g 34)]) (by rw [hk4]; rfl) ?_
      obtain ⟨z6, hcz6, hF⟩ := dm_bind hF
      refine dm_callFw B [.int (v 8)] (c_Pr_word_4 l G g h (v 8) v f w z6 hcz6) k_391 k_397 k_395 k_7 k_399 (List.mem_of_getElem? (i := 0) rfl) hd_Pr_word_4.2.2 rfl ⟨by decide, by decide⟩ 27 rfl rfl hP hD hS hl.1 (rest := []) rfl (Nat.le_of_ble_eq_true rfl) d_Ma_move_0_20 ⟨by decide, by decide⟩ (fun ov w' H locs hq hP hD hS => ?_)
      obtain ⟨rfl, rfl⟩ := hq
      have hP : va_P G.1 dm_cl (mw G g h v f w) H := hP
      have hD : va_D A (mw G g h v f w) := hD
      refine W.eq (g2 := F0 m 25 ls [.int z6]) rfl ?_
      exact K25 ls _ _ z6 v f w (lv_sub hl [0, 1, 2] rfl) hP hD hS hF
    rw [if_neg hk4] at hF
    by_cases hk5 : (w 2) = 5
    · rw [if_pos hk5] at hF
      refine W.eq (g2 := F0 m 20 ls [.int (v 8), .ref (g 35)]) (by rw [hk5]; rfl) ?_
      obtain ⟨z7, hcz7, hF⟩ := dm_bind hF
      refine dm_callFw B [.int (v 8)] (c_Pr_word_5 l G g h (v 8) v f w z7 hcz7) k_391 k_397 k_395 k_7 k_399 (List.mem_of_getElem? (i := 0) rfl) hd_Pr_word_5.2.2 rfl ⟨by decide, by decide⟩ 28 rfl rfl hP hD hS hl.1 (rest := []) rfl (Nat.le_of_ble_eq_true rfl) d_Ma_move_0_20 ⟨by decide, by decide⟩ (fun ov w' H locs hq hP hD hS => ?_)
      obtain ⟨rfl, rfl⟩ := hq
      have hP : va_P G.1 dm_cl (mw G g h v f w) H := hP
      have hD : va_D A (mw G g h v f w) := hD
      refine W.eq (g2 := F0 m 25 ls [.int z7]) rfl ?_
      exact K25 ls _ _ z7 v f w (lv_sub hl [0, 1, 2] rfl) hP hD hS hF
    rw [if_neg hk5] at hF
    by_cases hk6 : (w 2) = 6
    · rw [if_pos hk6] at hF
      refine W.eq (g2 := F0 m 20 ls [.int (v 8), .ref (g 36)]) (by rw [hk6]; rfl) ?_
      obtain ⟨z8, hcz8, hF⟩ := dm_bind hF
      refine dm_callFw B [.int (v 8)] (c_Pr_word_6 l G g h (v 8) v f w z8 hcz8) k_391 k_397 k_395 k_7 k_399 (List.mem_of_getElem? (i := 0) rfl) hd_Pr_word_6.2.2 rfl ⟨by decide, by decide⟩ 29 rfl rfl hP hD hS hl.1 (rest := []) rfl (Nat.le_of_ble_eq_true rfl) d_Ma_move_0_20 ⟨by decide, by decide⟩ (fun ov w' H locs hq hP hD hS => ?_)
      obtain ⟨rfl, rfl⟩ := hq
      have hP : va_P G.1 dm_cl (mw G g h v f w) H := hP
      have hD : va_D A (mw G g h v f w) := hD
      refine W.eq (g2 := F0 m 25 ls [.int z8]) rfl ?_
      exact K25 ls _ _ z8 v f w (lv_sub hl [0, 1, 2] rfl) hP hD hS hF
    rw [if_neg hk6] at hF
    by_cases hk7 : (w 2) = 7
    · rw [if_pos hk7] at hF
      refine W.eq (g2 := F0 m 20 ls [.int (v 8), .ref (g 37)]) (by rw [hk7]; rfl) ?_
      obtain ⟨z9, hcz9, hF⟩ := dm_bind hF
      refine dm_callFw B [.int (v 8)] (c_Pr_word_7 l G g h (v 8) v f w z9 hcz9) k_391 k_397 k_395 k_7 k_399 (List.mem_of_getElem? (i := 0) rfl) hd_Pr_word_7.2.2 rfl ⟨by decide, by decide⟩ 30 rfl rfl hP hD hS hl.1 (rest := []) rfl (Nat.le_of_ble_eq_true rfl) d_Ma_move_0_20 ⟨by decide, by decide⟩ (fun ov w' H locs hq hP hD hS => ?_)
      obtain ⟨rfl, rfl⟩ := hq
      have hP : va_P G.1 dm_cl (mw G g h v f w) H := hP
      have hD : va_D A (mw G g h v f w) := hD
      refine W.eq (g2 := F0 m 25 ls [.int z9]) rfl ?_
      exact K25 ls _ _ z9 v f w (lv_sub hl [0, 1, 2] rfl) hP hD hS hF
    rw [if_neg hk7] at hF
    by_cases hk8 : (w 2) = 8
    · rw [if_pos hk8] at hF
      refine W.eq (g2 := F0 m 20 ls [.int (v 8), .ref (g 38)]) (by rw [hk8]; rfl) ?_
      obtain ⟨z10, hcz10, hF⟩ := dm_bind hF
      refine dm_callFw B [.int (v 8)] (c_Pr_word_8 l G g h (v 8) v f w z10 hcz10) k_391 k_397 k_395 k_7 k_399 (List.mem_of_getElem? (i := 0) rfl) hd_Pr_word_8.2.2 rfl ⟨by decide, by decide⟩ 31 rfl rfl hP hD hS hl.1 (rest := []) rfl (Nat.le_of_ble_eq_true rfl) d_Ma_move_0_20 ⟨by decide, by decide⟩ (fun ov w' H locs hq hP hD hS => ?_)
      obtain ⟨rfl, rfl⟩ := hq
      have hP : va_P G.1 dm_cl (mw G g h v f w) H := hP
      have hD : va_D A (mw G g h v f w) := hD
      refine W.eq (g2 := F0 m 25 ls [.int z10]) rfl ?_
      exact K25 ls _ _ z10 v f w (lv_sub hl [0, 1, 2] rfl) hP hD hS hF
    rw [if_neg hk8] at hF
    by_cases hk9 : (w 2) = 9
    · rw [if_pos hk9] at hF
      refine W.eq (g2 := F0 m 20 ls [.int (v 8), .ref (g 49)]) (by rw [hk9]; rfl) ?_
      obtain ⟨z11, hcz11, hF⟩ := dm_bind hF
      refine dm_callFw B [.int (v 8)] (c_Rk_word_9 l G g h (v 8) v f w z11 hcz11) k_391 k_407 k_405 k_8 k_409 (List.mem_of_getElem? (i := 1) rfl) hd_Rk_word_9.2.2 rfl ⟨by decide, by decide⟩ 34 rfl rfl hP hD hS hl.1 (rest := []) rfl (Nat.le_of_ble_eq_true rfl) d_Ma_move_0_20 ⟨by decide, by decide⟩ (fun ov w' H locs hq hP hD hS => ?_)
      obtain ⟨rfl, rfl⟩ := hq
      have hP : va_P G.1 dm_cl (mw G g h z11.2.1 z11.2.2.1 z11.2.2.2) H := hP
      have hD : va_D A (mw G g h z11.2.1 z11.2.2.1 z11.2.2.2) := hD
      refine W.eq (g2 := F0 m 25 ls [.int z11.1]) rfl ?_
      exact K25 ls _ _ z11.1 z11.2.1 z11.2.2.1 z11.2.2.2 (lv_sub hl [0, 1, 2] rfl) hP hD hS hF
    rw [if_neg hk9] at hF
    by_cases hk10 : (w 2) = 10
    · rw [if_pos hk10] at hF
      refine W.eq (g2 := F0 m 20 ls [.int (v 8), .ref (g 50)]) (by rw [hk10]; rfl) ?_
      obtain ⟨z12, hcz12, hF⟩ := dm_bind hF
      refine dm_callFw B [.int (v 8)] (c_Rk_word_10 l G g h (v 8) v f w z12 hcz12) k_391 k_407 k_405 k_8 k_409 (List.mem_of_getElem? (i := 1) rfl) hd_Rk_word_10.2.2 rfl ⟨by decide, by decide⟩ 35 rfl rfl hP hD hS hl.1 (rest := []) rfl (Nat.le_of_ble_eq_true rfl) d_Ma_move_0_20 ⟨by decide, by decide⟩ (fun ov w' H locs hq hP hD hS => ?_)
      obtain ⟨rfl, rfl⟩ := hq
      have hP : va_P G.1 dm_cl (mw G g h z12.2.1 z12.2.2.1 z12.2.2.2) H := hP
      have hD : va_D A (mw G g h z12.2.1 z12.2.2.1 z12.2.2.2) := hD
      refine W.eq (g2 := F0 m 25 ls [.int z12.1]) rfl ?_
      exact K25 ls _ _ z12.1 z12.2.1 z12.2.2.1 z12.2.2.2 (lv_sub hl [0, 1, 2] rfl) hP hD hS hF
    rw [if_neg hk10] at hF
    by_cases hk11 : (w 2) = 11
    · rw [if_pos hk11] at hF
      refine W.eq (g2 := F0 m 20 ls [.int (v 8), .ref (g 51)]) (by rw [hk11]; rfl) ?_
      obtain ⟨z13, hcz13, hF⟩ := dm_bind hF
      refine dm_callFw B [.int (v 8)] (c_Rk_word_11 l G g h (v 8) v f w z13 hcz13) k_391 k_407 k_405 k_8 k_409 (List.mem_of_getElem? (i := 1) rfl) hd_Rk_word_11.2.2 rfl ⟨by decide, by decide⟩ 36 rfl rfl hP hD hS hl.1 (rest := []) rfl (Nat.le_of_ble_eq_true rfl) d_Ma_move_0_20 ⟨by decide, by decide⟩ (fun ov w' H locs hq hP hD hS => ?_)
      obtain ⟨rfl, rfl⟩ := hq
      have hP : va_P G.1 dm_cl (mw G g h z13.2.1 z13.2.2.1 z13.2.2.2) H := hP
      have hD : va_D A (mw G g h z13.2.1 z13.2.2.1 z13.2.2.2) := hD
      refine W.eq (g2 := F0 m 25 ls [.int z13.1]) rfl ?_
      exact K25 ls _ _ z13.1 z13.2.1 z13.2.2.1 z13.2.2.2 (lv_sub hl [0, 1, 2] rfl) hP hD hS hF
    rw [if_neg hk11] at hF
    by_cases hk12 : (w 2) = 12
    · rw [if_pos hk12] at hF
      refine W.eq (g2 := F0 m 20 ls [.int (v 8), .ref (g 52)]) (by rw [hk12]; rfl) ?_
      obtain ⟨z14, hcz14, hF⟩ := dm_bind hF
      refine dm_callFw B [.int (v 8)] (c_Rk_word_12 l G g h (v 8) v f w z14 hcz14) k_391 k_407 k_405 k_8 k_409 (List.mem_of_getElem? (i := 1) rfl) hd_Rk_word_12.2.2 rfl ⟨by decide, by decide⟩ 37 rfl rfl hP hD hS hl.1 (rest := []) rfl (Nat.le_of_ble_eq_true rfl) d_Ma_move_0_20 ⟨by decide, by decide⟩ (fun ov w' H locs hq hP hD hS => ?_)
      obtain ⟨rfl, rfl⟩ := hq
      have hP : va_P G.1 dm_cl (mw G g h z14.2.1 z14.2.2.1 z14.2.2.2) H := hP
      have hD : va_D A (mw G g h z14.2.1 z14.2.2.1 z14.2.2.2) := hD
      refine W.eq (g2 := F0 m 25 ls [.int z14.1]) rfl ?_
      exact K25 ls _ _ z14.1 z14.2.1 z14.2.2.1 z14.2.2.2 (lv_sub hl [0, 1, 2] rfl) hP hD hS hF
    rw [if_neg hk12] at hF
    by_cases hk13 : (w 2) = 13
    · rw [if_pos hk13] at hF
      refine W.eq (g2 := F0 m 20 ls [.int (v 8), .ref (g 53)]) (by rw [hk13]; rfl) ?_
      obtain ⟨z15, hcz15, hF⟩ := dm_bind hF
      refine dm_callFw B [.int (v 8)] (c_Rk_word_13 l G g h (v 8) v f w z15 hcz15) k_391 k_407 k_405 k_8 k_409 (List.mem_of_getElem? (i := 1) rfl) hd_Rk_word_13.2.2 rfl ⟨by decide, by decide⟩ 38 rfl rfl hP hD hS hl.1 (rest := []) rfl (Nat.le_of_ble_eq_true rfl) d_Ma_move_0_20 ⟨by decide, by decide⟩ (fun ov w' H locs hq hP hD hS => ?_)
      obtain ⟨rfl, rfl⟩ := hq
      have hP : va_P G.1 dm_cl (mw G g h z15.2.1 z15.2.2.1 z15.2.2.2) H := hP
      have hD : va_D A (mw G g h z15.2.1 z15.2.2.1 z15.2.2.2) := hD
      refine W.eq (g2 := F0 m 25 ls [.int z15.1]) rfl ?_
      exact K25 ls _ _ z15.1 z15.2.1 z15.2.2.1 z15.2.2.2 (lv_sub hl [0, 1, 2] rfl) hP hD hS hF
    rw [if_neg hk13] at hF
    by_cases hk14 : (w 2) = 14
    · rw [if_pos hk14] at hF
      refine W.eq (g2 := F0 m 20 ls [.int (v 8), .ref (g 54)]) (by rw [hk14]; rfl) ?_
      obtain ⟨z16, hcz16, hF⟩ := dm_bind hF
      refine dm_callFw B [.int (v 8)] (c_Rk_word_14 l G g h (v 8) v f w z16 hcz16) k_391 k_407 k_405 k_8 k_409 (List.mem_of_getElem? (i := 1) rfl) hd_Rk_word_14.2.2 rfl ⟨by decide, by decide⟩ 39 rfl rfl hP hD hS hl.1 (rest := []) rfl (Nat.le_of_ble_eq_true rfl) d_Ma_move_0_20 ⟨by decide, by decide⟩ (fun ov w' H locs hq hP hD hS => ?_)
      obtain ⟨rfl, rfl⟩ := hq
      have hP : va_P G.1 dm_cl (mw G g h z16.2.1 z16.2.2.1 z16.2.2.2) H := hP
      have hD : va_D A (mw G g h z16.2.1 z16.2.2.1 z16.2.2.2) := hD
      refine W.eq (g2 := F0 m 25 ls [.int z16.1]) rfl ?_
      exact K25 ls _ _ z16.1 z16.2.1 z16.2.2.1 z16.2.2.2 (lv_sub hl [0, 1, 2] rfl) hP hD hS hF
    rw [if_neg hk14] at hF
    by_cases hk15 : (w 2) = 15
    · rw [if_pos hk15] at hF
      refine W.eq (g2 := F0 m 20 ls [.int (v 8), .ref (g 55)]) (by rw [hk15]; rfl) ?_
      obtain ⟨z17, hcz17, hF⟩ := dm_bind hF
      refine dm_callFw B [.int (v 8)] (c_Rk_word_15 l G g h (v 8) v f w z17 hcz17) k_391 k_407 k_405 k_8 k_409 (List.mem_of_getElem? (i := 1) rfl) hd_Rk_word_15.2.2 rfl ⟨by decide, by decide⟩ 40 rfl rfl hP hD hS hl.1 (rest := []) rfl (Nat.le_of_ble_eq_true rfl) d_Ma_move_0_20 ⟨by decide, by decide⟩ (fun ov w' H locs hq hP hD hS => ?_)
      obtain ⟨rfl, rfl⟩ := hq
      have hP : va_P G.1 dm_cl (mw G g h z17.2.1 z17.2.2.1 z17.2.2.2) H := hP
      have hD : va_D A (mw G g h z17.2.1 z17.2.2.1 z17.2.2.2) := hD
      refine W.eq (g2 := F0 m 25 ls [.int z17.1]) rfl ?_
      exact K25 ls _ _ z17.1 z17.2.1 z17.2.2.1 z17.2.2.2 (lv_sub hl [0, 1, 2] rfl) hP hD hS hF
    rw [if_neg hk15] at hF
    cases hF
  · rw [if_pos hh] at hF
    have hF := Option.some.inj hF
    subst hF
    exact dm_retv B d_Ma_move_0_11 (by decide) (by decide) hP hD hS ⟨rfl, rfl⟩
abbrev b_Ma_cycle : ByteArray := prog_6_method_8_code
abbrev y_Ma_cycle : MethodName := { cls := "DelayMachine$Machine", name := "cycle", desc := "()V" }
theorem d_Ma_cycle_0 : decode b_Ma_cycle 0 = .ok (.aload_n 0, 1) := by decide +kernel
theorem d_Ma_cycle_1 : decode b_Ma_cycle 1 = .ok (.iconst 0, 1) := by decide +kernel
theorem d_Ma_cycle_2 : decode b_Ma_cycle 2 = .ok (.putfield 150, 3) := by decide +kernel
theorem d_Ma_cycle_5 : decode b_Ma_cycle 5 = .ok (.aload_n 0, 1) := by decide +kernel
theorem d_Ma_cycle_6 : decode b_Ma_cycle 6 = .ok (.getfield 103, 3) := by decide +kernel
theorem d_Ma_cycle_9 : decode b_Ma_cycle 9 = .ok (.aload_n 0, 1) := by decide +kernel
theorem d_Ma_cycle_10 : decode b_Ma_cycle 10 = .ok (.getfield 109, 3) := by decide +kernel
theorem d_Ma_cycle_13 : decode b_Ma_cycle 13 = .ok (.ifCond .eq (12), 3) := by decide +kernel
theorem d_Ma_cycle_16 : decode b_Ma_cycle 16 = .ok (.aload_n 0, 1) := by decide +kernel
theorem d_Ma_cycle_17 : decode b_Ma_cycle 17 = .ok (.getfield 106, 3) := by decide +kernel
theorem d_Ma_cycle_20 : decode b_Ma_cycle 20 = .ok (.iconst 1, 1) := by decide +kernel
theorem d_Ma_cycle_21 : decode b_Ma_cycle 21 = .ok (.iadd, 1) := by decide +kernel
theorem d_Ma_cycle_22 : decode b_Ma_cycle 22 = .ok (.goto (7), 3) := by decide +kernel
theorem d_Ma_cycle_25 : decode b_Ma_cycle 25 = .ok (.aload_n 0, 1) := by decide +kernel
theorem d_Ma_cycle_26 : decode b_Ma_cycle 26 = .ok (.getfield 106, 3) := by decide +kernel
theorem d_Ma_cycle_29 : decode b_Ma_cycle 29 = .ok (.if_icmp .ne (7), 3) := by decide +kernel
theorem d_Ma_cycle_32 : decode b_Ma_cycle 32 = .ok (.iconst 1, 1) := by decide +kernel
theorem d_Ma_cycle_33 : decode b_Ma_cycle 33 = .ok (.goto (4), 3) := by decide +kernel
theorem d_Ma_cycle_36 : decode b_Ma_cycle 36 = .ok (.iconst 0, 1) := by decide +kernel
theorem d_Ma_cycle_37 : decode b_Ma_cycle 37 = .ok (.istore_n 1, 1) := by decide +kernel
theorem d_Ma_cycle_38 : decode b_Ma_cycle 38 = .ok (.iload_n 1, 1) := by decide +kernel
theorem d_Ma_cycle_39 : decode b_Ma_cycle 39 = .ok (.ifCond .eq (7), 3) := by decide +kernel
theorem d_Ma_cycle_42 : decode b_Ma_cycle 42 = .ok (.aload_n 0, 1) := by decide +kernel
theorem d_Ma_cycle_43 : decode b_Ma_cycle 43 = .ok (.invokevirtual 153, 3) := by decide +kernel
theorem d_Ma_cycle_46 : decode b_Ma_cycle 46 = .ok (.aload_n 0, 1) := by decide +kernel
theorem d_Ma_cycle_47 : decode b_Ma_cycle 47 = .ok (.aload_n 0, 1) := by decide +kernel
theorem d_Ma_cycle_48 : decode b_Ma_cycle 48 = .ok (.getfield 50, 3) := by decide +kernel
theorem d_Ma_cycle_51 : decode b_Ma_cycle 51 = .ok (.iconst 0, 1) := by decide +kernel
theorem d_Ma_cycle_52 : decode b_Ma_cycle 52 = .ok (.invokevirtual 156, 3) := by decide +kernel
theorem d_Ma_cycle_55 : decode b_Ma_cycle 55 = .ok (.aload_n 0, 1) := by decide +kernel
theorem d_Ma_cycle_56 : decode b_Ma_cycle 56 = .ok (.aload_n 0, 1) := by decide +kernel
theorem d_Ma_cycle_57 : decode b_Ma_cycle 57 = .ok (.getfield 54, 3) := by decide +kernel
theorem d_Ma_cycle_60 : decode b_Ma_cycle 60 = .ok (.iconst 1, 1) := by decide +kernel
theorem d_Ma_cycle_61 : decode b_Ma_cycle 61 = .ok (.invokevirtual 156, 3) := by decide +kernel
theorem d_Ma_cycle_64 : decode b_Ma_cycle 64 = .ok (.aload_n 0, 1) := by decide +kernel
theorem d_Ma_cycle_65 : decode b_Ma_cycle 65 = .ok (.getfield 150, 3) := by decide +kernel
theorem d_Ma_cycle_68 : decode b_Ma_cycle 68 = .ok (.ifCond .ne (28), 3) := by decide +kernel
theorem d_Ma_cycle_71 : decode b_Ma_cycle 71 = .ok (.aload_n 0, 1) := by decide +kernel
theorem d_Ma_cycle_72 : decode b_Ma_cycle 72 = .ok (.getfield 24, 3) := by decide +kernel
theorem d_Ma_cycle_75 : decode b_Ma_cycle 75 = .ok (.aload_n 0, 1) := by decide +kernel
theorem d_Ma_cycle_76 : decode b_Ma_cycle 76 = .ok (.getfield 17, 3) := by decide +kernel
theorem d_Ma_cycle_79 : decode b_Ma_cycle 79 = .ok (.bipush (8), 2) := by decide +kernel
theorem d_Ma_cycle_81 : decode b_Ma_cycle 81 = .ok (.aaload, 1) := by decide +kernel
theorem d_Ma_cycle_82 : decode b_Ma_cycle 82 = .ok (.aload_n 0, 1) := by decide +kernel
theorem d_Ma_cycle_83 : decode b_Ma_cycle 83 = .ok (.getfield 17, 3) := by decide +kernel
theorem d_Ma_cycle_86 : decode b_Ma_cycle 86 = .ok (.bipush (7), 2) := by decide +kernel
theorem d_Ma_cycle_88 : decode b_Ma_cycle 88 = .ok (.aaload, 1) := by decide +kernel
theorem d_Ma_cycle_89 : decode b_Ma_cycle 89 = .ok (.iconst 0, 1) := by decide +kernel
theorem d_Ma_cycle_90 : decode b_Ma_cycle 90 = .ok (.invokevirtual 160, 3) := by decide +kernel
theorem d_Ma_cycle_93 : decode b_Ma_cycle 93 = .ok (.invokevirtual 163, 3) := by decide +kernel
theorem d_Ma_cycle_96 : decode b_Ma_cycle 96 = .ok (.aload_n 0, 1) := by decide +kernel
theorem d_Ma_cycle_97 : decode b_Ma_cycle 97 = .ok (.getfield 31, 3) := by decide +kernel
theorem d_Ma_cycle_100 : decode b_Ma_cycle 100 = .ok (.aload_n 0, 1) := by decide +kernel
theorem d_Ma_cycle_101 : decode b_Ma_cycle 101 = .ok (.getfield 103, 3) := by decide +kernel
theorem d_Ma_cycle_104 : decode b_Ma_cycle 104 = .ok (.invokevirtual 167, 3) := by decide +kernel
theorem d_Ma_cycle_107 : decode b_Ma_cycle 107 = .ok (.ifCond .eq (8), 3) := by decide +kernel
theorem d_Ma_cycle_110 : decode b_Ma_cycle 110 = .ok (.aload_n 0, 1) := by decide +kernel
theorem d_Ma_cycle_111 : decode b_Ma_cycle 111 = .ok (.iconst 1, 1) := by decide +kernel
theorem d_Ma_cycle_112 : decode b_Ma_cycle 112 = .ok (.invokevirtual 97, 3) := by decide +kernel
theorem d_Ma_cycle_115 : decode b_Ma_cycle 115 = .ok (.aload_n 0, 1) := by decide +kernel
theorem d_Ma_cycle_116 : decode b_Ma_cycle 116 = .ok (.dup, 1) := by decide +kernel
theorem d_Ma_cycle_117 : decode b_Ma_cycle 117 = .ok (.getfield 103, 3) := by decide +kernel
theorem d_Ma_cycle_120 : decode b_Ma_cycle 120 = .ok (.iconst 1, 1) := by decide +kernel
theorem d_Ma_cycle_121 : decode b_Ma_cycle 121 = .ok (.iadd, 1) := by decide +kernel
theorem d_Ma_cycle_122 : decode b_Ma_cycle 122 = .ok (.putfield 103, 3) := by decide +kernel
theorem d_Ma_cycle_125 : decode b_Ma_cycle 125 = .ok (.return_, 1) := by decide +kernel
theorem hd_Ma_cycle : y_Ma_cycle.cls ≠ "java/lang/invoke/MethodHandle" ∧ y_Ma_cycle.cls ≠ "java/lang/invoke/VarHandle" ∧ (parseMethodDescriptor y_Ma_cycle.desc).map (fun d => d.parameters.length) = some 0 := by decide +kernel
abbrev rm_Ma_cycle : Room := { frames := 4, cells := 0, slots := 0, locals := 90 }
def F_Ma_cycle_115    (h : Nat → Nat) (v : Nat → Int32) (f : Nat → Nat → Int32) (w : Nat → Nat) : Option ((Nat → Nat) × (Nat → Int32) × (Nat → Nat → Int32) × (Nat → Nat)) := (some (h, (va_up v 8 ((v 8) + (1 : Int32))), f, w))
def F_Ma_cycle_96    (h : Nat → Nat) (v : Nat → Int32) (f : Nat → Nat → Int32) (w : Nat → Nat) : Option ((Nat → Nat) × (Nat → Int32) × (Nat → Nat → Int32) × (Nat → Nat)) := (Option.bind (F_Re_missed (v 8) v f w) (fun z1 => (if z1 = (0 : Int32) then (F_Ma_cycle_115  h v f w) else (Option.bind (F_Ma_fail (1 : Int32) v f w) (fun z2 => (F_Ma_cycle_115  h z2.1 z2.2.1 z2.2.2))))))
def F_Ma_cycle_46    (h : Nat → Nat) (v : Nat → Int32) (f : Nat → Nat → Int32) (w : Nat → Nat) : Option ((Nat → Nat) × (Nat → Int32) × (Nat → Nat → Int32) × (Nat → Nat)) := (Option.bind (F_Ma_move_0 (0 : Int32) v f w) (fun z1 => (Option.bind (F_Ma_move_1 (1 : Int32) z1.1 z1.2.1 z1.2.2) (fun z2 => (if (z2.1 14) = (0 : Int32) then (Option.bind (F_Li_at_7 (0 : Int32) z2.1 z2.2.1 z2.2.2) (fun z3 => (Option.bind (F_Mu_work z3 z2.1 z2.2.1 z2.2.2) (fun z4 => (F_Ma_cycle_96  h z4.1 z4.2.1 z4.2.2))))) else (F_Ma_cycle_96  h z2.1 z2.2.1 z2.2.2))))))
def F_Ma_cycle_37   (s0 : Int32) (h : Nat → Nat) (v : Nat → Int32) (f : Nat → Nat → Int32) (w : Nat → Nat) : Option ((Nat → Nat) × (Nat → Int32) × (Nat → Nat → Int32) × (Nat → Nat)) := (if s0 = (0 : Int32) then (F_Ma_cycle_46  h v f w) else (Option.bind (F_Ma_fetch  h v f w) (fun z1 => (F_Ma_cycle_46  z1.1 z1.2.1 z1.2.2.1 z1.2.2.2))))
def F_Ma_cycle_29   (s0 : Int32) (s1 : Int32) (h : Nat → Nat) (v : Nat → Int32) (f : Nat → Nat → Int32) (w : Nat → Nat) : Option ((Nat → Nat) × (Nat → Int32) × (Nat → Nat → Int32) × (Nat → Nat)) := (if s0 = s1 then (F_Ma_cycle_37  (1 : Int32) h v f w) else (F_Ma_cycle_37  (0 : Int32) h v f w))
def F_Ma_cycle  (h : Nat → Nat) (v : Nat → Int32) (f : Nat → Nat → Int32) (w : Nat → Nat) : Option ((Nat → Nat) × (Nat → Int32) × (Nat → Nat → Int32) × (Nat → Nat)) := (if (v 13) = (0 : Int32) then (F_Ma_cycle_29  (v 8) (v 12) h (va_up v 14 (0 : Int32)) f w) else (F_Ma_cycle_29  (v 8) ((v 12) + (1 : Int32)) h (va_up v 14 (0 : Int32)) f w))
set_option maxHeartbeats 4000000 in
set_option maxRecDepth 100000 in
theorem c_Ma_cycle (l : Launch) (G : dm_G) (g : Nat → Nat) (h : Nat → Nat) (v : Nat → Int32) (f : Nat → Nat → Int32) (w : Nat → Nat) (RES : (Nat → Nat) × (Nat → Int32) × (Nat → Nat → Int32) × (Nat → Nat)) (hF : F_Ma_cycle h v f w = some RES) : dm_Ct l y_Ma_cycle b_Ma_cycle 2 none rm_Ma_cycle G (mw G g h v f w) [.ref (g 0)] (fun ov w' => ov = none ∧ w' = (mw G g RES.1 RES.2.1 RES.2.2.1 RES.2.2.2)) := by
  refine dm_Ct.of (by decide +kernel) (Nat.le_of_ble_eq_true rfl) ?_
  intro p e s m below meth c A ls B hl hP hD hS
  have hx := B.1
  have hb := B.2.1
  have hl : lv_has ls 2 [(0, .ref (g 0))] := hl
  have K115 : ∀ (ls : Array Slot) (H : Heap) (locs : List Loc)  (h : Nat → Nat) (v : Nat → Int32) (f : Nat → Nat → Int32) (w : Nat → Nat), lv_has ls 2 [(0, .ref (g 0))] → va_P G.1 dm_cl (mw G g h v f w) H → va_D A (mw G g h v f w) → va_S A s.heap H locs → F_Ma_cycle_115   h v f w = some RES → W p l e rm_Ma_cycle s m ([.ref (g 0)] : List Value).toArray below meth c H locs 0 0 (dm_Z below G s ([.ref (g 0)] : List Value).toArray A rm_Ma_cycle.cells rm_Ma_cycle.slots (fun ov w' => ov = none ∧ w' = (mw G g RES.1 RES.2.1 RES.2.2.1 RES.2.2.2))) (F0 m 115 ls []) := by
    intro ls H locs h v f w hl hP hD hS hF
    have hF : (some (h, (va_up v 8 ((v 8) + (1 : Int32))), f, w)) = some RES := hF
    refine lv_aload_n hx hb d_Ma_cycle_115 rfl (lv_at hl 0 rfl) ?_
    refine lv_dup hx hb d_Ma_cycle_116 rfl ?_
    refine mw_g_0_8 (x := (v 8)) B hP rfl k_130 d_Ma_cycle_117 ?_
    refine lv_iconst (v := (1 : Int32)) hx hb d_Ma_cycle_120 (by decide) ?_
    refine lv_iadd hx hb d_Ma_cycle_121 ?_
    refine mw_p_0_8 (x := ((v 8) + (1 : Int32))) B hP hD hS k_130 d_Ma_cycle_122 (fun H locs hP hD hS => ?_)
    have hF := Option.some.inj hF
    subst hF
    exact dm_retv B d_Ma_cycle_125 (by decide) (by decide) hP hD hS ⟨rfl, rfl⟩
  have K96 : ∀ (ls : Array Slot) (H : Heap) (locs : List Loc)  (h : Nat → Nat) (v : Nat → Int32) (f : Nat → Nat → Int32) (w : Nat → Nat), lv_has ls 2 [(0, .ref (g 0))] → va_P G.1 dm_cl (mw G g h v f w) H → va_D A (mw G g h v f w) → va_S A s.heap H locs → F_Ma_cycle_96   h v f w = some RES → W p l e rm_Ma_cycle s m ([.ref (g 0)] : List Value).toArray below meth c H locs 0 0 (dm_Z below G s ([.ref (g 0)] : List Value).toArray A rm_Ma_cycle.cells rm_Ma_cycle.slots (fun ov w' => ov = none ∧ w' = (mw G g RES.1 RES.2.1 RES.2.2.1 RES.2.2.2))) (F0 m 96 ls []) := by
    intro ls H locs h v f w hl hP hD hS hF
    have hF : (Option.bind (F_Re_missed (v 8) v f w) (fun z1 => (if z1 = (0 : Int32) then (F_Ma_cycle_115  h v f w) else (Option.bind (F_Ma_fail (1 : Int32) v f w) (fun z2 => (F_Ma_cycle_115  h z2.1 z2.2.1 z2.2.2)))))) = some RES := hF
    refine lv_aload_n hx hb d_Ma_cycle_96 rfl (lv_at hl 0 rfl) ?_
    refine mw_g_0_3 B hP k_122 d_Ma_cycle_97 ?_
    refine lv_aload_n hx hb d_Ma_cycle_100 rfl (lv_at hl 0 rfl) ?_
    refine mw_g_0_8 (x := (v 8)) B hP rfl k_130 d_Ma_cycle_101 ?_
    obtain ⟨z1, hcz1, hF⟩ := dm_bind hF
    refine dm_callVw B [.int (v 8)] (c_Re_missed l G g h (v 8) v f w z1 hcz1) k_468 k_469 k_470 k_4 k_471 hd_Re_missed rfl ⟨by decide, by decide⟩ 4 rfl rfl hP hD hS hl.1 (rest := []) rfl (Nat.le_of_ble_eq_true rfl) d_Ma_cycle_104 ⟨by decide, by decide⟩ (fun ov w' H locs hq hP hD hS => ?_)
    obtain ⟨rfl, rfl⟩ := hq
    have hP : va_P G.1 dm_cl (mw G g h v f w) H := hP
    have hD : va_D A (mw G g h v f w) := hD
    refine W.eq (g2 := F0 m 107 ls [.int z1]) rfl ?_
    refine lv_if_eq (tgt := 115) hx hb d_Ma_cycle_107 (by decide) (fun (hh : z1 = (0 : Int32)) => ?_) (fun (hh : ¬ z1 = (0 : Int32)) => ?_)
    · rw [if_pos hh] at hF
      exact K115 ls _ _ h v f w (lv_sub hl [0] rfl) hP hD hS hF
    · rw [if_neg hh] at hF
      refine lv_aload_n hx hb d_Ma_cycle_110 rfl (lv_at hl 0 rfl) ?_
      refine lv_iconst (v := (1 : Int32)) hx hb d_Ma_cycle_111 (by decide) ?_
      obtain ⟨z2, hcz2, hF⟩ := dm_bind hF
      refine dm_callVw B [.int (1 : Int32)] (c_Ma_fail l G g h (1 : Int32) v f w z2 hcz2) k_455 k_448 k_449 k_2 k_450 hd_Ma_fail rfl ⟨by decide, by decide⟩ 0 rfl rfl hP hD hS hl.1 (rest := []) rfl (Nat.le_of_ble_eq_true rfl) d_Ma_cycle_112 ⟨by decide, by decide⟩ (fun ov w' H locs hq hP hD hS => ?_)
      obtain ⟨rfl, rfl⟩ := hq
      have hP : va_P G.1 dm_cl (mw G g h z2.1 z2.2.1 z2.2.2) H := hP
      have hD : va_D A (mw G g h z2.1 z2.2.1 z2.2.2) := hD
      refine W.eq (g2 := F0 m 115 ls []) rfl ?_
      exact K115 ls _ _ h z2.1 z2.2.1 z2.2.2 (lv_sub hl [0] rfl) hP hD hS hF
  have K46 : ∀ (ls : Array Slot) (H : Heap) (locs : List Loc)  (h : Nat → Nat) (v : Nat → Int32) (f : Nat → Nat → Int32) (w : Nat → Nat), lv_has ls 2 [(0, .ref (g 0))] → va_P G.1 dm_cl (mw G g h v f w) H → va_D A (mw G g h v f w) → va_S A s.heap H locs → F_Ma_cycle_46   h v f w = some RES → W p l e rm_Ma_cycle s m ([.ref (g 0)] : List Value).toArray below meth c H locs 0 0 (dm_Z below G s ([.ref (g 0)] : List Value).toArray A rm_Ma_cycle.cells rm_Ma_cycle.slots (fun ov w' => ov = none ∧ w' = (mw G g RES.1 RES.2.1 RES.2.2.1 RES.2.2.2))) (F0 m 46 ls []) := by
    intro ls H locs h v f w hl hP hD hS hF
    have hF : (Option.bind (F_Ma_move_0 (0 : Int32) v f w) (fun z1 => (Option.bind (F_Ma_move_1 (1 : Int32) z1.1 z1.2.1 z1.2.2) (fun z2 => (if (z2.1 14) = (0 : Int32) then (Option.bind (F_Li_at_7 (0 : Int32) z2.1 z2.2.1 z2.2.2) (fun z3 => (Option.bind (F_Mu_work z3 z2.1 z2.2.1 z2.2.2) (fun z4 => (F_Ma_cycle_96  h z4.1 z4.2.1 z4.2.2))))) else (F_Ma_cycle_96  h z2.1 z2.2.1 z2.2.2)))))) = some RES := hF
    refine lv_aload_n hx hb d_Ma_cycle_46 rfl (lv_at hl 0 rfl) ?_
    refine lv_aload_n hx hb d_Ma_cycle_47 rfl (lv_at hl 0 rfl) ?_
    refine mw_g_0_6 B hP k_128 d_Ma_cycle_48 ?_
    refine lv_iconst (v := (0 : Int32)) hx hb d_Ma_cycle_51 (by decide) ?_
    obtain ⟨z1, hcz1, hF⟩ := dm_bind hF
    refine dm_callVw B [.ref (h 0), .int (0 : Int32)] (c_Ma_move_0 l G g h (0 : Int32) v f w z1 hcz1) k_382 k_384 ks_2 k_2 k_385 hd_Ma_move_0 rfl ⟨by decide, by decide⟩ 0 rfl rfl hP hD hS hl.1 (rest := []) rfl (Nat.le_of_ble_eq_true rfl) d_Ma_cycle_52 ⟨by decide, by decide⟩ (fun ov w' H locs hq hP hD hS => ?_)
    obtain ⟨rfl, rfl⟩ := hq
    have hP : va_P G.1 dm_cl (mw G g h z1.1 z1.2.1 z1.2.2) H := hP
    have hD : va_D A (mw G g h z1.1 z1.2.1 z1.2.2) := hD
    refine W.eq (g2 := F0 m 55 ls []) rfl ?_
    refine lv_aload_n hx hb d_Ma_cycle_55 rfl (lv_at hl 0 rfl) ?_
    refine lv_aload_n hx hb d_Ma_cycle_56 rfl (lv_at hl 0 rfl) ?_
    refine mw_g_0_7 B hP k_129 d_Ma_cycle_57 ?_
    refine lv_iconst (v := (1 : Int32)) hx hb d_Ma_cycle_60 (by decide) ?_
    obtain ⟨z2, hcz2, hF⟩ := dm_bind hF
    refine dm_callVw B [.ref (h 1), .int (1 : Int32)] (c_Ma_move_1 l G g h (1 : Int32) z1.1 z1.2.1 z1.2.2 z2 hcz2) k_382 k_384 ks_2 k_2 k_385 hd_Ma_move_1 rfl ⟨by decide, by decide⟩ 0 rfl rfl hP hD hS hl.1 (rest := []) rfl (Nat.le_of_ble_eq_true rfl) d_Ma_cycle_61 ⟨by decide, by decide⟩ (fun ov w' H locs hq hP hD hS => ?_)
    obtain ⟨rfl, rfl⟩ := hq
    have hP : va_P G.1 dm_cl (mw G g h z2.1 z2.2.1 z2.2.2) H := hP
    have hD : va_D A (mw G g h z2.1 z2.2.1 z2.2.2) := hD
    refine W.eq (g2 := F0 m 64 ls []) rfl ?_
    refine lv_aload_n hx hb d_Ma_cycle_64 rfl (lv_at hl 0 rfl) ?_
    refine mw_g_0_14 (x := (z2.1 14)) B hP rfl k_142 d_Ma_cycle_65 ?_
    refine lv_if_ne (tgt := 96) hx hb d_Ma_cycle_68 (by decide) (fun (hh : ¬ (z2.1 14) = (0 : Int32)) => ?_) (fun (hh : (z2.1 14) = (0 : Int32)) => ?_)
    · rw [if_neg hh] at hF
      exact K96 ls _ _ h z2.1 z2.2.1 z2.2.2 (lv_sub hl [0] rfl) hP hD hS hF
    · rw [if_pos hh] at hF
      refine lv_aload_n hx hb d_Ma_cycle_71 rfl (lv_at hl 0 rfl) ?_
      refine mw_g_0_2 B hP k_119 d_Ma_cycle_72 ?_
      refine lv_aload_n hx hb d_Ma_cycle_75 rfl (lv_at hl 0 rfl) ?_
      refine mw_g_0_1 B hP k_115 d_Ma_cycle_76 ?_
      refine lv_bipush (v := (8 : Int32)) hx hb d_Ma_cycle_79 (by decide) ?_
      refine dm_aald (v := .ref (g 18)) B hP 2 3 rfl rfl (by unfold vp_in; decide) rfl d_Ma_cycle_81 ?_
      refine lv_aload_n hx hb d_Ma_cycle_82 rfl (lv_at hl 0 rfl) ?_
      refine mw_g_0_1 B hP k_115 d_Ma_cycle_83 ?_
      refine lv_bipush (v := (7 : Int32)) hx hb d_Ma_cycle_86 (by decide) ?_
      refine dm_aald (v := .ref (g 17)) B hP 2 3 rfl rfl (by unfold vp_in; decide) rfl d_Ma_cycle_88 ?_
      refine lv_iconst (v := (0 : Int32)) hx hb d_Ma_cycle_89 (by decide) ?_
      obtain ⟨z3, hcz3, hF⟩ := dm_bind hF
      refine dm_callVw B [.int (0 : Int32)] (c_Li_at_7 l G g h (0 : Int32) z2.1 z2.2.1 z2.2.2 z3 hcz3) k_463 k_401 k_402 k_6 k_403 hd_Li_at_7 rfl ⟨by decide, by decide⟩ 21 rfl rfl hP hD hS hl.1 (rest := [.ref (g 18), .ref (g 3)]) rfl (Nat.le_of_ble_eq_true rfl) d_Ma_cycle_90 ⟨by decide, by decide⟩ (fun ov w' H locs hq hP hD hS => ?_)
      obtain ⟨rfl, rfl⟩ := hq
      have hP : va_P G.1 dm_cl (mw G g h z2.1 z2.2.1 z2.2.2) H := hP
      have hD : va_D A (mw G g h z2.1 z2.2.1 z2.2.2) := hD
      refine W.eq (g2 := F0 m 93 ls [.int z3, .ref (g 18), .ref (g 3)]) rfl ?_
      obtain ⟨z4, hcz4, hF⟩ := dm_bind hF
      refine dm_callVw B [.ref (g 18), .int z3] (c_Mu_work l G g h z3 z2.1 z2.2.1 z2.2.2 z4 hcz4) k_464 k_465 k_466 k_3 k_467 hd_Mu_work rfl ⟨by decide, by decide⟩ 3 rfl rfl hP hD hS hl.1 (rest := []) rfl (Nat.le_of_ble_eq_true rfl) d_Ma_cycle_93 ⟨by decide, by decide⟩ (fun ov w' H locs hq hP hD hS => ?_)
      obtain ⟨rfl, rfl⟩ := hq
      have hP : va_P G.1 dm_cl (mw G g h z4.1 z4.2.1 z4.2.2) H := hP
      have hD : va_D A (mw G g h z4.1 z4.2.1 z4.2.2) := hD
      refine W.eq (g2 := F0 m 96 ls []) rfl ?_
      exact K96 ls _ _ h z4.1 z4.2.1 z4.2.2 (lv_sub hl [0] rfl) hP hD hS hF
  have K37 : ∀ (ls : Array Slot) (H : Heap) (locs : List Loc) (s0 : Int32) (h : Nat → Nat) (v : Nat → Int32) (f : Nat → Nat → Int32) (w : Nat → Nat), lv_has ls 2 [(0, .ref (g 0))] → va_P G.1 dm_cl (mw G g h v f w) H → va_D A (mw G g h v f w) → va_S A s.heap H locs → F_Ma_cycle_37  s0 h v f w = some RES → W p l e rm_Ma_cycle s m ([.ref (g 0)] : List Value).toArray below meth c H locs 0 0 (dm_Z below G s ([.ref (g 0)] : List Value).toArray A rm_Ma_cycle.cells rm_Ma_cycle.slots (fun ov w' => ov = none ∧ w' = (mw G g RES.1 RES.2.1 RES.2.2.1 RES.2.2.2))) (F0 m 37 ls [.int s0]) := by
    intro ls H locs s0 h v f w hl hP hD hS hF
    have hF : (if s0 = (0 : Int32) then (F_Ma_cycle_46  h v f w) else (Option.bind (F_Ma_fetch  h v f w) (fun z1 => (F_Ma_cycle_46  z1.1 z1.2.1 z1.2.2.1 z1.2.2.2)))) = some RES := hF
    refine lv_istore_n (lv' := [(1, .int s0), (0, .ref (g 0))]) hx hb d_Ma_cycle_37 rfl hl (Nat.le_of_ble_eq_true rfl) rfl (fun ls hl => ?_)
    have hl : lv_has ls 2 [(0, .ref (g 0)), (1, .int s0)] := lv_sub hl [1, 0] rfl
    refine lv_iload_n hx hb d_Ma_cycle_38 rfl (lv_at hl 1 rfl) ?_
    refine lv_if_eq (tgt := 46) hx hb d_Ma_cycle_39 (by decide) (fun (hh : s0 = (0 : Int32)) => ?_) (fun (hh : ¬ s0 = (0 : Int32)) => ?_)
    · rw [if_pos hh] at hF
      exact K46 ls _ _ h v f w (lv_sub hl [0] rfl) hP hD hS hF
    · rw [if_neg hh] at hF
      refine lv_aload_n hx hb d_Ma_cycle_42 rfl (lv_at hl 0 rfl) ?_
      obtain ⟨z1, hcz1, hF⟩ := dm_bind hF
      refine dm_callVw B [] (c_Ma_fetch l G g  h v f w z1 hcz1) k_378 k_380 ks_1 k_2 k_381 hd_Ma_fetch rfl ⟨by decide, by decide⟩ 0 rfl rfl hP hD hS hl.1 (rest := []) rfl (Nat.le_of_ble_eq_true rfl) d_Ma_cycle_43 ⟨by decide, by decide⟩ (fun ov w' H locs hq hP hD hS => ?_)
      obtain ⟨rfl, rfl⟩ := hq
      have hP : va_P G.1 dm_cl (mw G g z1.1 z1.2.1 z1.2.2.1 z1.2.2.2) H := hP
      have hD : va_D A (mw G g z1.1 z1.2.1 z1.2.2.1 z1.2.2.2) := hD
      refine W.eq (g2 := F0 m 46 ls []) rfl ?_
      exact K46 ls _ _ z1.1 z1.2.1 z1.2.2.1 z1.2.2.2 (lv_sub hl [0] rfl) hP hD hS hF
  have K29 : ∀ (ls : Array Slot) (H : Heap) (locs : List Loc) (s0 : Int32) (s1 : Int32) (h : Nat → Nat) (v : Nat → Int32) (f : Nat → Nat → Int32) (w : Nat → Nat), lv_has ls 2 [(0, .ref (g 0))] → va_P G.1 dm_cl (mw G g h v f w) H → va_D A (mw G g h v f w) → va_S A s.heap H locs → F_Ma_cycle_29  s0 s1 h v f w = some RES → W p l e rm_Ma_cycle s m ([.ref (g 0)] : List Value).toArray below meth c H locs 0 0 (dm_Z below G s ([.ref (g 0)] : List Value).toArray A rm_Ma_cycle.cells rm_Ma_cycle.slots (fun ov w' => ov = none ∧ w' = (mw G g RES.1 RES.2.1 RES.2.2.1 RES.2.2.2))) (F0 m 29 ls [.int s1, .int s0]) := by
    intro ls H locs s0 s1 h v f w hl hP hD hS hF
    have hF : (if s0 = s1 then (F_Ma_cycle_37  (1 : Int32) h v f w) else (F_Ma_cycle_37  (0 : Int32) h v f w)) = some RES := hF
    refine lv_icmp_ne (tgt := 36) hx hb d_Ma_cycle_29 (by decide) (fun (hh : ¬ s0 = s1) => ?_) (fun (hh : s0 = s1) => ?_)
    · rw [if_neg hh] at hF
      refine lv_iconst (v := (0 : Int32)) hx hb d_Ma_cycle_36 (by decide) ?_
      exact K37 ls _ _ (0 : Int32) h v f w (lv_sub hl [0] rfl) hP hD hS hF
    · rw [if_pos hh] at hF
      refine lv_iconst (v := (1 : Int32)) hx hb d_Ma_cycle_32 (by decide) ?_
      refine lv_goto (tgt := 37) hx hb d_Ma_cycle_33 (by decide) ?_
      exact K37 ls _ _ (1 : Int32) h v f w (lv_sub hl [0] rfl) hP hD hS hF
  have hF : (if (v 13) = (0 : Int32) then (F_Ma_cycle_29  (v 8) (v 12) h (va_up v 14 (0 : Int32)) f w) else (F_Ma_cycle_29  (v 8) ((v 12) + (1 : Int32)) h (va_up v 14 (0 : Int32)) f w)) = some RES := hF
  refine lv_aload_n hx hb d_Ma_cycle_0 rfl (lv_at hl 0 rfl) ?_
  refine lv_iconst (v := (0 : Int32)) hx hb d_Ma_cycle_1 (by decide) ?_
  refine mw_p_0_14 (x := (0 : Int32)) B hP hD hS (by decide) k_142 d_Ma_cycle_2 (fun H locs hP hD hS => ?_)
  refine lv_aload_n hx hb d_Ma_cycle_5 rfl (lv_at hl 0 rfl) ?_
  refine mw_g_0_8 (x := (v 8)) B hP rfl k_130 d_Ma_cycle_6 ?_
  refine lv_aload_n hx hb d_Ma_cycle_9 rfl (lv_at hl 0 rfl) ?_
  refine mw_g_0_13 (x := (v 13)) B hP rfl k_140 d_Ma_cycle_10 ?_
  refine lv_if_eq (tgt := 25) hx hb d_Ma_cycle_13 (by decide) (fun (hh : (v 13) = (0 : Int32)) => ?_) (fun (hh : ¬ (v 13) = (0 : Int32)) => ?_)
  · rw [if_pos hh] at hF
    refine lv_aload_n hx hb d_Ma_cycle_25 rfl (lv_at hl 0 rfl) ?_
    refine mw_g_0_12 (x := (v 12)) B hP rfl k_138 d_Ma_cycle_26 ?_
    exact K29 ls _ _ (v 8) (v 12) h (va_up v 14 (0 : Int32)) f w (lv_sub hl [0] rfl) hP hD hS hF
  · rw [if_neg hh] at hF
    refine lv_aload_n hx hb d_Ma_cycle_16 rfl (lv_at hl 0 rfl) ?_
    refine mw_g_0_12 (x := (v 12)) B hP rfl k_138 d_Ma_cycle_17 ?_
    refine lv_iconst (v := (1 : Int32)) hx hb d_Ma_cycle_20 (by decide) ?_
    refine lv_iadd hx hb d_Ma_cycle_21 ?_
    refine lv_goto (tgt := 29) hx hb d_Ma_cycle_22 (by decide) ?_
    exact K29 ls _ _ (v 8) ((v 12) + (1 : Int32)) h (va_up v 14 (0 : Int32)) f w (lv_sub hl [0] rfl) hP hD hS hF
abbrev b_DM_within : ByteArray := prog_1_method_2_code
abbrev y_DM_within : MethodName := { cls := "DelayMachine", name := "within", desc := "(II)Z" }
theorem d_DM_within_0 : decode b_DM_within 0 = .ok (.iload_n 0, 1) := by decide +kernel
theorem d_DM_within_1 : decode b_DM_within 1 = .ok (.ifCond .lt (12), 3) := by decide +kernel
theorem d_DM_within_4 : decode b_DM_within 4 = .ok (.iload_n 0, 1) := by decide +kernel
theorem d_DM_within_5 : decode b_DM_within 5 = .ok (.iload_n 1, 1) := by decide +kernel
theorem d_DM_within_6 : decode b_DM_within 6 = .ok (.if_icmp .ge (7), 3) := by decide +kernel
theorem d_DM_within_9 : decode b_DM_within 9 = .ok (.iconst 1, 1) := by decide +kernel
theorem d_DM_within_10 : decode b_DM_within 10 = .ok (.goto (4), 3) := by decide +kernel
theorem d_DM_within_13 : decode b_DM_within 13 = .ok (.iconst 0, 1) := by decide +kernel
theorem d_DM_within_14 : decode b_DM_within 14 = .ok (.ireturn, 1) := by decide +kernel
theorem hd_DM_within : y_DM_within.cls ≠ "java/lang/invoke/MethodHandle" ∧ y_DM_within.cls ≠ "java/lang/invoke/VarHandle" ∧ (parseMethodDescriptor y_DM_within.desc).map (fun d => d.parameters.length) = some 2 := by decide +kernel
abbrev rm_DM_within : Room := { frames := 0, cells := 0, slots := 0, locals := 0 }
def F_DM_within_13 (x0 x1 : Int32)     : Option (Int32) := (some (0 : Int32))
def F_DM_within (x0 x1 : Int32)   : Option (Int32) := (if x0 < (0 : Int32) then (F_DM_within_13 x0 x1) else (if x1 ≤ x0 then (F_DM_within_13 x0 x1) else (some (1 : Int32))))
set_option maxHeartbeats 4000000 in
set_option maxRecDepth 100000 in
theorem c_DM_within (l : Launch) (G : dm_G)  (w : va_W) (x0 x1 : Int32)  (RES : Int32) (hF : F_DM_within x0 x1 = some RES) : dm_Ct l y_DM_within b_DM_within 2 (some .boolean) rm_DM_within G w [.int x0, .int x1] (fun ov w' => ov = some (.int RES) ∧ w' = w) := by
  refine dm_Ct.of (by decide +kernel) (Nat.le_of_ble_eq_true rfl) ?_
  intro p e s m below meth c A ls B hl hP hD hS
  have hx := B.1
  have hb := B.2.1
  have hl : lv_has ls 2 [(0, .int x0), (1, .int x1)] := hl
  have K13 : ∀ (ls : Array Slot) (H : Heap) (locs : List Loc)  , lv_has ls 2 [] → va_P G.1 dm_cl w H → va_D A w → va_S A s.heap H locs → F_DM_within_13 x0 x1   = some RES → W p l e rm_DM_within s m ([.int x0, .int x1] : List Value).toArray below meth c H locs 0 0 (dm_Z below G s ([.int x0, .int x1] : List Value).toArray A rm_DM_within.cells rm_DM_within.slots (fun ov w' => ov = some (.int RES) ∧ w' = w)) (F0 m 13 ls []) := by
    intro ls H locs  hl hP hD hS hF
    have hF : (some (0 : Int32)) = some RES := hF
    refine lv_iconst (v := (0 : Int32)) hx hb d_DM_within_13 (by decide) ?_
    have hF := Option.some.inj hF
    subst hF
    exact dm_ret B (by decide) d_DM_within_14 (by decide) (by decide) hP hD hS ⟨rfl, rfl⟩
  have hF : (if x0 < (0 : Int32) then (F_DM_within_13 x0 x1) else (if x1 ≤ x0 then (F_DM_within_13 x0 x1) else (some (1 : Int32)))) = some RES := hF
  refine lv_iload_n hx hb d_DM_within_0 rfl (lv_at hl 0 rfl) ?_
  refine lv_if_lt (tgt := 13) hx hb d_DM_within_1 (by decide) (fun (hh : x0 < (0 : Int32)) => ?_) (fun (hh : ¬ x0 < (0 : Int32)) => ?_)
  · rw [if_pos hh] at hF
    exact K13 ls _ _  (lv_sub hl [] rfl) hP hD hS hF
  · rw [if_neg hh] at hF
    refine lv_iload_n hx hb d_DM_within_4 rfl (lv_at hl 0 rfl) ?_
    refine lv_iload_n hx hb d_DM_within_5 rfl (lv_at hl 1 rfl) ?_
    refine lv_icmp_ge (tgt := 13) hx hb d_DM_within_6 (by decide) (fun (hh : x1 ≤ x0) => ?_) (fun (hh : ¬ x1 ≤ x0) => ?_)
    · rw [if_pos hh] at hF
      exact K13 ls _ _  (lv_sub hl [] rfl) hP hD hS hF
    · rw [if_neg hh] at hF
      refine lv_iconst (v := (1 : Int32)) hx hb d_DM_within_9 (by decide) ?_
      refine lv_goto (tgt := 14) hx hb d_DM_within_10 (by decide) ?_
      have hF := Option.some.inj hF
      subst hF
      exact dm_ret B (by decide) d_DM_within_14 (by decide) (by decide) hP hD hS ⟨rfl, rfl⟩
abbrev b_DM_order : ByteArray := prog_1_method_3_code
abbrev y_DM_order : MethodName := { cls := "DelayMachine", name := "order", desc := "(III)Z" }
theorem d_DM_order_0 : decode b_DM_order 0 = .ok (.iload_n 1, 1) := by decide +kernel
theorem d_DM_order_1 : decode b_DM_order 1 = .ok (.iconst 2, 1) := by decide +kernel
theorem d_DM_order_2 : decode b_DM_order 2 = .ok (.invokestatic 27, 3) := by decide +kernel
theorem d_DM_order_5 : decode b_DM_order 5 = .ok (.ifCond .eq (21), 3) := by decide +kernel
theorem d_DM_order_8 : decode b_DM_order 8 = .ok (.iload_n 2, 1) := by decide +kernel
theorem d_DM_order_9 : decode b_DM_order 9 = .ok (.bipush (32), 2) := by decide +kernel
theorem d_DM_order_11 : decode b_DM_order 11 = .ok (.invokestatic 27, 3) := by decide +kernel
theorem d_DM_order_14 : decode b_DM_order 14 = .ok (.ifCond .eq (12), 3) := by decide +kernel
theorem d_DM_order_17 : decode b_DM_order 17 = .ok (.iload_n 3, 1) := by decide +kernel
theorem d_DM_order_18 : decode b_DM_order 18 = .ok (.ldc 31, 2) := by decide +kernel
theorem d_DM_order_20 : decode b_DM_order 20 = .ok (.invokestatic 27, 3) := by decide +kernel
theorem d_DM_order_23 : decode b_DM_order 23 = .ok (.ifCond .ne (5), 3) := by decide +kernel
theorem d_DM_order_26 : decode b_DM_order 26 = .ok (.iconst 0, 1) := by decide +kernel
theorem d_DM_order_27 : decode b_DM_order 27 = .ok (.ireturn, 1) := by decide +kernel
theorem d_DM_order_28 : decode b_DM_order 28 = .ok (.aload_n 0, 1) := by decide +kernel
theorem d_DM_order_29 : decode b_DM_order 29 = .ok (.getfield 14, 3) := by decide +kernel
theorem d_DM_order_32 : decode b_DM_order 32 = .ok (.getfield 32, 3) := by decide +kernel
theorem d_DM_order_35 : decode b_DM_order 35 = .ok (.bipush (32), 2) := by decide +kernel
theorem d_DM_order_37 : decode b_DM_order 37 = .ok (.iload_n 1, 1) := by decide +kernel
theorem d_DM_order_38 : decode b_DM_order 38 = .ok (.imul, 1) := by decide +kernel
theorem d_DM_order_39 : decode b_DM_order 39 = .ok (.iload_n 2, 1) := by decide +kernel
theorem d_DM_order_40 : decode b_DM_order 40 = .ok (.iadd, 1) := by decide +kernel
theorem d_DM_order_41 : decode b_DM_order 41 = .ok (.iload_n 3, 1) := by decide +kernel
theorem d_DM_order_42 : decode b_DM_order 42 = .ok (.iastore, 1) := by decide +kernel
theorem d_DM_order_43 : decode b_DM_order 43 = .ok (.iconst 1, 1) := by decide +kernel
theorem d_DM_order_44 : decode b_DM_order 44 = .ok (.ireturn, 1) := by decide +kernel
theorem hd_DM_order : y_DM_order.cls ≠ "java/lang/invoke/MethodHandle" ∧ y_DM_order.cls ≠ "java/lang/invoke/VarHandle" ∧ (parseMethodDescriptor y_DM_order.desc).map (fun d => d.parameters.length) = some 3 := by decide +kernel
abbrev rm_DM_order : Room := { frames := 1, cells := 0, slots := 0, locals := 21 }
def F_DM_order_26 (x1 x2 x3 : Int32)    (v : Nat → Int32) (f : Nat → Nat → Int32) (w : Nat → Nat) : Option (Int32 × (Nat → Int32) × (Nat → Nat → Int32) × (Nat → Nat)) := (some ((0 : Int32), v, f, w))
def F_DM_order (x1 x2 x3 : Int32)  (v : Nat → Int32) (f : Nat → Nat → Int32) (w : Nat → Nat) : Option (Int32 × (Nat → Int32) × (Nat → Nat → Int32) × (Nat → Nat)) := (Option.bind (F_DM_within x1 (2 : Int32)) (fun z1 => (if z1 = (0 : Int32) then (F_DM_order_26 x1 x2 x3 v f w) else (Option.bind (F_DM_within x2 (32 : Int32)) (fun z2 => (if z2 = (0 : Int32) then (F_DM_order_26 x1 x2 x3 v f w) else (Option.bind (F_DM_within x3 (2097152 : Int32)) (fun z3 => (if z3 = (0 : Int32) then (F_DM_order_26 x1 x2 x3 v f w) else (if (((32 : Int32) * x1) + x2) < 0 ∨ 64 ≤ (((32 : Int32) * x1) + x2).toNatClampNeg then none else (some ((1 : Int32), v, (va_up f 0 (upd (f 0) (((32 : Int32) * x1) + x2).toNatClampNeg x3)), w))))))))))))
set_option maxHeartbeats 4000000 in
set_option maxRecDepth 100000 in
theorem c_DM_order (l : Launch) (G : dm_G) (g h : Nat → Nat) (x1 x2 x3 : Int32) (v : Nat → Int32) (f : Nat → Nat → Int32) (w : Nat → Nat) (RES : Int32 × (Nat → Int32) × (Nat → Nat → Int32) × (Nat → Nat)) (hF : F_DM_order x1 x2 x3 v f w = some RES) : dm_Ct l y_DM_order b_DM_order 4 (some .boolean) rm_DM_order G (mw G g h v f w) [.ref (g 90), .int x1, .int x2, .int x3] (fun ov w' => ov = some (.int RES.1) ∧ w' = (mw G g h RES.2.1 RES.2.2.1 RES.2.2.2)) := by
  refine dm_Ct.of (by decide +kernel) (Nat.le_of_ble_eq_true rfl) ?_
  intro p e s m below meth c A ls B hl hP hD hS
  have hx := B.1
  have hb := B.2.1
  have hl : lv_has ls 4 [(0, .ref (g 90)), (1, .int x1), (2, .int x2), (3, .int x3)] := hl
  have K26 : ∀ (ls : Array Slot) (H : Heap) (locs : List Loc)  (v : Nat → Int32) (f : Nat → Nat → Int32) (w : Nat → Nat), lv_has ls 4 [] → va_P G.1 dm_cl (mw G g h v f w) H → va_D A (mw G g h v f w) → va_S A s.heap H locs → F_DM_order_26 x1 x2 x3  v f w = some RES → W p l e rm_DM_order s m ([.ref (g 90), .int x1, .int x2, .int x3] : List Value).toArray below meth c H locs 0 0 (dm_Z below G s ([.ref (g 90), .int x1, .int x2, .int x3] : List Value).toArray A rm_DM_order.cells rm_DM_order.slots (fun ov w' => ov = some (.int RES.1) ∧ w' = (mw G g h RES.2.1 RES.2.2.1 RES.2.2.2))) (F0 m 26 ls []) := by
    intro ls H locs v f w hl hP hD hS hF
    have hF : (some ((0 : Int32), v, f, w)) = some RES := hF
    refine lv_iconst (v := (0 : Int32)) hx hb d_DM_order_26 (by decide) ?_
    have hF := Option.some.inj hF
    subst hF
    exact dm_ret B (by decide) d_DM_order_27 (by decide) (by decide) hP hD hS ⟨rfl, rfl⟩
  have hF : (Option.bind (F_DM_within x1 (2 : Int32)) (fun z1 => (if z1 = (0 : Int32) then (F_DM_order_26 x1 x2 x3 v f w) else (Option.bind (F_DM_within x2 (32 : Int32)) (fun z2 => (if z2 = (0 : Int32) then (F_DM_order_26 x1 x2 x3 v f w) else (Option.bind (F_DM_within x3 (2097152 : Int32)) (fun z3 => (if z3 = (0 : Int32) then (F_DM_order_26 x1 x2 x3 v f w) else (if (((32 : Int32) * x1) + x2) < 0 ∨ 64 ≤ (((32 : Int32) * x1) + x2).toNatClampNeg then none else (some ((1 : Int32), v, (va_up f 0 (upd (f 0) (((32 : Int32) * x1) + x2).toNatClampNeg x3)), w)))))))))))) = some RES := hF
  refine lv_iload_n hx hb d_DM_order_0 rfl (lv_at hl 1 rfl) ?_
  refine lv_iconst (v := (2 : Int32)) hx hb d_DM_order_1 (by decide) ?_
  obtain ⟨z1, hcz1, hF⟩ := dm_bind hF
  refine dm_callSw B [.int x1, .int (2 : Int32)] (c_DM_within l G (mw G g h v f w) x1 (2 : Int32) z1 hcz1) k_334 k_335 k_1 k_336 hd_DM_within rfl ⟨by decide, by decide⟩ hP hD hS hl.1 (rest := []) rfl (Nat.le_of_ble_eq_true rfl) d_DM_order_2 ⟨by decide, by decide⟩ (fun ov w' H locs hq hP hD hS => ?_)
  obtain ⟨rfl, rfl⟩ := hq
  have hP : va_P G.1 dm_cl (mw G g h v f w) H := hP
  have hD : va_D A (mw G g h v f w) := hD
  refine W.eq (g2 := F0 m 5 ls [.int z1]) rfl ?_
  refine lv_if_eq (tgt := 26) hx hb d_DM_order_5 (by decide) (fun (hh : z1 = (0 : Int32)) => ?_) (fun (hh : ¬ z1 = (0 : Int32)) => ?_)
  · rw [if_pos hh] at hF
    exact K26 ls _ _ v f w (lv_sub hl [] rfl) hP hD hS hF
  · rw [if_neg hh] at hF
    refine lv_iload_n hx hb d_DM_order_8 rfl (lv_at hl 2 rfl) ?_
    refine lv_bipush (v := (32 : Int32)) hx hb d_DM_order_9 (by decide) ?_
    obtain ⟨z2, hcz2, hF⟩ := dm_bind hF
    refine dm_callSw B [.int x2, .int (32 : Int32)] (c_DM_within l G (mw G g h v f w) x2 (32 : Int32) z2 hcz2) k_334 k_335 k_1 k_336 hd_DM_within rfl ⟨by decide, by decide⟩ hP hD hS hl.1 (rest := []) rfl (Nat.le_of_ble_eq_true rfl) d_DM_order_11 ⟨by decide, by decide⟩ (fun ov w' H locs hq hP hD hS => ?_)
    obtain ⟨rfl, rfl⟩ := hq
    have hP : va_P G.1 dm_cl (mw G g h v f w) H := hP
    have hD : va_D A (mw G g h v f w) := hD
    refine W.eq (g2 := F0 m 14 ls [.int z2]) rfl ?_
    refine lv_if_eq (tgt := 26) hx hb d_DM_order_14 (by decide) (fun (hh : z2 = (0 : Int32)) => ?_) (fun (hh : ¬ z2 = (0 : Int32)) => ?_)
    · rw [if_pos hh] at hF
      exact K26 ls _ _ v f w (lv_sub hl [] rfl) hP hD hS hF
    · rw [if_neg hh] at hF
      refine lv_iload_n hx hb d_DM_order_17 rfl (lv_at hl 3 rfl) ?_
      refine dm_ldc B k_337 d_DM_order_18 ?_
      obtain ⟨z3, hcz3, hF⟩ := dm_bind hF
      refine dm_callSw B [.int x3, .int (2097152 : Int32)] (c_DM_within l G (mw G g h v f w) x3 (2097152 : Int32) z3 hcz3) k_334 k_335 k_1 k_336 hd_DM_within rfl ⟨by decide, by decide⟩ hP hD hS hl.1 (rest := []) rfl (Nat.le_of_ble_eq_true rfl) d_DM_order_20 ⟨by decide, by decide⟩ (fun ov w' H locs hq hP hD hS => ?_)
      obtain ⟨rfl, rfl⟩ := hq
      have hP : va_P G.1 dm_cl (mw G g h v f w) H := hP
      have hD : va_D A (mw G g h v f w) := hD
      refine W.eq (g2 := F0 m 23 ls [.int z3]) rfl ?_
      refine lv_if_ne (tgt := 28) hx hb d_DM_order_23 (by decide) (fun (hh : ¬ z3 = (0 : Int32)) => ?_) (fun (hh : z3 = (0 : Int32)) => ?_)
      · rw [if_neg hh] at hF
        refine lv_aload_n hx hb d_DM_order_28 rfl (lv_at hl 0 rfl) ?_
        refine mw_g_50_0 B hP k_323 d_DM_order_29 ?_
        refine mw_gn_0_0 B hP k_114 d_DM_order_32 ?_
        refine lv_bipush (v := (32 : Int32)) hx hb d_DM_order_35 (by decide) ?_
        refine lv_iload_n hx hb d_DM_order_37 rfl (lv_at hl 1 rfl) ?_
        refine lv_imul hx hb d_DM_order_38 ?_
        refine lv_iload_n hx hb d_DM_order_39 rfl (lv_at hl 2 rfl) ?_
        refine lv_iadd hx hb d_DM_order_40 ?_
        refine lv_iload_n hx hb d_DM_order_41 rfl (lv_at hl 3 rfl) ?_
        obtain ⟨hi, hF⟩ := dm_chk hF
        refine mw_s_1 (F := (f 0)) B hP hD hS rfl hi d_DM_order_42 (fun H locs hP hD hS => ?_)
        refine lv_iconst (v := (1 : Int32)) hx hb d_DM_order_43 (by decide) ?_
        have hF := Option.some.inj hF
        subst hF
        exact dm_ret B (by decide) d_DM_order_44 (by decide) (by decide) hP hD hS ⟨rfl, rfl⟩
      · rw [if_pos hh] at hF
        exact K26 ls _ _ v f w (lv_sub hl [] rfl) hP hD hS hF
abbrev b_DM_there : ByteArray := prog_1_method_4_code
abbrev y_DM_there : MethodName := { cls := "DelayMachine", name := "there", desc := "(II)Z" }
theorem d_DM_there_0 : decode b_DM_there 0 = .ok (.iload_n 1, 1) := by decide +kernel
theorem d_DM_there_1 : decode b_DM_there 1 = .ok (.iconst 2, 1) := by decide +kernel
theorem d_DM_there_2 : decode b_DM_there 2 = .ok (.if_icmp .lt (29), 3) := by decide +kernel
theorem d_DM_there_5 : decode b_DM_there 5 = .ok (.iload_n 1, 1) := by decide +kernel
theorem d_DM_there_6 : decode b_DM_there 6 = .ok (.bipush (8), 2) := by decide +kernel
theorem d_DM_there_8 : decode b_DM_there 8 = .ok (.if_icmp .gt (23), 3) := by decide +kernel
theorem d_DM_there_11 : decode b_DM_there 11 = .ok (.aload_n 0, 1) := by decide +kernel
theorem d_DM_there_12 : decode b_DM_there 12 = .ok (.getfield 14, 3) := by decide +kernel
theorem d_DM_there_15 : decode b_DM_there 15 = .ok (.getfield 36, 3) := by decide +kernel
theorem d_DM_there_18 : decode b_DM_there 18 = .ok (.iload_n 1, 1) := by decide +kernel
theorem d_DM_there_19 : decode b_DM_there 19 = .ok (.aaload, 1) := by decide +kernel
theorem d_DM_there_20 : decode b_DM_there 20 = .ok (.iload_n 2, 1) := by decide +kernel
theorem d_DM_there_21 : decode b_DM_there 21 = .ok (.invokevirtual 40, 3) := by decide +kernel
theorem d_DM_there_24 : decode b_DM_there 24 = .ok (.ifCond .eq (7), 3) := by decide +kernel
theorem d_DM_there_27 : decode b_DM_there 27 = .ok (.iconst 1, 1) := by decide +kernel
theorem d_DM_there_28 : decode b_DM_there 28 = .ok (.goto (4), 3) := by decide +kernel
theorem d_DM_there_31 : decode b_DM_there 31 = .ok (.iconst 0, 1) := by decide +kernel
theorem d_DM_there_32 : decode b_DM_there 32 = .ok (.ireturn, 1) := by decide +kernel
theorem hd_DM_there : y_DM_there.cls ≠ "java/lang/invoke/MethodHandle" ∧ y_DM_there.cls ≠ "java/lang/invoke/VarHandle" ∧ (parseMethodDescriptor y_DM_there.desc).map (fun d => d.parameters.length) = some 2 := by decide +kernel
abbrev rm_DM_there : Room := { frames := 1, cells := 0, slots := 0, locals := 21 }
def F_DM_there_31 (x1 x2 : Int32) (v : Nat → Int32) (f : Nat → Nat → Int32) (w : Nat → Nat)    : Option (Int32) := (some (0 : Int32))
def F_DM_there (x1 x2 : Int32) (v : Nat → Int32) (f : Nat → Nat → Int32) (w : Nat → Nat)  : Option (Int32) := (if x1 < (2 : Int32) then (F_DM_there_31 x1 x2 v f w) else (if (8 : Int32) < x1 then (F_DM_there_31 x1 x2 v f w) else (if x1 < 0 ∨ 9 ≤ x1.toNatClampNeg then none else (if x1.toNatClampNeg = 2 then (Option.bind (F_Li_has_2 x2 v f w) (fun z1 => (if z1 = (0 : Int32) then (F_DM_there_31 x1 x2 v f w) else (some (1 : Int32))))) else (if x1.toNatClampNeg = 3 then (Option.bind (F_Li_has_3 x2 v f w) (fun z2 => (if z2 = (0 : Int32) then (F_DM_there_31 x1 x2 v f w) else (some (1 : Int32))))) else (if x1.toNatClampNeg = 4 then (Option.bind (F_Li_has_4 x2 v f w) (fun z3 => (if z3 = (0 : Int32) then (F_DM_there_31 x1 x2 v f w) else (some (1 : Int32))))) else (if x1.toNatClampNeg = 5 then (Option.bind (F_Li_has_5 x2 v f w) (fun z4 => (if z4 = (0 : Int32) then (F_DM_there_31 x1 x2 v f w) else (some (1 : Int32))))) else (if x1.toNatClampNeg = 6 then (Option.bind (F_Li_has_6 x2 v f w) (fun z5 => (if z5 = (0 : Int32) then (F_DM_there_31 x1 x2 v f w) else (some (1 : Int32))))) else (if x1.toNatClampNeg = 7 then (Option.bind (F_Li_has_7 x2 v f w) (fun z6 => (if z6 = (0 : Int32) then (F_DM_there_31 x1 x2 v f w) else (some (1 : Int32))))) else (if x1.toNatClampNeg = 8 then (Option.bind (F_Li_has_8 x2 v f w) (fun z7 => (if z7 = (0 : Int32) then (F_DM_there_31 x1 x2 v f w) else (some (1 : Int32))))) else none))))))))))
set_option maxHeartbeats 4000000 in
set_option maxRecDepth 100000 in
theorem c_DM_there (l : Launch) (G : dm_G) (g h : Nat → Nat) (x1 x2 : Int32) (v : Nat → Int32) (f : Nat → Nat → Int32) (w : Nat → Nat) (RES : Int32) (hF : F_DM_there x1 x2 v f w = some RES) : dm_Ct l y_DM_there b_DM_there 3 (some .boolean) rm_DM_there G (mw G g h v f w) [.ref (g 90), .int x1, .int x2] (fun ov w' => ov = some (.int RES) ∧ w' = (mw G g h v f w)) := by
  refine dm_Ct.of (by decide +kernel) (Nat.le_of_ble_eq_true rfl) ?_
  intro p e s m below meth c A ls B hl hP hD hS
  have hx := B.1
  have hb := B.2.1
  have hl : lv_has ls 3 [(0, .ref (g 90)), (1, .int x1), (2, .int x2)] := hl
  have K31 : ∀ (ls : Array Slot) (H : Heap) (locs : List Loc)  , lv_has ls 3 [] → va_P G.1 dm_cl (mw G g h v f w) H → va_D A (mw G g h v f w) → va_S A s.heap H locs → F_DM_there_31 x1 x2 v f w   = some RES → W p l e rm_DM_there s m ([.ref (g 90), .int x1, .int x2] : List Value).toArray below meth c H locs 0 0 (dm_Z below G s ([.ref (g 90), .int x1, .int x2] : List Value).toArray A rm_DM_there.cells rm_DM_there.slots (fun ov w' => ov = some (.int RES) ∧ w' = (mw G g h v f w))) (F0 m 31 ls []) := by
    intro ls H locs  hl hP hD hS hF
    have hF : (some (0 : Int32)) = some RES := hF
    refine lv_iconst (v := (0 : Int32)) hx hb d_DM_there_31 (by decide) ?_
    have hF := Option.some.inj hF
    subst hF
    exact dm_ret B (by decide) d_DM_there_32 (by decide) (by decide) hP hD hS ⟨rfl, rfl⟩
  have hF : (if x1 < (2 : Int32) then (F_DM_there_31 x1 x2 v f w) else (if (8 : Int32) < x1 then (F_DM_there_31 x1 x2 v f w) else (if x1 < 0 ∨ 9 ≤ x1.toNatClampNeg then none else (if x1.toNatClampNeg = 2 then (Option.bind (F_Li_has_2 x2 v f w) (fun z1 => (if z1 = (0 : Int32) then (F_DM_there_31 x1 x2 v f w) else (some (1 : Int32))))) else (if x1.toNatClampNeg = 3 then (Option.bind (F_Li_has_3 x2 v f w) (fun z2 => (if z2 = (0 : Int32) then (F_DM_there_31 x1 x2 v f w) else (some (1 : Int32))))) else (if x1.toNatClampNeg = 4 then (Option.bind (F_Li_has_4 x2 v f w) (fun z3 => (if z3 = (0 : Int32) then (F_DM_there_31 x1 x2 v f w) else (some (1 : Int32))))) else (if x1.toNatClampNeg = 5 then (Option.bind (F_Li_has_5 x2 v f w) (fun z4 => (if z4 = (0 : Int32) then (F_DM_there_31 x1 x2 v f w) else (some (1 : Int32))))) else (if x1.toNatClampNeg = 6 then (Option.bind (F_Li_has_6 x2 v f w) (fun z5 => (if z5 = (0 : Int32) then (F_DM_there_31 x1 x2 v f w) else (some (1 : Int32))))) else (if x1.toNatClampNeg = 7 then (Option.bind (F_Li_has_7 x2 v f w) (fun z6 => (if z6 = (0 : Int32) then (F_DM_there_31 x1 x2 v f w) else (some (1 : Int32))))) else (if x1.toNatClampNeg = 8 then (Option.bind (F_Li_has_8 x2 v f w) (fun z7 => (if z7 = (0 : Int32) then (F_DM_there_31 x1 x2 v f w) else (some (1 : Int32))))) else none)))))))))) = some RES := hF
  refine lv_iload_n hx hb d_DM_there_0 rfl (lv_at hl 1 rfl) ?_
  refine lv_iconst (v := (2 : Int32)) hx hb d_DM_there_1 (by decide) ?_
  refine lv_icmp_lt (tgt := 31) hx hb d_DM_there_2 (by decide) (fun (hh : x1 < (2 : Int32)) => ?_) (fun (hh : ¬ x1 < (2 : Int32)) => ?_)
  · rw [if_pos hh] at hF
    exact K31 ls _ _  (lv_sub hl [] rfl) hP hD hS hF
  · rw [if_neg hh] at hF
    refine lv_iload_n hx hb d_DM_there_5 rfl (lv_at hl 1 rfl) ?_
    refine lv_bipush (v := (8 : Int32)) hx hb d_DM_there_6 (by decide) ?_
    refine lv_icmp_gt (tgt := 31) hx hb d_DM_there_8 (by decide) (fun (hh : (8 : Int32) < x1) => ?_) (fun (hh : ¬ (8 : Int32) < x1) => ?_)
    · rw [if_pos hh] at hF
      exact K31 ls _ _  (lv_sub hl [] rfl) hP hD hS hF
    · rw [if_neg hh] at hF
      refine lv_aload_n hx hb d_DM_there_11 rfl (lv_at hl 0 rfl) ?_
      refine mw_g_50_0 B hP k_323 d_DM_there_12 ?_
      refine mw_gn_0_1 B hP k_118 d_DM_there_15 ?_
      refine lv_iload_n hx hb d_DM_there_18 rfl (lv_at hl 1 rfl) ?_
      obtain ⟨hi, hF⟩ := dm_chk hF
      refine dm_aald (v := va_rf (ml g x1.toNatClampNeg)) B hP 2 3 rfl rfl hi rfl d_DM_there_19 ?_
      refine lv_iload_n hx hb d_DM_there_20 rfl (lv_at hl 2 rfl) ?_
      by_cases hk2 : x1.toNatClampNeg = 2
      · rw [if_pos hk2] at hF
        refine W.eq (g2 := F0 m 21 ls [.int x2, .ref (g 12)]) (by rw [hk2]; rfl) ?_
        obtain ⟨z1, hcz1, hF⟩ := dm_bind hF
        refine dm_callVw B [.int x2] (c_Li_has_2 l G g h x2 v f w z1 hcz1) k_346 k_347 k_348 k_6 k_349 hd_Li_has_2 rfl ⟨by decide, by decide⟩ 11 rfl rfl hP hD hS hl.1 (rest := []) rfl (Nat.le_of_ble_eq_true rfl) d_DM_there_21 ⟨by decide, by decide⟩ (fun ov w' H locs hq hP hD hS => ?_)
        obtain ⟨rfl, rfl⟩ := hq
        have hP : va_P G.1 dm_cl (mw G g h v f w) H := hP
        have hD : va_D A (mw G g h v f w) := hD
        refine W.eq (g2 := F0 m 24 ls [.int z1]) rfl ?_
        refine lv_if_eq (tgt := 31) hx hb d_DM_there_24 (by decide) (fun (hh : z1 = (0 : Int32)) => ?_) (fun (hh : ¬ z1 = (0 : Int32)) => ?_)
        · rw [if_pos hh] at hF
          exact K31 ls _ _  (lv_sub hl [] rfl) hP hD hS hF
        · rw [if_neg hh] at hF
          refine lv_iconst (v := (1 : Int32)) hx hb d_DM_there_27 (by decide) ?_
          refine lv_goto (tgt := 32) hx hb d_DM_there_28 (by decide) ?_
          have hF := Option.some.inj hF
          subst hF
          exact dm_ret B (by decide) d_DM_there_32 (by decide) (by decide) hP hD hS ⟨rfl, rfl⟩
      rw [if_neg hk2] at hF
      by_cases hk3 : x1.toNatClampNeg = 3
      · rw [if_pos hk3] at hF
        refine W.eq (g2 := F0 m 21 ls [.int x2, .ref (g 13)]) (by rw [hk3]; rfl) ?_
        obtain ⟨z2, hcz2, hF⟩ := dm_bind hF
        refine dm_callVw B [.int x2] (c_Li_has_3 l G g h x2 v f w z2 hcz2) k_346 k_347 k_348 k_6 k_349 hd_Li_has_3 rfl ⟨by decide, by decide⟩ 13 rfl rfl hP hD hS hl.1 (rest := []) rfl (Nat.le_of_ble_eq_true rfl) d_DM_there_21 ⟨by decide, by decide⟩ (fun ov w' H locs hq hP hD hS => ?_)
        obtain ⟨rfl, rfl⟩ := hq
        have hP : va_P G.1 dm_cl (mw G g h v f w) H := hP
        have hD : va_D A (mw G g h v f w) := hD
        refine W.eq (g2 := F0 m 24 ls [.int z2]) rfl ?_
        refine lv_if_eq (tgt := 31) hx hb d_DM_there_24 (by decide) (fun (hh : z2 = (0 : Int32)) => ?_) (fun (hh : ¬ z2 = (0 : Int32)) => ?_)
        · rw [if_pos hh] at hF
          exact K31 ls _ _  (lv_sub hl [] rfl) hP hD hS hF
        · rw [if_neg hh] at hF
          refine lv_iconst (v := (1 : Int32)) hx hb d_DM_there_27 (by decide) ?_
          refine lv_goto (tgt := 32) hx hb d_DM_there_28 (by decide) ?_
          have hF := Option.some.inj hF
          subst hF
          exact dm_ret B (by decide) d_DM_there_32 (by decide) (by decide) hP hD hS ⟨rfl, rfl⟩
      rw [if_neg hk3] at hF
      by_cases hk4 : x1.toNatClampNeg = 4
      · rw [if_pos hk4] at hF
        refine W.eq (g2 := F0 m 21 ls [.int x2, .ref (g 14)]) (by rw [hk4]; rfl) ?_
        obtain ⟨z3, hcz3, hF⟩ := dm_bind hF
        refine dm_callVw B [.int x2] (c_Li_has_4 l G g h x2 v f w z3 hcz3) k_346 k_347 k_348 k_6 k_349 hd_Li_has_4 rfl ⟨by decide, by decide⟩ 15 rfl rfl hP hD hS hl.1 (rest := []) rfl (Nat.le_of_ble_eq_true rfl) d_DM_there_21 ⟨by decide, by decide⟩ (fun ov w' H locs hq hP hD hS => ?_)
        obtain ⟨rfl, rfl⟩ := hq
        have hP : va_P G.1 dm_cl (mw G g h v f w) H := hP
        have hD : va_D A (mw G g h v f w) := hD
        refine W.eq (g2 := F0 m 24 ls [.int z3]) rfl ?_
        refine lv_if_eq (tgt := 31) hx hb d_DM_there_24 (by decide) (fun (hh : z3 = (0 : Int32)) => ?_) (fun (hh : ¬ z3 = (0 : Int32)) => ?_)
        · rw [if_pos hh] at hF
          exact K31 ls _ _  (lv_sub hl [] rfl) hP hD hS hF
        · rw [if_neg hh] at hF
          refine lv_iconst (v := (1 : Int32)) hx hb d_DM_there_27 (by decide) ?_
          refine lv_goto (tgt := 32) hx hb d_DM_there_28 (by decide) ?_
          have hF := Option.some.inj hF
          subst hF
          exact dm_ret B (by decide) d_DM_there_32 (by decide) (by decide) hP hD hS ⟨rfl, rfl⟩
      rw [if_neg hk4] at hF
      by_cases hk5 : x1.toNatClampNeg = 5
      · rw [if_pos hk5] at hF
        refine W.eq (g2 := F0 m 21 ls [.int x2, .ref (g 15)]) (by rw [hk5]; rfl) ?_
        obtain ⟨z4, hcz4, hF⟩ := dm_bind hF
        refine dm_callVw B [.int x2] (c_Li_has_5 l G g h x2 v f w z4 hcz4) k_346 k_347 k_348 k_6 k_349 hd_Li_has_5 rfl ⟨by decide, by decide⟩ 17 rfl rfl hP hD hS hl.1 (rest := []) rfl (Nat.le_of_ble_eq_true rfl) d_DM_there_21 ⟨by decide, by decide⟩ (fun ov w' H locs hq hP hD hS => ?_)
        obtain ⟨rfl, rfl⟩ := hq
        have hP : va_P G.1 dm_cl (mw G g h v f w) H := hP
        have hD : va_D A (mw G g h v f w) := hD
        refine W.eq (g2 := F0 m 24 ls [.int z4]) rfl ?_
        refine lv_if_eq (tgt := 31) hx hb d_DM_there_24 (by decide) (fun (hh : z4 = (0 : Int32)) => ?_) (fun (hh : ¬ z4 = (0 : Int32)) => ?_)
        · rw [if_pos hh] at hF
          exact K31 ls _ _  (lv_sub hl [] rfl) hP hD hS hF
        · rw [if_neg hh] at hF
          refine lv_iconst (v := (1 : Int32)) hx hb d_DM_there_27 (by decide) ?_
          refine lv_goto (tgt := 32) hx hb d_DM_there_28 (by decide) ?_
          have hF := Option.some.inj hF
          subst hF
          exact dm_ret B (by decide) d_DM_there_32 (by decide) (by decide) hP hD hS ⟨rfl, rfl⟩
      rw [if_neg hk5] at hF
      by_cases hk6 : x1.toNatClampNeg = 6
      · rw [if_pos hk6] at hF
        refine W.eq (g2 := F0 m 21 ls [.int x2, .ref (g 16)]) (by rw [hk6]; rfl) ?_
        obtain ⟨z5, hcz5, hF⟩ := dm_bind hF
        refine dm_callVw B [.int x2] (c_Li_has_6 l G g h x2 v f w z5 hcz5) k_346 k_347 k_348 k_6 k_349 hd_Li_has_6 rfl ⟨by decide, by decide⟩ 19 rfl rfl hP hD hS hl.1 (rest := []) rfl (Nat.le_of_ble_eq_true rfl) d_DM_there_21 ⟨by decide, by decide⟩ (fun ov w' H locs hq hP hD hS => ?_)
        obtain ⟨rfl, rfl⟩ := hq
        have hP : va_P G.1 dm_cl (mw G g h v f w) H := hP
        have hD : va_D A (mw G g h v f w) := hD
        refine W.eq (g2 := F0 m 24 ls [.int z5]) rfl ?_
        refine lv_if_eq (tgt := 31) hx hb d_DM_there_24 (by decide) (fun (hh : z5 = (0 : Int32)) => ?_) (fun (hh : ¬ z5 = (0 : Int32)) => ?_)
        · rw [if_pos hh] at hF
          exact K31 ls _ _  (lv_sub hl [] rfl) hP hD hS hF
        · rw [if_neg hh] at hF
          refine lv_iconst (v := (1 : Int32)) hx hb d_DM_there_27 (by decide) ?_
          refine lv_goto (tgt := 32) hx hb d_DM_there_28 (by decide) ?_
          have hF := Option.some.inj hF
          subst hF
          exact dm_ret B (by decide) d_DM_there_32 (by decide) (by decide) hP hD hS ⟨rfl, rfl⟩
      rw [if_neg hk6] at hF
      by_cases hk7 : x1.toNatClampNeg = 7
      · rw [if_pos hk7] at hF
        refine W.eq (g2 := F0 m 21 ls [.int x2, .ref (g 17)]) (by rw [hk7]; rfl) ?_
        obtain ⟨z6, hcz6, hF⟩ := dm_bind hF
        refine dm_callVw B [.int x2] (c_Li_has_7 l G g h x2 v f w z6 hcz6) k_346 k_347 k_348 k_6 k_349 hd_Li_has_7 rfl ⟨by decide, by decide⟩ 21 rfl rfl hP hD hS hl.1 (rest := []) rfl (Nat.le_of_ble_eq_true rfl) d_DM_there_21 ⟨by decide, by decide⟩ (fun ov w' H locs hq hP hD hS => ?_)
        obtain ⟨rfl, rfl⟩ := hq
        have hP : va_P G.1 dm_cl (mw G g h v f w) H := hP
        have hD : va_D A (mw G g h v f w) := hD
        refine W.eq (g2 := F0 m 24 ls [.int z6]) rfl ?_
        refine lv_if_eq (tgt := 31) hx hb d_DM_there_24 (by decide) (fun (hh : z6 = (0 : Int32)) => ?_) (fun (hh : ¬ z6 = (0 : Int32)) => ?_)
        · rw [if_pos hh] at hF
          exact K31 ls _ _  (lv_sub hl [] rfl) hP hD hS hF
        · rw [if_neg hh] at hF
          refine lv_iconst (v := (1 : Int32)) hx hb d_DM_there_27 (by decide) ?_
          refine lv_goto (tgt := 32) hx hb d_DM_there_28 (by decide) ?_
          have hF := Option.some.inj hF
          subst hF
          exact dm_ret B (by decide) d_DM_there_32 (by decide) (by decide) hP hD hS ⟨rfl, rfl⟩
      rw [if_neg hk7] at hF
      by_cases hk8 : x1.toNatClampNeg = 8
      · rw [if_pos hk8] at hF
        refine W.eq (g2 := F0 m 21 ls [.int x2, .ref (g 18)]) (by rw [hk8]; rfl) ?_
        obtain ⟨z7, hcz7, hF⟩ := dm_bind hF
        refine dm_callVw B [.int x2] (c_Li_has_8 l G g h x2 v f w z7 hcz7) k_346 k_347 k_348 k_6 k_349 hd_Li_has_8 rfl ⟨by decide, by decide⟩ 23 rfl rfl hP hD hS hl.1 (rest := []) rfl (Nat.le_of_ble_eq_true rfl) d_DM_there_21 ⟨by decide, by decide⟩ (fun ov w' H locs hq hP hD hS => ?_)
        obtain ⟨rfl, rfl⟩ := hq
        have hP : va_P G.1 dm_cl (mw G g h v f w) H := hP
        have hD : va_D A (mw G g h v f w) := hD
        refine W.eq (g2 := F0 m 24 ls [.int z7]) rfl ?_
        refine lv_if_eq (tgt := 31) hx hb d_DM_there_24 (by decide) (fun (hh : z7 = (0 : Int32)) => ?_) (fun (hh : ¬ z7 = (0 : Int32)) => ?_)
        · rw [if_pos hh] at hF
          exact K31 ls _ _  (lv_sub hl [] rfl) hP hD hS hF
        · rw [if_neg hh] at hF
          refine lv_iconst (v := (1 : Int32)) hx hb d_DM_there_27 (by decide) ?_
          refine lv_goto (tgt := 32) hx hb d_DM_there_28 (by decide) ?_
          have hF := Option.some.inj hF
          subst hF
          exact dm_ret B (by decide) d_DM_there_32 (by decide) (by decide) hP hD hS ⟨rfl, rfl⟩
      rw [if_neg hk8] at hF
      cases hF
abbrev b_DM_word : ByteArray := prog_1_method_5_code
abbrev y_DM_word : MethodName := { cls := "DelayMachine", name := "word", desc := "(IIS)Z" }
theorem d_DM_word_0 : decode b_DM_word 0 = .ok (.aload_n 0, 1) := by decide +kernel
theorem d_DM_word_1 : decode b_DM_word 1 = .ok (.iload_n 1, 1) := by decide +kernel
theorem d_DM_word_2 : decode b_DM_word 2 = .ok (.iload_n 2, 1) := by decide +kernel
theorem d_DM_word_3 : decode b_DM_word 3 = .ok (.invokevirtual 46, 3) := by decide +kernel
theorem d_DM_word_6 : decode b_DM_word 6 = .ok (.ifCond .ne (5), 3) := by decide +kernel
theorem d_DM_word_9 : decode b_DM_word 9 = .ok (.iconst 0, 1) := by decide +kernel
theorem d_DM_word_10 : decode b_DM_word 10 = .ok (.ireturn, 1) := by decide +kernel
theorem d_DM_word_11 : decode b_DM_word 11 = .ok (.aload_n 0, 1) := by decide +kernel
theorem d_DM_word_12 : decode b_DM_word 12 = .ok (.getfield 14, 3) := by decide +kernel
theorem d_DM_word_15 : decode b_DM_word 15 = .ok (.getfield 36, 3) := by decide +kernel
theorem d_DM_word_18 : decode b_DM_word 18 = .ok (.iload_n 1, 1) := by decide +kernel
theorem d_DM_word_19 : decode b_DM_word 19 = .ok (.aaload, 1) := by decide +kernel
theorem d_DM_word_20 : decode b_DM_word 20 = .ok (.getfield 49, 3) := by decide +kernel
theorem d_DM_word_23 : decode b_DM_word 23 = .ok (.iload_n 2, 1) := by decide +kernel
theorem d_DM_word_24 : decode b_DM_word 24 = .ok (.iload_n 3, 1) := by decide +kernel
theorem d_DM_word_25 : decode b_DM_word 25 = .ok (.sastore, 1) := by decide +kernel
theorem d_DM_word_26 : decode b_DM_word 26 = .ok (.iconst 1, 1) := by decide +kernel
theorem d_DM_word_27 : decode b_DM_word 27 = .ok (.ireturn, 1) := by decide +kernel
theorem hd_DM_word : y_DM_word.cls ≠ "java/lang/invoke/MethodHandle" ∧ y_DM_word.cls ≠ "java/lang/invoke/VarHandle" ∧ (parseMethodDescriptor y_DM_word.desc).map (fun d => d.parameters.length) = some 3 := by decide +kernel
abbrev rm_DM_word : Room := { frames := 2, cells := 0, slots := 0, locals := 43 }
def F_DM_word (x1 x2 x3 : Int32)  (v : Nat → Int32) (f : Nat → Nat → Int32) (w : Nat → Nat) : Option (Int32 × (Nat → Int32) × (Nat → Nat → Int32) × (Nat → Nat)) := (Option.bind (F_DM_there x1 x2 v f w) (fun z1 => (if z1 = (0 : Int32) then (some ((0 : Int32), v, f, w)) else (if x1 < 0 ∨ 9 ≤ x1.toNatClampNeg then none else (if x1.toNatClampNeg = 2 then (if x2 < 0 ∨ 32 ≤ x2.toNatClampNeg then none else (some ((1 : Int32), v, (va_up f 2 (upd (f 2) x2.toNatClampNeg x3.toInt16.toInt32)), w))) else (if x1.toNatClampNeg = 3 then (if x2 < 0 ∨ 32 ≤ x2.toNatClampNeg then none else (some ((1 : Int32), v, (va_up f 3 (upd (f 3) x2.toNatClampNeg x3.toInt16.toInt32)), w))) else (if x1.toNatClampNeg = 4 then (if x2 < 0 ∨ 32 ≤ x2.toNatClampNeg then none else (some ((1 : Int32), v, (va_up f 4 (upd (f 4) x2.toNatClampNeg x3.toInt16.toInt32)), w))) else (if x1.toNatClampNeg = 5 then (if x2 < 0 ∨ 32 ≤ x2.toNatClampNeg then none else (some ((1 : Int32), v, (va_up f 5 (upd (f 5) x2.toNatClampNeg x3.toInt16.toInt32)), w))) else (if x1.toNatClampNeg = 6 then (if x2 < 0 ∨ 1 ≤ x2.toNatClampNeg then none else (some ((1 : Int32), v, (va_up f 6 (upd (f 6) x2.toNatClampNeg x3.toInt16.toInt32)), w))) else (if x1.toNatClampNeg = 7 then (if x2 < 0 ∨ 1 ≤ x2.toNatClampNeg then none else (some ((1 : Int32), v, (va_up f 7 (upd (f 7) x2.toNatClampNeg x3.toInt16.toInt32)), w))) else (if x1.toNatClampNeg = 8 then (if x2 < 0 ∨ 2 ≤ x2.toNatClampNeg then none else (some ((1 : Int32), v, (va_up f 8 (upd (f 8) x2.toNatClampNeg x3.toInt16.toInt32)), w))) else none)))))))))))
set_option maxHeartbeats 4000000 in
set_option maxRecDepth 100000 in
theorem c_DM_word (l : Launch) (G : dm_G) (g h : Nat → Nat) (x1 x2 x3 : Int32) (v : Nat → Int32) (f : Nat → Nat → Int32) (w : Nat → Nat) (RES : Int32 × (Nat → Int32) × (Nat → Nat → Int32) × (Nat → Nat)) (hF : F_DM_word x1 x2 x3 v f w = some RES) : dm_Ct l y_DM_word b_DM_word 4 (some .boolean) rm_DM_word G (mw G g h v f w) [.ref (g 90), .int x1, .int x2, .int x3] (fun ov w' => ov = some (.int RES.1) ∧ w' = (mw G g h RES.2.1 RES.2.2.1 RES.2.2.2)) := by
  refine dm_Ct.of (by decide +kernel) (Nat.le_of_ble_eq_true rfl) ?_
  intro p e s m below meth c A ls B hl hP hD hS
  have hx := B.1
  have hb := B.2.1
  have hl : lv_has ls 4 [(0, .ref (g 90)), (1, .int x1), (2, .int x2), (3, .int x3)] := hl
  have hF : (Option.bind (F_DM_there x1 x2 v f w) (fun z1 => (if z1 = (0 : Int32) then (some ((0 : Int32), v, f, w)) else (if x1 < 0 ∨ 9 ≤ x1.toNatClampNeg then none else (if x1.toNatClampNeg = 2 then (if x2 < 0 ∨ 32 ≤ x2.toNatClampNeg then none else (some ((1 : Int32), v, (va_up f 2 (upd (f 2) x2.toNatClampNeg x3.toInt16.toInt32)), w))) else (if x1.toNatClampNeg = 3 then (if x2 < 0 ∨ 32 ≤ x2.toNatClampNeg then none else (some ((1 : Int32), v, (va_up f 3 (upd (f 3) x2.toNatClampNeg x3.toInt16.toInt32)), w))) else (if x1.toNatClampNeg = 4 then (if x2 < 0 ∨ 32 ≤ x2.toNatClampNeg then none else (some ((1 : Int32), v, (va_up f 4 (upd (f 4) x2.toNatClampNeg x3.toInt16.toInt32)), w))) else (if x1.toNatClampNeg = 5 then (if x2 < 0 ∨ 32 ≤ x2.toNatClampNeg then none else (some ((1 : Int32), v, (va_up f 5 (upd (f 5) x2.toNatClampNeg x3.toInt16.toInt32)), w))) else (if x1.toNatClampNeg = 6 then (if x2 < 0 ∨ 1 ≤ x2.toNatClampNeg then none else (some ((1 : Int32), v, (va_up f 6 (upd (f 6) x2.toNatClampNeg x3.toInt16.toInt32)), w))) else (if x1.toNatClampNeg = 7 then (if x2 < 0 ∨ 1 ≤ x2.toNatClampNeg then none else (some ((1 : Int32), v, (va_up f 7 (upd (f 7) x2.toNatClampNeg x3.toInt16.toInt32)), w))) else (if x1.toNatClampNeg = 8 then (if x2 < 0 ∨ 2 ≤ x2.toNatClampNeg then none else (some ((1 : Int32), v, (va_up f 8 (upd (f 8) x2.toNatClampNeg x3.toInt16.toInt32)), w))) else none))))))))))) = some RES := hF
  refine lv_aload_n hx hb d_DM_word_0 rfl (lv_at hl 0 rfl) ?_
  refine lv_iload_n hx hb d_DM_word_1 rfl (lv_at hl 1 rfl) ?_
  refine lv_iload_n hx hb d_DM_word_2 rfl (lv_at hl 2 rfl) ?_
  obtain ⟨z1, hcz1, hF⟩ := dm_bind hF
  refine dm_callVw B [.int x1, .int x2] (c_DM_there l G g h x1 x2 v f w z1 hcz1) k_342 k_344 ks_0 k_1 k_345 hd_DM_there rfl ⟨by decide, by decide⟩ 50 rfl rfl hP hD hS hl.1 (rest := []) rfl (Nat.le_of_ble_eq_true rfl) d_DM_word_3 ⟨by decide, by decide⟩ (fun ov w' H locs hq hP hD hS => ?_)
  obtain ⟨rfl, rfl⟩ := hq
  have hP : va_P G.1 dm_cl (mw G g h v f w) H := hP
  have hD : va_D A (mw G g h v f w) := hD
  refine W.eq (g2 := F0 m 6 ls [.int z1]) rfl ?_
  refine lv_if_ne (tgt := 11) hx hb d_DM_word_6 (by decide) (fun (hh : ¬ z1 = (0 : Int32)) => ?_) (fun (hh : z1 = (0 : Int32)) => ?_)
  · rw [if_neg hh] at hF
    refine lv_aload_n hx hb d_DM_word_11 rfl (lv_at hl 0 rfl) ?_
    refine mw_g_50_0 B hP k_323 d_DM_word_12 ?_
    refine mw_gn_0_1 B hP k_118 d_DM_word_15 ?_
    refine lv_iload_n hx hb d_DM_word_18 rfl (lv_at hl 1 rfl) ?_
    obtain ⟨hi, hF⟩ := dm_chk hF
    refine dm_aald (v := va_rf (ml g x1.toNatClampNeg)) B hP 2 3 rfl rfl hi rfl d_DM_word_19 ?_
    by_cases hk2 : x1.toNatClampNeg = 2
    · rw [if_pos hk2] at hF
      refine W.eq (g2 := F0 m 20 ls [.ref (g 12)]) (by rw [hk2]; rfl) ?_
      refine mw_gn_11_0 B hP k_209 d_DM_word_20 ?_
      refine lv_iload_n hx hb d_DM_word_23 rfl (lv_at hl 2 rfl) ?_
      refine lv_iload_n hx hb d_DM_word_24 rfl (lv_at hl 3 rfl) ?_
      obtain ⟨hi, hF⟩ := dm_chk hF
      refine mw_s_12 (F := (f 2)) B hP hD hS rfl hi d_DM_word_25 (fun H locs hP hD hS => ?_)
      refine lv_iconst (v := (1 : Int32)) hx hb d_DM_word_26 (by decide) ?_
      have hF := Option.some.inj hF
      subst hF
      exact dm_ret B (by decide) d_DM_word_27 (by decide) (by decide) hP hD hS ⟨rfl, rfl⟩
    rw [if_neg hk2] at hF
    by_cases hk3 : x1.toNatClampNeg = 3
    · rw [if_pos hk3] at hF
      refine W.eq (g2 := F0 m 20 ls [.ref (g 13)]) (by rw [hk3]; rfl) ?_
      refine mw_gn_13_0 B hP k_209 d_DM_word_20 ?_
      refine lv_iload_n hx hb d_DM_word_23 rfl (lv_at hl 2 rfl) ?_
      refine lv_iload_n hx hb d_DM_word_24 rfl (lv_at hl 3 rfl) ?_
      obtain ⟨hi, hF⟩ := dm_chk hF
      refine mw_s_14 (F := (f 3)) B hP hD hS rfl hi d_DM_word_25 (fun H locs hP hD hS => ?_)
      refine lv_iconst (v := (1 : Int32)) hx hb d_DM_word_26 (by decide) ?_
      have hF := Option.some.inj hF
      subst hF
      exact dm_ret B (by decide) d_DM_word_27 (by decide) (by decide) hP hD hS ⟨rfl, rfl⟩
    rw [if_neg hk3] at hF
    by_cases hk4 : x1.toNatClampNeg = 4
    · rw [if_pos hk4] at hF
      refine W.eq (g2 := F0 m 20 ls [.ref (g 14)]) (by rw [hk4]; rfl) ?_
      refine mw_gn_15_0 B hP k_209 d_DM_word_20 ?_
      refine lv_iload_n hx hb d_DM_word_23 rfl (lv_at hl 2 rfl) ?_
      refine lv_iload_n hx hb d_DM_word_24 rfl (lv_at hl 3 rfl) ?_
      obtain ⟨hi, hF⟩ := dm_chk hF
      refine mw_s_16 (F := (f 4)) B hP hD hS rfl hi d_DM_word_25 (fun H locs hP hD hS => ?_)
      refine lv_iconst (v := (1 : Int32)) hx hb d_DM_word_26 (by decide) ?_
      have hF := Option.some.inj hF
      subst hF
      exact dm_ret B (by decide) d_DM_word_27 (by decide) (by decide) hP hD hS ⟨rfl, rfl⟩
    rw [if_neg hk4] at hF
    by_cases hk5 : x1.toNatClampNeg = 5
    · rw [if_pos hk5] at hF
      refine W.eq (g2 := F0 m 20 ls [.ref (g 15)]) (by rw [hk5]; rfl) ?_
      refine mw_gn_17_0 B hP k_209 d_DM_word_20 ?_
      refine lv_iload_n hx hb d_DM_word_23 rfl (lv_at hl 2 rfl) ?_
      refine lv_iload_n hx hb d_DM_word_24 rfl (lv_at hl 3 rfl) ?_
      obtain ⟨hi, hF⟩ := dm_chk hF
      refine mw_s_18 (F := (f 5)) B hP hD hS rfl hi d_DM_word_25 (fun H locs hP hD hS => ?_)
      refine lv_iconst (v := (1 : Int32)) hx hb d_DM_word_26 (by decide) ?_
      have hF := Option.some.inj hF
      subst hF
      exact dm_ret B (by decide) d_DM_word_27 (by decide) (by decide) hP hD hS ⟨rfl, rfl⟩
    rw [if_neg hk5] at hF
    by_cases hk6 : x1.toNatClampNeg = 6
    · rw [if_pos hk6] at hF
      refine W.eq (g2 := F0 m 20 ls [.ref (g 16)]) (by rw [hk6]; rfl) ?_
      refine mw_gn_19_0 B hP k_209 d_DM_word_20 ?_
      refine lv_iload_n hx hb d_DM_word_23 rfl (lv_at hl 2 rfl) ?_
      refine lv_iload_n hx hb d_DM_word_24 rfl (lv_at hl 3 rfl) ?_
      obtain ⟨hi, hF⟩ := dm_chk hF
      refine mw_s_20 (F := (f 6)) B hP hD hS rfl hi d_DM_word_25 (fun H locs hP hD hS => ?_)
      refine lv_iconst (v := (1 : Int32)) hx hb d_DM_word_26 (by decide) ?_
      have hF := Option.some.inj hF
      subst hF
      exact dm_ret B (by decide) d_DM_word_27 (by decide) (by decide) hP hD hS ⟨rfl, rfl⟩
    rw [if_neg hk6] at hF
    by_cases hk7 : x1.toNatClampNeg = 7
    · rw [if_pos hk7] at hF
      refine W.eq (g2 := F0 m 20 ls [.ref (g 17)]) (by rw [hk7]; rfl) ?_
      refine mw_gn_21_0 B hP k_209 d_DM_word_20 ?_
      refine lv_iload_n hx hb d_DM_word_23 rfl (lv_at hl 2 rfl) ?_
      refine lv_iload_n hx hb d_DM_word_24 rfl (lv_at hl 3 rfl) ?_
      obtain ⟨hi, hF⟩ := dm_chk hF
      refine mw_s_22 (F := (f 7)) B hP hD hS rfl hi d_DM_word_25 (fun H locs hP hD hS => ?_)
      refine lv_iconst (v := (1 : Int32)) hx hb d_DM_word_26 (by decide) ?_
      have hF := Option.some.inj hF
      subst hF
      exact dm_ret B (by decide) d_DM_word_27 (by decide) (by decide) hP hD hS ⟨rfl, rfl⟩
    rw [if_neg hk7] at hF
    by_cases hk8 : x1.toNatClampNeg = 8
    · rw [if_pos hk8] at hF
      refine W.eq (g2 := F0 m 20 ls [.ref (g 18)]) (by rw [hk8]; rfl) ?_
      refine mw_gn_23_0 B hP k_209 d_DM_word_20 ?_
      refine lv_iload_n hx hb d_DM_word_23 rfl (lv_at hl 2 rfl) ?_
      refine lv_iload_n hx hb d_DM_word_24 rfl (lv_at hl 3 rfl) ?_
      obtain ⟨hi, hF⟩ := dm_chk hF
      refine mw_s_24 (F := (f 8)) B hP hD hS rfl hi d_DM_word_25 (fun H locs hP hD hS => ?_)
      refine lv_iconst (v := (1 : Int32)) hx hb d_DM_word_26 (by decide) ?_
      have hF := Option.some.inj hF
      subst hF
      exact dm_ret B (by decide) d_DM_word_27 (by decide) (by decide) hP hD hS ⟨rfl, rfl⟩
    rw [if_neg hk8] at hF
    cases hF
  · rw [if_pos hh] at hF
    refine lv_iconst (v := (0 : Int32)) hx hb d_DM_word_9 (by decide) ?_
    have hF := Option.some.inj hF
    subst hF
    exact dm_ret B (by decide) d_DM_word_10 (by decide) (by decide) hP hD hS ⟨rfl, rfl⟩
abbrev b_DM_card : ByteArray := prog_1_method_6_code
abbrev y_DM_card : MethodName := { cls := "DelayMachine", name := "card", desc := "(S)Z" }
theorem d_DM_card_0 : decode b_DM_card 0 = .ok (.aload_n 0, 1) := by decide +kernel
theorem d_DM_card_1 : decode b_DM_card 1 = .ok (.getfield 14, 3) := by decide +kernel
theorem d_DM_card_4 : decode b_DM_card 4 = .ok (.getfield 53, 3) := by decide +kernel
theorem d_DM_card_7 : decode b_DM_card 7 = .ok (.iload_n 1, 1) := by decide +kernel
theorem d_DM_card_8 : decode b_DM_card 8 = .ok (.invokevirtual 57, 3) := by decide +kernel
theorem d_DM_card_11 : decode b_DM_card 11 = .ok (.ireturn, 1) := by decide +kernel
theorem hd_DM_card : y_DM_card.cls ≠ "java/lang/invoke/MethodHandle" ∧ y_DM_card.cls ≠ "java/lang/invoke/VarHandle" ∧ (parseMethodDescriptor y_DM_card.desc).map (fun d => d.parameters.length) = some 1 := by decide +kernel
abbrev rm_DM_card : Room := { frames := 1, cells := 0, slots := 0, locals := 21 }
def F_DM_card (x1 : Int32)  (v : Nat → Int32) (f : Nat → Nat → Int32) (w : Nat → Nat) : Option (Int32 × (Nat → Int32) × (Nat → Nat → Int32) × (Nat → Nat)) := (Option.bind (F_Re_add x1 v f w) (fun z1 => (if z1.1 = 0 ∨ z1.1 = 1 then (some (z1.1, z1.2.1, z1.2.2.1, z1.2.2.2)) else none)))
set_option maxHeartbeats 4000000 in
set_option maxRecDepth 100000 in
theorem c_DM_card (l : Launch) (G : dm_G) (g h : Nat → Nat) (x1 : Int32) (v : Nat → Int32) (f : Nat → Nat → Int32) (w : Nat → Nat) (RES : Int32 × (Nat → Int32) × (Nat → Nat → Int32) × (Nat → Nat)) (hF : F_DM_card x1 v f w = some RES) : dm_Ct l y_DM_card b_DM_card 2 (some .boolean) rm_DM_card G (mw G g h v f w) [.ref (g 90), .int x1] (fun ov w' => ov = some (.int RES.1) ∧ w' = (mw G g h RES.2.1 RES.2.2.1 RES.2.2.2)) := by
  refine dm_Ct.of (by decide +kernel) (Nat.le_of_ble_eq_true rfl) ?_
  intro p e s m below meth c A ls B hl hP hD hS
  have hx := B.1
  have hb := B.2.1
  have hl : lv_has ls 2 [(0, .ref (g 90)), (1, .int x1)] := hl
  have hF : (Option.bind (F_Re_add x1 v f w) (fun z1 => (if z1.1 = 0 ∨ z1.1 = 1 then (some (z1.1, z1.2.1, z1.2.2.1, z1.2.2.2)) else none))) = some RES := hF
  refine lv_aload_n hx hb d_DM_card_0 rfl (lv_at hl 0 rfl) ?_
  refine mw_g_50_0 B hP k_323 d_DM_card_1 ?_
  refine mw_gn_0_3 B hP k_125 d_DM_card_4 ?_
  refine lv_iload_n hx hb d_DM_card_7 rfl (lv_at hl 1 rfl) ?_
  obtain ⟨z1, hcz1, hF⟩ := dm_bind hF
  refine dm_callVw B [.int x1] (c_Re_add l G g h x1 v f w z1 hcz1) k_354 k_355 k_356 k_4 k_357 hd_Re_add rfl ⟨by decide, by decide⟩ 4 rfl rfl hP hD hS hl.1 (rest := []) rfl (Nat.le_of_ble_eq_true rfl) d_DM_card_8 ⟨by decide, by decide⟩ (fun ov w' H locs hq hP hD hS => ?_)
  obtain ⟨rfl, rfl⟩ := hq
  have hP : va_P G.1 dm_cl (mw G g h z1.2.1 z1.2.2.1 z1.2.2.2) H := hP
  have hD : va_D A (mw G g h z1.2.1 z1.2.2.1 z1.2.2.2) := hD
  refine W.eq (g2 := F0 m 11 ls [.int z1.1]) rfl ?_
  obtain ⟨hz, hF⟩ := dm_ck1 hF
  have hF := Option.some.inj hF
  subst hF
  exact dm_ret B (dm_b01 hz).1 d_DM_card_11 (by decide) (by decide) hP hD hS ⟨rfl, rfl⟩
abbrev b_DM_start : ByteArray := prog_1_method_7_code
abbrev y_DM_start : MethodName := { cls := "DelayMachine", name := "start", desc := "(II)Z" }
theorem d_DM_start_0 : decode b_DM_start 0 = .ok (.iload_n 1, 1) := by decide +kernel
theorem d_DM_start_1 : decode b_DM_start 1 = .ok (.iconst 2, 1) := by decide +kernel
theorem d_DM_start_2 : decode b_DM_start 2 = .ok (.invokestatic 27, 3) := by decide +kernel
theorem d_DM_start_5 : decode b_DM_start 5 = .ok (.ifCond .eq (12), 3) := by decide +kernel
theorem d_DM_start_8 : decode b_DM_start 8 = .ok (.iload_n 2, 1) := by decide +kernel
theorem d_DM_start_9 : decode b_DM_start 9 = .ok (.bipush (32), 2) := by decide +kernel
theorem d_DM_start_11 : decode b_DM_start 11 = .ok (.invokestatic 27, 3) := by decide +kernel
theorem d_DM_start_14 : decode b_DM_start 14 = .ok (.ifCond .ne (5), 3) := by decide +kernel
theorem d_DM_start_17 : decode b_DM_start 17 = .ok (.iconst 0, 1) := by decide +kernel
theorem d_DM_start_18 : decode b_DM_start 18 = .ok (.ireturn, 1) := by decide +kernel
theorem d_DM_start_19 : decode b_DM_start 19 = .ok (.aload_n 0, 1) := by decide +kernel
theorem d_DM_start_20 : decode b_DM_start 20 = .ok (.getfield 14, 3) := by decide +kernel
theorem d_DM_start_23 : decode b_DM_start 23 = .ok (.iload_n 1, 1) := by decide +kernel
theorem d_DM_start_24 : decode b_DM_start 24 = .ok (.iload_n 2, 1) := by decide +kernel
theorem d_DM_start_25 : decode b_DM_start 25 = .ok (.invokevirtual 63, 3) := by decide +kernel
theorem d_DM_start_28 : decode b_DM_start 28 = .ok (.iconst 1, 1) := by decide +kernel
theorem d_DM_start_29 : decode b_DM_start 29 = .ok (.ireturn, 1) := by decide +kernel
theorem hd_DM_start : y_DM_start.cls ≠ "java/lang/invoke/MethodHandle" ∧ y_DM_start.cls ≠ "java/lang/invoke/VarHandle" ∧ (parseMethodDescriptor y_DM_start.desc).map (fun d => d.parameters.length) = some 2 := by decide +kernel
abbrev rm_DM_start : Room := { frames := 2, cells := 0, slots := 0, locals := 42 }
def F_DM_start_17 (x1 x2 : Int32)    (v : Nat → Int32) (f : Nat → Nat → Int32) (w : Nat → Nat) : Option (Int32 × (Nat → Int32) × (Nat → Nat → Int32) × (Nat → Nat)) := (some ((0 : Int32), v, f, w))
def F_DM_start (x1 x2 : Int32)  (v : Nat → Int32) (f : Nat → Nat → Int32) (w : Nat → Nat) : Option (Int32 × (Nat → Int32) × (Nat → Nat → Int32) × (Nat → Nat)) := (Option.bind (F_DM_within x1 (2 : Int32)) (fun z1 => (if z1 = (0 : Int32) then (F_DM_start_17 x1 x2 v f w) else (Option.bind (F_DM_within x2 (32 : Int32)) (fun z2 => (if z2 = (0 : Int32) then (F_DM_start_17 x1 x2 v f w) else (Option.bind (F_Ma_start x1 x2 v f w) (fun z3 => (some ((1 : Int32), z3.1, z3.2.1, z3.2.2))))))))))
set_option maxHeartbeats 4000000 in
set_option maxRecDepth 100000 in
theorem c_DM_start (l : Launch) (G : dm_G) (g h : Nat → Nat) (x1 x2 : Int32) (v : Nat → Int32) (f : Nat → Nat → Int32) (w : Nat → Nat) (RES : Int32 × (Nat → Int32) × (Nat → Nat → Int32) × (Nat → Nat)) (hF : F_DM_start x1 x2 v f w = some RES) : dm_Ct l y_DM_start b_DM_start 3 (some .boolean) rm_DM_start G (mw G g h v f w) [.ref (g 90), .int x1, .int x2] (fun ov w' => ov = some (.int RES.1) ∧ w' = (mw G g h RES.2.1 RES.2.2.1 RES.2.2.2)) := by
  refine dm_Ct.of (by decide +kernel) (Nat.le_of_ble_eq_true rfl) ?_
  intro p e s m below meth c A ls B hl hP hD hS
  have hx := B.1
  have hb := B.2.1
  have hl : lv_has ls 3 [(0, .ref (g 90)), (1, .int x1), (2, .int x2)] := hl
  have K17 : ∀ (ls : Array Slot) (H : Heap) (locs : List Loc)  (v : Nat → Int32) (f : Nat → Nat → Int32) (w : Nat → Nat), lv_has ls 3 [] → va_P G.1 dm_cl (mw G g h v f w) H → va_D A (mw G g h v f w) → va_S A s.heap H locs → F_DM_start_17 x1 x2  v f w = some RES → W p l e rm_DM_start s m ([.ref (g 90), .int x1, .int x2] : List Value).toArray below meth c H locs 0 0 (dm_Z below G s ([.ref (g 90), .int x1, .int x2] : List Value).toArray A rm_DM_start.cells rm_DM_start.slots (fun ov w' => ov = some (.int RES.1) ∧ w' = (mw G g h RES.2.1 RES.2.2.1 RES.2.2.2))) (F0 m 17 ls []) := by
    intro ls H locs v f w hl hP hD hS hF
    have hF : (some ((0 : Int32), v, f, w)) = some RES := hF
    refine lv_iconst (v := (0 : Int32)) hx hb d_DM_start_17 (by decide) ?_
    have hF := Option.some.inj hF
    subst hF
    exact dm_ret B (by decide) d_DM_start_18 (by decide) (by decide) hP hD hS ⟨rfl, rfl⟩
  have hF : (Option.bind (F_DM_within x1 (2 : Int32)) (fun z1 => (if z1 = (0 : Int32) then (F_DM_start_17 x1 x2 v f w) else (Option.bind (F_DM_within x2 (32 : Int32)) (fun z2 => (if z2 = (0 : Int32) then (F_DM_start_17 x1 x2 v f w) else (Option.bind (F_Ma_start x1 x2 v f w) (fun z3 => (some ((1 : Int32), z3.1, z3.2.1, z3.2.2)))))))))) = some RES := hF
  refine lv_iload_n hx hb d_DM_start_0 rfl (lv_at hl 1 rfl) ?_
  refine lv_iconst (v := (2 : Int32)) hx hb d_DM_start_1 (by decide) ?_
  obtain ⟨z1, hcz1, hF⟩ := dm_bind hF
  refine dm_callSw B [.int x1, .int (2 : Int32)] (c_DM_within l G (mw G g h v f w) x1 (2 : Int32) z1 hcz1) k_334 k_335 k_1 k_336 hd_DM_within rfl ⟨by decide, by decide⟩ hP hD hS hl.1 (rest := []) rfl (Nat.le_of_ble_eq_true rfl) d_DM_start_2 ⟨by decide, by decide⟩ (fun ov w' H locs hq hP hD hS => ?_)
  obtain ⟨rfl, rfl⟩ := hq
  have hP : va_P G.1 dm_cl (mw G g h v f w) H := hP
  have hD : va_D A (mw G g h v f w) := hD
  refine W.eq (g2 := F0 m 5 ls [.int z1]) rfl ?_
  refine lv_if_eq (tgt := 17) hx hb d_DM_start_5 (by decide) (fun (hh : z1 = (0 : Int32)) => ?_) (fun (hh : ¬ z1 = (0 : Int32)) => ?_)
  · rw [if_pos hh] at hF
    exact K17 ls _ _ v f w (lv_sub hl [] rfl) hP hD hS hF
  · rw [if_neg hh] at hF
    refine lv_iload_n hx hb d_DM_start_8 rfl (lv_at hl 2 rfl) ?_
    refine lv_bipush (v := (32 : Int32)) hx hb d_DM_start_9 (by decide) ?_
    obtain ⟨z2, hcz2, hF⟩ := dm_bind hF
    refine dm_callSw B [.int x2, .int (32 : Int32)] (c_DM_within l G (mw G g h v f w) x2 (32 : Int32) z2 hcz2) k_334 k_335 k_1 k_336 hd_DM_within rfl ⟨by decide, by decide⟩ hP hD hS hl.1 (rest := []) rfl (Nat.le_of_ble_eq_true rfl) d_DM_start_11 ⟨by decide, by decide⟩ (fun ov w' H locs hq hP hD hS => ?_)
    obtain ⟨rfl, rfl⟩ := hq
    have hP : va_P G.1 dm_cl (mw G g h v f w) H := hP
    have hD : va_D A (mw G g h v f w) := hD
    refine W.eq (g2 := F0 m 14 ls [.int z2]) rfl ?_
    refine lv_if_ne (tgt := 19) hx hb d_DM_start_14 (by decide) (fun (hh : ¬ z2 = (0 : Int32)) => ?_) (fun (hh : z2 = (0 : Int32)) => ?_)
    · rw [if_neg hh] at hF
      refine lv_aload_n hx hb d_DM_start_19 rfl (lv_at hl 0 rfl) ?_
      refine mw_g_50_0 B hP k_323 d_DM_start_20 ?_
      refine lv_iload_n hx hb d_DM_start_23 rfl (lv_at hl 1 rfl) ?_
      refine lv_iload_n hx hb d_DM_start_24 rfl (lv_at hl 2 rfl) ?_
      obtain ⟨z3, hcz3, hF⟩ := dm_bind hF
      refine dm_callVw B [.int x1, .int x2] (c_Ma_start l G g h x1 x2 v f w z3 hcz3) k_362 k_363 k_364 k_2 k_365 hd_Ma_start rfl ⟨by decide, by decide⟩ 0 rfl rfl hP hD hS hl.1 (rest := []) rfl (Nat.le_of_ble_eq_true rfl) d_DM_start_25 ⟨by decide, by decide⟩ (fun ov w' H locs hq hP hD hS => ?_)
      obtain ⟨rfl, rfl⟩ := hq
      have hP : va_P G.1 dm_cl (mw G g h z3.1 z3.2.1 z3.2.2) H := hP
      have hD : va_D A (mw G g h z3.1 z3.2.1 z3.2.2) := hD
      refine W.eq (g2 := F0 m 28 ls []) rfl ?_
      refine lv_iconst (v := (1 : Int32)) hx hb d_DM_start_28 (by decide) ?_
      have hF := Option.some.inj hF
      subst hF
      exact dm_ret B (by decide) d_DM_start_29 (by decide) (by decide) hP hD hS ⟨rfl, rfl⟩
    · rw [if_pos hh] at hF
      exact K17 ls _ _ v f w (lv_sub hl [] rfl) hP hD hS hF
abbrev b_DM_run : ByteArray := prog_1_method_8_code
abbrev y_DM_run : MethodName := { cls := "DelayMachine", name := "run", desc := "(I)I" }
theorem d_DM_run_0 : decode b_DM_run 0 = .ok (.iload_n 1, 1) := by decide +kernel
theorem d_DM_run_1 : decode b_DM_run 1 = .ok (.ifCond .lt (10), 3) := by decide +kernel
theorem d_DM_run_4 : decode b_DM_run 4 = .ok (.iload_n 1, 1) := by decide +kernel
theorem d_DM_run_5 : decode b_DM_run 5 = .ok (.sipush (2000), 3) := by decide +kernel
theorem d_DM_run_8 : decode b_DM_run 8 = .ok (.if_icmp .le (5), 3) := by decide +kernel
theorem d_DM_run_11 : decode b_DM_run 11 = .ok (.iconst (-1), 1) := by decide +kernel
theorem d_DM_run_12 : decode b_DM_run 12 = .ok (.ireturn, 1) := by decide +kernel
theorem d_DM_run_13 : decode b_DM_run 13 = .ok (.iconst 0, 1) := by decide +kernel
theorem d_DM_run_14 : decode b_DM_run 14 = .ok (.istore_n 2, 1) := by decide +kernel
theorem d_DM_run_15 : decode b_DM_run 15 = .ok (.iload_n 2, 1) := by decide +kernel
theorem d_DM_run_16 : decode b_DM_run 16 = .ok (.iload_n 1, 1) := by decide +kernel
theorem d_DM_run_17 : decode b_DM_run 17 = .ok (.if_icmp .ge (26), 3) := by decide +kernel
theorem d_DM_run_20 : decode b_DM_run 20 = .ok (.aload_n 0, 1) := by decide +kernel
theorem d_DM_run_21 : decode b_DM_run 21 = .ok (.getfield 14, 3) := by decide +kernel
theorem d_DM_run_24 : decode b_DM_run 24 = .ok (.getfield 67, 3) := by decide +kernel
theorem d_DM_run_27 : decode b_DM_run 27 = .ok (.ifCond .eq (16), 3) := by decide +kernel
theorem d_DM_run_30 : decode b_DM_run 30 = .ok (.aload_n 0, 1) := by decide +kernel
theorem d_DM_run_31 : decode b_DM_run 31 = .ok (.getfield 14, 3) := by decide +kernel
theorem d_DM_run_34 : decode b_DM_run 34 = .ok (.invokevirtual 71, 3) := by decide +kernel
theorem d_DM_run_37 : decode b_DM_run 37 = .ok (.iinc 2 (1), 3) := by decide +kernel
theorem d_DM_run_40 : decode b_DM_run 40 = .ok (.goto (-25), 3) := by decide +kernel
theorem d_DM_run_43 : decode b_DM_run 43 = .ok (.iload_n 2, 1) := by decide +kernel
theorem d_DM_run_44 : decode b_DM_run 44 = .ok (.ireturn, 1) := by decide +kernel
theorem hd_DM_run : y_DM_run.cls ≠ "java/lang/invoke/MethodHandle" ∧ y_DM_run.cls ≠ "java/lang/invoke/VarHandle" ∧ (parseMethodDescriptor y_DM_run.desc).map (fun d => d.parameters.length) = some 1 := by decide +kernel
abbrev rm_DM_run : Room := { frames := 5, cells := 0, slots := 0, locals := 111 }
def F_DM_run_11 (x1 : Int32)    (h : Nat → Nat) (v : Nat → Int32) (f : Nat → Nat → Int32) (w : Nat → Nat) : Option (Int32 × (Nat → Nat) × (Nat → Int32) × (Nat → Nat → Int32) × (Nat → Nat)) := (some ((-1 : Int32), h, v, f, w))
def F_DM_run_43 (x1 : Int32)   (l2 : Int32) (h : Nat → Nat) (v : Nat → Int32) (f : Nat → Nat → Int32) (w : Nat → Nat) : Option (Int32 × (Nat → Nat) × (Nat → Int32) × (Nat → Nat → Int32) × (Nat → Nat)) := (some (l2, h, v, f, w))
def F_DM_run_15 (x1 : Int32)   : Nat → Int32 → (Nat → Nat) → (Nat → Int32) → (Nat → Nat → Int32) → (Nat → Nat) → Option (Int32 × (Nat → Nat) × (Nat → Int32) × (Nat → Nat → Int32) × (Nat → Nat))
  | 0, _, _, _, _, _ => none
  | n + 1, l2, h, v, f, w => (if x1 ≤ l2 then (F_DM_run_43 x1 l2 h v f w) else (if (v 9) = (0 : Int32) then (F_DM_run_43 x1 l2 h v f w) else (Option.bind (F_Ma_cycle  h v f w) (fun z1 => (F_DM_run_15 x1 n (l2 + (1 : Int32)) z1.1 z1.2.1 z1.2.2.1 z1.2.2.2)))))
def F_DM_run (x1 : Int32)  (h : Nat → Nat) (v : Nat → Int32) (f : Nat → Nat → Int32) (w : Nat → Nat) : Option (Int32 × (Nat → Nat) × (Nat → Int32) × (Nat → Nat → Int32) × (Nat → Nat)) := (if x1 < (0 : Int32) then (F_DM_run_11 x1 h v f w) else (if x1 ≤ (2000 : Int32) then (F_DM_run_15 x1 2001 (0 : Int32) h v f w) else (F_DM_run_11 x1 h v f w)))
set_option maxHeartbeats 4000000 in
set_option maxRecDepth 100000 in
theorem c_DM_run (l : Launch) (G : dm_G) (g : Nat → Nat) (x1 : Int32) (h : Nat → Nat) (v : Nat → Int32) (f : Nat → Nat → Int32) (w : Nat → Nat) (RES : Int32 × (Nat → Nat) × (Nat → Int32) × (Nat → Nat → Int32) × (Nat → Nat)) (hF : F_DM_run x1 h v f w = some RES) : dm_Ct l y_DM_run b_DM_run 3 (some .int) rm_DM_run G (mw G g h v f w) [.ref (g 90), .int x1] (fun ov w' => ov = some (.int RES.1) ∧ w' = (mw G g RES.2.1 RES.2.2.1 RES.2.2.2.1 RES.2.2.2.2)) := by
  refine dm_Ct.of (by decide +kernel) (Nat.le_of_ble_eq_true rfl) ?_
  intro p e s m below meth c A ls B hl hP hD hS
  have hx := B.1
  have hb := B.2.1
  have hl : lv_has ls 3 [(0, .ref (g 90)), (1, .int x1)] := hl
  have K11 : ∀ (ls : Array Slot) (H : Heap) (locs : List Loc)  (h : Nat → Nat) (v : Nat → Int32) (f : Nat → Nat → Int32) (w : Nat → Nat), lv_has ls 3 [] → va_P G.1 dm_cl (mw G g h v f w) H → va_D A (mw G g h v f w) → va_S A s.heap H locs → F_DM_run_11 x1  h v f w = some RES → W p l e rm_DM_run s m ([.ref (g 90), .int x1] : List Value).toArray below meth c H locs 0 0 (dm_Z below G s ([.ref (g 90), .int x1] : List Value).toArray A rm_DM_run.cells rm_DM_run.slots (fun ov w' => ov = some (.int RES.1) ∧ w' = (mw G g RES.2.1 RES.2.2.1 RES.2.2.2.1 RES.2.2.2.2))) (F0 m 11 ls []) := by
    intro ls H locs h v f w hl hP hD hS hF
    have hF : (some ((-1 : Int32), h, v, f, w)) = some RES := hF
    refine lv_iconst (v := (-1 : Int32)) hx hb d_DM_run_11 (by decide) ?_
    have hF := Option.some.inj hF
    subst hF
    exact dm_ret B rfl d_DM_run_12 (by decide) (by decide) hP hD hS ⟨rfl, rfl⟩
  have K43 : ∀ (ls : Array Slot) (H : Heap) (locs : List Loc) (l2 : Int32) (h : Nat → Nat) (v : Nat → Int32) (f : Nat → Nat → Int32) (w : Nat → Nat), lv_has ls 3 [(2, .int l2)] → va_P G.1 dm_cl (mw G g h v f w) H → va_D A (mw G g h v f w) → va_S A s.heap H locs → F_DM_run_43 x1 l2 h v f w = some RES → W p l e rm_DM_run s m ([.ref (g 90), .int x1] : List Value).toArray below meth c H locs 0 0 (dm_Z below G s ([.ref (g 90), .int x1] : List Value).toArray A rm_DM_run.cells rm_DM_run.slots (fun ov w' => ov = some (.int RES.1) ∧ w' = (mw G g RES.2.1 RES.2.2.1 RES.2.2.2.1 RES.2.2.2.2))) (F0 m 43 ls []) := by
    intro ls H locs l2 h v f w hl hP hD hS hF
    have hF : (some (l2, h, v, f, w)) = some RES := hF
    refine lv_iload_n hx hb d_DM_run_43 rfl (lv_at hl 0 rfl) ?_
    have hF := Option.some.inj hF
    subst hF
    exact dm_ret B rfl d_DM_run_44 (by decide) (by decide) hP hD hS ⟨rfl, rfl⟩
  have K15 : ∀ (n15 : Nat) (ls : Array Slot) (H : Heap) (locs : List Loc) (l2 : Int32) (h : Nat → Nat) (v : Nat → Int32) (f : Nat → Nat → Int32) (w : Nat → Nat), lv_has ls 3 [(0, .ref (g 90)), (1, .int x1), (2, .int l2)] → va_P G.1 dm_cl (mw G g h v f w) H → va_D A (mw G g h v f w) → va_S A s.heap H locs → F_DM_run_15 x1 n15 l2 h v f w = some RES → W p l e rm_DM_run s m ([.ref (g 90), .int x1] : List Value).toArray below meth c H locs 0 0 (dm_Z below G s ([.ref (g 90), .int x1] : List Value).toArray A rm_DM_run.cells rm_DM_run.slots (fun ov w' => ov = some (.int RES.1) ∧ w' = (mw G g RES.2.1 RES.2.2.1 RES.2.2.2.1 RES.2.2.2.2))) (F0 m 15 ls []) := by
    intro n15
    induction n15 with
    | zero => intro ls H locs l2 h v f w hl hP hD hS hF; cases hF
    | succ n15 ih15 =>
      intro ls H locs l2 h v f w hl hP hD hS hF
      have hF : (if x1 ≤ l2 then (F_DM_run_43 x1 l2 h v f w) else (if (v 9) = (0 : Int32) then (F_DM_run_43 x1 l2 h v f w) else (Option.bind (F_Ma_cycle  h v f w) (fun z1 => (F_DM_run_15 x1 n15 (l2 + (1 : Int32)) z1.1 z1.2.1 z1.2.2.1 z1.2.2.2))))) = some RES := hF
      refine lv_iload_n hx hb d_DM_run_15 rfl (lv_at hl 2 rfl) ?_
      refine lv_iload_n hx hb d_DM_run_16 rfl (lv_at hl 1 rfl) ?_
      refine lv_icmp_ge (tgt := 43) hx hb d_DM_run_17 (by decide) (fun (hh : x1 ≤ l2) => ?_) (fun (hh : ¬ x1 ≤ l2) => ?_)
      · rw [if_pos hh] at hF
        exact K43 ls _ _ l2 h v f w (lv_sub hl [2] rfl) hP hD hS hF
      · rw [if_neg hh] at hF
        refine lv_aload_n hx hb d_DM_run_20 rfl (lv_at hl 0 rfl) ?_
        refine mw_g_50_0 B hP k_323 d_DM_run_21 ?_
        refine mw_gn_0_9 (x := (v 9)) B hP rfl k_134 d_DM_run_24 ?_
        refine lv_if_eq (tgt := 43) hx hb d_DM_run_27 (by decide) (fun (hh : (v 9) = (0 : Int32)) => ?_) (fun (hh : ¬ (v 9) = (0 : Int32)) => ?_)
        · rw [if_pos hh] at hF
          exact K43 ls _ _ l2 h v f w (lv_sub hl [2] rfl) hP hD hS hF
        · rw [if_neg hh] at hF
          refine lv_aload_n hx hb d_DM_run_30 rfl (lv_at hl 0 rfl) ?_
          refine mw_g_50_0 B hP k_323 d_DM_run_31 ?_
          obtain ⟨z1, hcz1, hF⟩ := dm_bind hF
          refine dm_callVw B [] (c_Ma_cycle l G g  h v f w z1 hcz1) k_374 k_375 k_376 k_2 k_377 hd_Ma_cycle rfl ⟨by decide, by decide⟩ 0 rfl rfl hP hD hS hl.1 (rest := []) rfl (Nat.le_of_ble_eq_true rfl) d_DM_run_34 ⟨by decide, by decide⟩ (fun ov w' H locs hq hP hD hS => ?_)
          obtain ⟨rfl, rfl⟩ := hq
          have hP : va_P G.1 dm_cl (mw G g z1.1 z1.2.1 z1.2.2.1 z1.2.2.2) H := hP
          have hD : va_D A (mw G g z1.1 z1.2.1 z1.2.2.1 z1.2.2.2) := hD
          refine W.eq (g2 := F0 m 37 ls []) rfl ?_
          refine lv_iinc (k := 2) (v := (l2 + (1 : Int32))) (lv' := [(2, .int (l2 + (1 : Int32))), (0, .ref (g 90)), (1, .int x1)]) hx hb d_DM_run_37 hl rfl (congrArg (fun q => l2 + q) (by decide)) (Nat.le_of_ble_eq_true rfl) rfl (fun ls hl => ?_)
          have hl : lv_has ls 3 [(0, .ref (g 90)), (1, .int x1), (2, .int (l2 + (1 : Int32)))] := lv_sub hl [1, 2, 0] rfl
          refine lv_goto (tgt := 15) hx hb d_DM_run_40 (by decide) ?_
          exact ih15 ls _ _ (l2 + (1 : Int32)) z1.1 z1.2.1 z1.2.2.1 z1.2.2.2 (lv_sub hl [0, 1, 2] rfl) hP hD hS hF
  have hF : (if x1 < (0 : Int32) then (F_DM_run_11 x1 h v f w) else (if x1 ≤ (2000 : Int32) then (F_DM_run_15 x1 2001 (0 : Int32) h v f w) else (F_DM_run_11 x1 h v f w))) = some RES := hF
  refine lv_iload_n hx hb d_DM_run_0 rfl (lv_at hl 1 rfl) ?_
  refine lv_if_lt (tgt := 11) hx hb d_DM_run_1 (by decide) (fun (hh : x1 < (0 : Int32)) => ?_) (fun (hh : ¬ x1 < (0 : Int32)) => ?_)
  · rw [if_pos hh] at hF
    exact K11 ls _ _ h v f w (lv_sub hl [] rfl) hP hD hS hF
  · rw [if_neg hh] at hF
    refine lv_iload_n hx hb d_DM_run_4 rfl (lv_at hl 1 rfl) ?_
    refine lv_sipush (v := (2000 : Int32)) hx hb d_DM_run_5 (by decide) ?_
    refine lv_icmp_le (tgt := 13) hx hb d_DM_run_8 (by decide) (fun (hh : x1 ≤ (2000 : Int32)) => ?_) (fun (hh : ¬ x1 ≤ (2000 : Int32)) => ?_)
    · rw [if_pos hh] at hF
      refine lv_iconst (v := (0 : Int32)) hx hb d_DM_run_13 (by decide) ?_
      refine lv_istore_n (lv' := [(2, .int (0 : Int32)), (0, .ref (g 90)), (1, .int x1)]) hx hb d_DM_run_14 rfl hl (Nat.le_of_ble_eq_true rfl) rfl (fun ls hl => ?_)
      have hl : lv_has ls 3 [(0, .ref (g 90)), (1, .int x1), (2, .int (0 : Int32))] := lv_sub hl [1, 2, 0] rfl
      exact K15 2001 ls _ _ (0 : Int32) h v f w (lv_sub hl [0, 1, 2] rfl) hP hD hS hF
    · rw [if_neg hh] at hF
      exact K11 ls _ _ h v f w (lv_sub hl [] rfl) hP hD hS hF
abbrev b_DM_look : ByteArray := prog_1_method_9_code
abbrev y_DM_look : MethodName := { cls := "DelayMachine", name := "look", desc := "(I)I" }
theorem d_DM_look_0 : decode b_DM_look 0 = .ok (.iload_n 1, 1) := by decide +kernel
theorem d_DM_look_1 : decode b_DM_look 1 = .ok (.tableswitch (148) (0) (8) #[51, 67, 75, 83, 91, 99, 107, 129, 137], 51) := by decide +kernel
theorem d_DM_look_52 : decode b_DM_look 52 = .ok (.aload_n 0, 1) := by decide +kernel
theorem d_DM_look_53 : decode b_DM_look 53 = .ok (.getfield 14, 3) := by decide +kernel
theorem d_DM_look_56 : decode b_DM_look 56 = .ok (.getfield 67, 3) := by decide +kernel
theorem d_DM_look_59 : decode b_DM_look 59 = .ok (.ifCond .eq (7), 3) := by decide +kernel
theorem d_DM_look_62 : decode b_DM_look 62 = .ok (.iconst 1, 1) := by decide +kernel
theorem d_DM_look_63 : decode b_DM_look 63 = .ok (.goto (4), 3) := by decide +kernel
theorem d_DM_look_66 : decode b_DM_look 66 = .ok (.iconst 0, 1) := by decide +kernel
theorem d_DM_look_67 : decode b_DM_look 67 = .ok (.ireturn, 1) := by decide +kernel
theorem d_DM_look_68 : decode b_DM_look 68 = .ok (.aload_n 0, 1) := by decide +kernel
theorem d_DM_look_69 : decode b_DM_look 69 = .ok (.getfield 14, 3) := by decide +kernel
theorem d_DM_look_72 : decode b_DM_look 72 = .ok (.getfield 74, 3) := by decide +kernel
theorem d_DM_look_75 : decode b_DM_look 75 = .ok (.ireturn, 1) := by decide +kernel
theorem d_DM_look_76 : decode b_DM_look 76 = .ok (.aload_n 0, 1) := by decide +kernel
theorem d_DM_look_77 : decode b_DM_look 77 = .ok (.getfield 14, 3) := by decide +kernel
theorem d_DM_look_80 : decode b_DM_look 80 = .ok (.getfield 78, 3) := by decide +kernel
theorem d_DM_look_83 : decode b_DM_look 83 = .ok (.ireturn, 1) := by decide +kernel
theorem d_DM_look_84 : decode b_DM_look 84 = .ok (.aload_n 0, 1) := by decide +kernel
theorem d_DM_look_85 : decode b_DM_look 85 = .ok (.getfield 14, 3) := by decide +kernel
theorem d_DM_look_88 : decode b_DM_look 88 = .ok (.getfield 81, 3) := by decide +kernel
theorem d_DM_look_91 : decode b_DM_look 91 = .ok (.ireturn, 1) := by decide +kernel
theorem d_DM_look_92 : decode b_DM_look 92 = .ok (.aload_n 0, 1) := by decide +kernel
theorem d_DM_look_93 : decode b_DM_look 93 = .ok (.getfield 14, 3) := by decide +kernel
theorem d_DM_look_96 : decode b_DM_look 96 = .ok (.getfield 84, 3) := by decide +kernel
theorem d_DM_look_99 : decode b_DM_look 99 = .ok (.ireturn, 1) := by decide +kernel
theorem d_DM_look_100 : decode b_DM_look 100 = .ok (.aload_n 0, 1) := by decide +kernel
theorem d_DM_look_101 : decode b_DM_look 101 = .ok (.getfield 14, 3) := by decide +kernel
theorem d_DM_look_104 : decode b_DM_look 104 = .ok (.getfield 87, 3) := by decide +kernel
theorem d_DM_look_107 : decode b_DM_look 107 = .ok (.ireturn, 1) := by decide +kernel
theorem d_DM_look_108 : decode b_DM_look 108 = .ok (.aload_n 0, 1) := by decide +kernel
theorem d_DM_look_109 : decode b_DM_look 109 = .ok (.getfield 14, 3) := by decide +kernel
theorem d_DM_look_112 : decode b_DM_look 112 = .ok (.getfield 53, 3) := by decide +kernel
theorem d_DM_look_115 : decode b_DM_look 115 = .ok (.getfield 90, 3) := by decide +kernel
theorem d_DM_look_118 : decode b_DM_look 118 = .ok (.aload_n 0, 1) := by decide +kernel
theorem d_DM_look_119 : decode b_DM_look 119 = .ok (.getfield 14, 3) := by decide +kernel
theorem d_DM_look_122 : decode b_DM_look 122 = .ok (.getfield 53, 3) := by decide +kernel
theorem d_DM_look_125 : decode b_DM_look 125 = .ok (.getfield 93, 3) := by decide +kernel
theorem d_DM_look_128 : decode b_DM_look 128 = .ok (.isub, 1) := by decide +kernel
theorem d_DM_look_129 : decode b_DM_look 129 = .ok (.ireturn, 1) := by decide +kernel
theorem d_DM_look_130 : decode b_DM_look 130 = .ok (.aload_n 0, 1) := by decide +kernel
theorem d_DM_look_131 : decode b_DM_look 131 = .ok (.getfield 14, 3) := by decide +kernel
theorem d_DM_look_134 : decode b_DM_look 134 = .ok (.getfield 96, 3) := by decide +kernel
theorem d_DM_look_137 : decode b_DM_look 137 = .ok (.ireturn, 1) := by decide +kernel
theorem d_DM_look_138 : decode b_DM_look 138 = .ok (.aload_n 0, 1) := by decide +kernel
theorem d_DM_look_139 : decode b_DM_look 139 = .ok (.getfield 14, 3) := by decide +kernel
theorem d_DM_look_142 : decode b_DM_look 142 = .ok (.getfield 99, 3) := by decide +kernel
theorem d_DM_look_145 : decode b_DM_look 145 = .ok (.getfield 103, 3) := by decide +kernel
theorem d_DM_look_148 : decode b_DM_look 148 = .ok (.ireturn, 1) := by decide +kernel
theorem d_DM_look_149 : decode b_DM_look 149 = .ok (.iconst (-1), 1) := by decide +kernel
theorem d_DM_look_150 : decode b_DM_look 150 = .ok (.ireturn, 1) := by decide +kernel
theorem hd_DM_look : y_DM_look.cls ≠ "java/lang/invoke/MethodHandle" ∧ y_DM_look.cls ≠ "java/lang/invoke/VarHandle" ∧ (parseMethodDescriptor y_DM_look.desc).map (fun d => d.parameters.length) = some 1 := by decide +kernel
abbrev rm_DM_look : Room := { frames := 0, cells := 0, slots := 0, locals := 0 }
def F_DM_look (x1 : Int32) (v : Nat → Int32) (f : Nat → Nat → Int32) (w : Nat → Nat)  : Option (Int32) := (if x1 = (0 : Int32) then (if (v 9) = (0 : Int32) then (some (0 : Int32)) else (some (1 : Int32))) else (if x1 = (1 : Int32) then (some (v 10)) else (if x1 = (2 : Int32) then (some (v 8)) else (if x1 = (3 : Int32) then (some (v 15)) else (if x1 = (4 : Int32) then (some (v 16)) else (if x1 = (5 : Int32) then (some (v 17)) else (if x1 = (6 : Int32) then (some ((v 41) - (v 42))) else (if x1 = (7 : Int32) then (some (v 19)) else (if x1 = (8 : Int32) then (some (v 30)) else (some (-1 : Int32)))))))))))
set_option maxHeartbeats 4000000 in
set_option maxRecDepth 100000 in
theorem c_DM_look (l : Launch) (G : dm_G) (g h : Nat → Nat) (x1 : Int32) (v : Nat → Int32) (f : Nat → Nat → Int32) (w : Nat → Nat) (RES : Int32) (hF : F_DM_look x1 v f w = some RES) : dm_Ct l y_DM_look b_DM_look 2 (some .int) rm_DM_look G (mw G g h v f w) [.ref (g 90), .int x1] (fun ov w' => ov = some (.int RES) ∧ w' = (mw G g h v f w)) := by
  refine dm_Ct.of (by decide +kernel) (Nat.le_of_ble_eq_true rfl) ?_
  intro p e s m below meth c A ls B hl hP hD hS
  have hx := B.1
  have hb := B.2.1
  have hl : lv_has ls 2 [(0, .ref (g 90)), (1, .int x1)] := hl
  have hF : (if x1 = (0 : Int32) then (if (v 9) = (0 : Int32) then (some (0 : Int32)) else (some (1 : Int32))) else (if x1 = (1 : Int32) then (some (v 10)) else (if x1 = (2 : Int32) then (some (v 8)) else (if x1 = (3 : Int32) then (some (v 15)) else (if x1 = (4 : Int32) then (some (v 16)) else (if x1 = (5 : Int32) then (some (v 17)) else (if x1 = (6 : Int32) then (some ((v 41) - (v 42))) else (if x1 = (7 : Int32) then (some (v 19)) else (if x1 = (8 : Int32) then (some (v 30)) else (some (-1 : Int32))))))))))) = some RES := hF
  refine lv_iload_n hx hb d_DM_look_0 rfl (lv_at hl 1 rfl) ?_
  by_cases h0 : x1 = (0 : Int32)
  · rw [if_pos h0] at hF
    refine lv_tableIn (off := 51) (tgt := 52) hx hb d_DM_look_1 (by rw [h0]; decide) (by rw [h0]; decide) (by rw [h0]; rfl) (by decide) ?_
    refine lv_aload_n hx hb d_DM_look_52 rfl (lv_at hl 0 rfl) ?_
    refine mw_g_50_0 B hP k_323 d_DM_look_53 ?_
    refine mw_gn_0_9 (x := (v 9)) B hP rfl k_134 d_DM_look_56 ?_
    refine lv_if_eq (tgt := 66) hx hb d_DM_look_59 (by decide) (fun (hh : (v 9) = (0 : Int32)) => ?_) (fun (hh : ¬ (v 9) = (0 : Int32)) => ?_)
    · rw [if_pos hh] at hF
      refine lv_iconst (v := (0 : Int32)) hx hb d_DM_look_66 (by decide) ?_
      have hF := Option.some.inj hF
      subst hF
      exact dm_ret B rfl d_DM_look_67 (by decide) (by decide) hP hD hS ⟨rfl, rfl⟩
    · rw [if_neg hh] at hF
      refine lv_iconst (v := (1 : Int32)) hx hb d_DM_look_62 (by decide) ?_
      refine lv_goto (tgt := 67) hx hb d_DM_look_63 (by decide) ?_
      have hF := Option.some.inj hF
      subst hF
      exact dm_ret B rfl d_DM_look_67 (by decide) (by decide) hP hD hS ⟨rfl, rfl⟩
  rw [if_neg h0] at hF
  by_cases h1 : x1 = (1 : Int32)
  · rw [if_pos h1] at hF
    refine lv_tableIn (off := 67) (tgt := 68) hx hb d_DM_look_1 (by rw [h1]; decide) (by rw [h1]; decide) (by rw [h1]; rfl) (by decide) ?_
    refine lv_aload_n hx hb d_DM_look_68 rfl (lv_at hl 0 rfl) ?_
    refine mw_g_50_0 B hP k_323 d_DM_look_69 ?_
    refine mw_gn_0_10 (x := (v 10)) B hP rfl k_136 d_DM_look_72 ?_
    have hF := Option.some.inj hF
    subst hF
    exact dm_ret B rfl d_DM_look_75 (by decide) (by decide) hP hD hS ⟨rfl, rfl⟩
  rw [if_neg h1] at hF
  by_cases h2 : x1 = (2 : Int32)
  · rw [if_pos h2] at hF
    refine lv_tableIn (off := 75) (tgt := 76) hx hb d_DM_look_1 (by rw [h2]; decide) (by rw [h2]; decide) (by rw [h2]; rfl) (by decide) ?_
    refine lv_aload_n hx hb d_DM_look_76 rfl (lv_at hl 0 rfl) ?_
    refine mw_g_50_0 B hP k_323 d_DM_look_77 ?_
    refine mw_gn_0_8 (x := (v 8)) B hP rfl k_131 d_DM_look_80 ?_
    have hF := Option.some.inj hF
    subst hF
    exact dm_ret B rfl d_DM_look_83 (by decide) (by decide) hP hD hS ⟨rfl, rfl⟩
  rw [if_neg h2] at hF
  by_cases h3 : x1 = (3 : Int32)
  · rw [if_pos h3] at hF
    refine lv_tableIn (off := 83) (tgt := 84) hx hb d_DM_look_1 (by rw [h3]; decide) (by rw [h3]; decide) (by rw [h3]; rfl) (by decide) ?_
    refine lv_aload_n hx hb d_DM_look_84 rfl (lv_at hl 0 rfl) ?_
    refine mw_g_50_0 B hP k_323 d_DM_look_85 ?_
    refine mw_gn_0_15 (x := (v 15)) B hP rfl k_144 d_DM_look_88 ?_
    have hF := Option.some.inj hF
    subst hF
    exact dm_ret B rfl d_DM_look_91 (by decide) (by decide) hP hD hS ⟨rfl, rfl⟩
  rw [if_neg h3] at hF
  by_cases h4 : x1 = (4 : Int32)
  · rw [if_pos h4] at hF
    refine lv_tableIn (off := 91) (tgt := 92) hx hb d_DM_look_1 (by rw [h4]; decide) (by rw [h4]; decide) (by rw [h4]; rfl) (by decide) ?_
    refine lv_aload_n hx hb d_DM_look_92 rfl (lv_at hl 0 rfl) ?_
    refine mw_g_50_0 B hP k_323 d_DM_look_93 ?_
    refine mw_gn_0_16 (x := (v 16)) B hP rfl k_146 d_DM_look_96 ?_
    have hF := Option.some.inj hF
    subst hF
    exact dm_ret B rfl d_DM_look_99 (by decide) (by decide) hP hD hS ⟨rfl, rfl⟩
  rw [if_neg h4] at hF
  by_cases h5 : x1 = (5 : Int32)
  · rw [if_pos h5] at hF
    refine lv_tableIn (off := 99) (tgt := 100) hx hb d_DM_look_1 (by rw [h5]; decide) (by rw [h5]; decide) (by rw [h5]; rfl) (by decide) ?_
    refine lv_aload_n hx hb d_DM_look_100 rfl (lv_at hl 0 rfl) ?_
    refine mw_g_50_0 B hP k_323 d_DM_look_101 ?_
    refine mw_gn_0_17 (x := (v 17)) B hP rfl k_148 d_DM_look_104 ?_
    have hF := Option.some.inj hF
    subst hF
    exact dm_ret B rfl d_DM_look_107 (by decide) (by decide) hP hD hS ⟨rfl, rfl⟩
  rw [if_neg h5] at hF
  by_cases h6 : x1 = (6 : Int32)
  · rw [if_pos h6] at hF
    refine lv_tableIn (off := 107) (tgt := 108) hx hb d_DM_look_1 (by rw [h6]; decide) (by rw [h6]; decide) (by rw [h6]; rfl) (by decide) ?_
    refine lv_aload_n hx hb d_DM_look_108 rfl (lv_at hl 0 rfl) ?_
    refine mw_g_50_0 B hP k_323 d_DM_look_109 ?_
    refine mw_gn_0_3 B hP k_125 d_DM_look_112 ?_
    refine mw_gn_4_1 (x := (v 41)) B hP rfl k_64 d_DM_look_115 ?_
    refine lv_aload_n hx hb d_DM_look_118 rfl (lv_at hl 0 rfl) ?_
    refine mw_g_50_0 B hP k_323 d_DM_look_119 ?_
    refine mw_gn_0_3 B hP k_125 d_DM_look_122 ?_
    refine mw_gn_4_2 (x := (v 42)) B hP rfl k_66 d_DM_look_125 ?_
    refine lv_isub hx hb d_DM_look_128 ?_
    have hF := Option.some.inj hF
    subst hF
    exact dm_ret B rfl d_DM_look_129 (by decide) (by decide) hP hD hS ⟨rfl, rfl⟩
  rw [if_neg h6] at hF
  by_cases h7 : x1 = (7 : Int32)
  · rw [if_pos h7] at hF
    refine lv_tableIn (off := 129) (tgt := 130) hx hb d_DM_look_1 (by rw [h7]; decide) (by rw [h7]; decide) (by rw [h7]; rfl) (by decide) ?_
    refine lv_aload_n hx hb d_DM_look_130 rfl (lv_at hl 0 rfl) ?_
    refine mw_g_50_0 B hP k_323 d_DM_look_131 ?_
    refine mw_gn_0_19 (x := (v 19)) B hP rfl k_152 d_DM_look_134 ?_
    have hF := Option.some.inj hF
    subst hF
    exact dm_ret B rfl d_DM_look_137 (by decide) (by decide) hP hD hS ⟨rfl, rfl⟩
  rw [if_neg h7] at hF
  by_cases h8 : x1 = (8 : Int32)
  · rw [if_pos h8] at hF
    refine lv_tableIn (off := 137) (tgt := 138) hx hb d_DM_look_1 (by rw [h8]; decide) (by rw [h8]; decide) (by rw [h8]; rfl) (by decide) ?_
    refine lv_aload_n hx hb d_DM_look_138 rfl (lv_at hl 0 rfl) ?_
    refine mw_g_50_0 B hP k_323 d_DM_look_139 ?_
    refine mw_gn_0_2 B hP k_121 d_DM_look_142 ?_
    refine mw_gn_3_0 (x := (v 30)) B hP rfl k_48 d_DM_look_145 ?_
    have hF := Option.some.inj hF
    subst hF
    exact dm_ret B rfl d_DM_look_148 (by decide) (by decide) hP hD hS ⟨rfl, rfl⟩
  rw [if_neg h8] at hF
  have e0 := lv_neT (a := 0) h0 (by decide)
  have e1 := lv_neT (a := 1) h1 (by decide)
  have e2 := lv_neT (a := 2) h2 (by decide)
  have e3 := lv_neT (a := 3) h3 (by decide)
  have e4 := lv_neT (a := 4) h4 (by decide)
  have e5 := lv_neT (a := 5) h5 (by decide)
  have e6 := lv_neT (a := 6) h6 (by decide)
  have e7 := lv_neT (a := 7) h7 (by decide)
  have e8 := lv_neT (a := 8) h8 (by decide)
  refine lv_tableOut (tgt := 149) hx hb d_DM_look_1 (by omega) (by decide) ?_
  refine lv_iconst (v := (-1 : Int32)) hx hb d_DM_look_149 (by decide) ?_
  have hF := Option.some.inj hF
  subst hF
  exact dm_ret B rfl d_DM_look_150 (by decide) (by decide) hP hD hS ⟨rfl, rfl⟩
abbrev b_DM_peek : ByteArray := prog_1_method_10_code
abbrev y_DM_peek : MethodName := { cls := "DelayMachine", name := "peek", desc := "(II)S" }
theorem d_DM_peek_0 : decode b_DM_peek 0 = .ok (.aload_n 0, 1) := by decide +kernel
theorem d_DM_peek_1 : decode b_DM_peek 1 = .ok (.iload_n 1, 1) := by decide +kernel
theorem d_DM_peek_2 : decode b_DM_peek 2 = .ok (.iload_n 2, 1) := by decide +kernel
theorem d_DM_peek_3 : decode b_DM_peek 3 = .ok (.invokevirtual 46, 3) := by decide +kernel
theorem d_DM_peek_6 : decode b_DM_peek 6 = .ok (.ifCond .eq (20), 3) := by decide +kernel
theorem d_DM_peek_9 : decode b_DM_peek 9 = .ok (.aload_n 0, 1) := by decide +kernel
theorem d_DM_peek_10 : decode b_DM_peek 10 = .ok (.getfield 14, 3) := by decide +kernel
theorem d_DM_peek_13 : decode b_DM_peek 13 = .ok (.getfield 36, 3) := by decide +kernel
theorem d_DM_peek_16 : decode b_DM_peek 16 = .ok (.iload_n 1, 1) := by decide +kernel
theorem d_DM_peek_17 : decode b_DM_peek 17 = .ok (.aaload, 1) := by decide +kernel
theorem d_DM_peek_18 : decode b_DM_peek 18 = .ok (.getfield 49, 3) := by decide +kernel
theorem d_DM_peek_21 : decode b_DM_peek 21 = .ok (.iload_n 2, 1) := by decide +kernel
theorem d_DM_peek_22 : decode b_DM_peek 22 = .ok (.saload, 1) := by decide +kernel
theorem d_DM_peek_23 : decode b_DM_peek 23 = .ok (.goto (4), 3) := by decide +kernel
theorem d_DM_peek_26 : decode b_DM_peek 26 = .ok (.iconst 0, 1) := by decide +kernel
theorem d_DM_peek_27 : decode b_DM_peek 27 = .ok (.ireturn, 1) := by decide +kernel
theorem hd_DM_peek : y_DM_peek.cls ≠ "java/lang/invoke/MethodHandle" ∧ y_DM_peek.cls ≠ "java/lang/invoke/VarHandle" ∧ (parseMethodDescriptor y_DM_peek.desc).map (fun d => d.parameters.length) = some 2 := by decide +kernel
abbrev rm_DM_peek : Room := { frames := 2, cells := 0, slots := 0, locals := 43 }
def F_DM_peek (x1 x2 : Int32) (v : Nat → Int32) (f : Nat → Nat → Int32) (w : Nat → Nat)  : Option (Int32) := (Option.bind (F_DM_there x1 x2 v f w) (fun z1 => (if z1 = (0 : Int32) then (some (0 : Int32)) else (if x1 < 0 ∨ 9 ≤ x1.toNatClampNeg then none else (if x1.toNatClampNeg = 2 then (if x2 < 0 ∨ 32 ≤ x2.toNatClampNeg then none else (if ((f 2) x2.toNatClampNeg).toInt16.toInt32 = ((f 2) x2.toNatClampNeg) then (some ((f 2) x2.toNatClampNeg)) else none)) else (if x1.toNatClampNeg = 3 then (if x2 < 0 ∨ 32 ≤ x2.toNatClampNeg then none else (if ((f 3) x2.toNatClampNeg).toInt16.toInt32 = ((f 3) x2.toNatClampNeg) then (some ((f 3) x2.toNatClampNeg)) else none)) else (if x1.toNatClampNeg = 4 then (if x2 < 0 ∨ 32 ≤ x2.toNatClampNeg then none else (if ((f 4) x2.toNatClampNeg).toInt16.toInt32 = ((f 4) x2.toNatClampNeg) then (some ((f 4) x2.toNatClampNeg)) else none)) else (if x1.toNatClampNeg = 5 then (if x2 < 0 ∨ 32 ≤ x2.toNatClampNeg then none else (if ((f 5) x2.toNatClampNeg).toInt16.toInt32 = ((f 5) x2.toNatClampNeg) then (some ((f 5) x2.toNatClampNeg)) else none)) else (if x1.toNatClampNeg = 6 then (if x2 < 0 ∨ 1 ≤ x2.toNatClampNeg then none else (if ((f 6) x2.toNatClampNeg).toInt16.toInt32 = ((f 6) x2.toNatClampNeg) then (some ((f 6) x2.toNatClampNeg)) else none)) else (if x1.toNatClampNeg = 7 then (if x2 < 0 ∨ 1 ≤ x2.toNatClampNeg then none else (if ((f 7) x2.toNatClampNeg).toInt16.toInt32 = ((f 7) x2.toNatClampNeg) then (some ((f 7) x2.toNatClampNeg)) else none)) else (if x1.toNatClampNeg = 8 then (if x2 < 0 ∨ 2 ≤ x2.toNatClampNeg then none else (if ((f 8) x2.toNatClampNeg).toInt16.toInt32 = ((f 8) x2.toNatClampNeg) then (some ((f 8) x2.toNatClampNeg)) else none)) else none)))))))))))
set_option maxHeartbeats 4000000 in
set_option maxRecDepth 100000 in
theorem c_DM_peek (l : Launch) (G : dm_G) (g h : Nat → Nat) (x1 x2 : Int32) (v : Nat → Int32) (f : Nat → Nat → Int32) (w : Nat → Nat) (RES : Int32) (hF : F_DM_peek x1 x2 v f w = some RES) : dm_Ct l y_DM_peek b_DM_peek 3 (some .short) rm_DM_peek G (mw G g h v f w) [.ref (g 90), .int x1, .int x2] (fun ov w' => ov = some (.int RES) ∧ w' = (mw G g h v f w)) := by
  refine dm_Ct.of (by decide +kernel) (Nat.le_of_ble_eq_true rfl) ?_
  intro p e s m below meth c A ls B hl hP hD hS
  have hx := B.1
  have hb := B.2.1
  have hl : lv_has ls 3 [(0, .ref (g 90)), (1, .int x1), (2, .int x2)] := hl
  have hF : (Option.bind (F_DM_there x1 x2 v f w) (fun z1 => (if z1 = (0 : Int32) then (some (0 : Int32)) else (if x1 < 0 ∨ 9 ≤ x1.toNatClampNeg then none else (if x1.toNatClampNeg = 2 then (if x2 < 0 ∨ 32 ≤ x2.toNatClampNeg then none else (if ((f 2) x2.toNatClampNeg).toInt16.toInt32 = ((f 2) x2.toNatClampNeg) then (some ((f 2) x2.toNatClampNeg)) else none)) else (if x1.toNatClampNeg = 3 then (if x2 < 0 ∨ 32 ≤ x2.toNatClampNeg then none else (if ((f 3) x2.toNatClampNeg).toInt16.toInt32 = ((f 3) x2.toNatClampNeg) then (some ((f 3) x2.toNatClampNeg)) else none)) else (if x1.toNatClampNeg = 4 then (if x2 < 0 ∨ 32 ≤ x2.toNatClampNeg then none else (if ((f 4) x2.toNatClampNeg).toInt16.toInt32 = ((f 4) x2.toNatClampNeg) then (some ((f 4) x2.toNatClampNeg)) else none)) else (if x1.toNatClampNeg = 5 then (if x2 < 0 ∨ 32 ≤ x2.toNatClampNeg then none else (if ((f 5) x2.toNatClampNeg).toInt16.toInt32 = ((f 5) x2.toNatClampNeg) then (some ((f 5) x2.toNatClampNeg)) else none)) else (if x1.toNatClampNeg = 6 then (if x2 < 0 ∨ 1 ≤ x2.toNatClampNeg then none else (if ((f 6) x2.toNatClampNeg).toInt16.toInt32 = ((f 6) x2.toNatClampNeg) then (some ((f 6) x2.toNatClampNeg)) else none)) else (if x1.toNatClampNeg = 7 then (if x2 < 0 ∨ 1 ≤ x2.toNatClampNeg then none else (if ((f 7) x2.toNatClampNeg).toInt16.toInt32 = ((f 7) x2.toNatClampNeg) then (some ((f 7) x2.toNatClampNeg)) else none)) else (if x1.toNatClampNeg = 8 then (if x2 < 0 ∨ 2 ≤ x2.toNatClampNeg then none else (if ((f 8) x2.toNatClampNeg).toInt16.toInt32 = ((f 8) x2.toNatClampNeg) then (some ((f 8) x2.toNatClampNeg)) else none)) else none))))))))))) = some RES := hF
  refine lv_aload_n hx hb d_DM_peek_0 rfl (lv_at hl 0 rfl) ?_
  refine lv_iload_n hx hb d_DM_peek_1 rfl (lv_at hl 1 rfl) ?_
  refine lv_iload_n hx hb d_DM_peek_2 rfl (lv_at hl 2 rfl) ?_
  obtain ⟨z1, hcz1, hF⟩ := dm_bind hF
  refine dm_callVw B [.int x1, .int x2] (c_DM_there l G g h x1 x2 v f w z1 hcz1) k_342 k_344 ks_0 k_1 k_345 hd_DM_there rfl ⟨by decide, by decide⟩ 50 rfl rfl hP hD hS hl.1 (rest := []) rfl (Nat.le_of_ble_eq_true rfl) d_DM_peek_3 ⟨by decide, by decide⟩ (fun ov w' H locs hq hP hD hS => ?_)
  obtain ⟨rfl, rfl⟩ := hq
  have hP : va_P G.1 dm_cl (mw G g h v f w) H := hP
  have hD : va_D A (mw G g h v f w) := hD
  refine W.eq (g2 := F0 m 6 ls [.int z1]) rfl ?_
  refine lv_if_eq (tgt := 26) hx hb d_DM_peek_6 (by decide) (fun (hh : z1 = (0 : Int32)) => ?_) (fun (hh : ¬ z1 = (0 : Int32)) => ?_)
  · rw [if_pos hh] at hF
    refine lv_iconst (v := (0 : Int32)) hx hb d_DM_peek_26 (by decide) ?_
    have hF := Option.some.inj hF
    subst hF
    exact dm_ret B (by decide) d_DM_peek_27 (by decide) (by decide) hP hD hS ⟨rfl, rfl⟩
  · rw [if_neg hh] at hF
    refine lv_aload_n hx hb d_DM_peek_9 rfl (lv_at hl 0 rfl) ?_
    refine mw_g_50_0 B hP k_323 d_DM_peek_10 ?_
    refine mw_gn_0_1 B hP k_118 d_DM_peek_13 ?_
    refine lv_iload_n hx hb d_DM_peek_16 rfl (lv_at hl 1 rfl) ?_
    obtain ⟨hi, hF⟩ := dm_chk hF
    refine dm_aald (v := va_rf (ml g x1.toNatClampNeg)) B hP 2 3 rfl rfl hi rfl d_DM_peek_17 ?_
    by_cases hk2 : x1.toNatClampNeg = 2
    · rw [if_pos hk2] at hF
      refine W.eq (g2 := F0 m 18 ls [.ref (g 12)]) (by rw [hk2]; rfl) ?_
      refine mw_gn_11_0 B hP k_209 d_DM_peek_18 ?_
      refine lv_iload_n hx hb d_DM_peek_21 rfl (lv_at hl 2 rfl) ?_
      obtain ⟨hi, hF⟩ := dm_chk hF
      refine mw_a_12 (F := (f 2)) B hP rfl hi d_DM_peek_22 ?_
      refine lv_goto (tgt := 27) hx hb d_DM_peek_23 (by decide) ?_
      obtain ⟨hz, hF⟩ := dm_ck1 hF
      have hF := Option.some.inj hF
      subst hF
      exact dm_ret B (dm_nsh hz) d_DM_peek_27 (by decide) (by decide) hP hD hS ⟨rfl, rfl⟩
    rw [if_neg hk2] at hF
    by_cases hk3 : x1.toNatClampNeg = 3
    · rw [if_pos hk3] at hF
      refine W.eq (g2 := F0 m 18 ls [.ref (g 13)]) (by rw [hk3]; rfl) ?_
      refine mw_gn_13_0 B hP k_209 d_DM_peek_18 ?_
      refine lv_iload_n hx hb d_DM_peek_21 rfl (lv_at hl 2 rfl) ?_
      obtain ⟨hi, hF⟩ := dm_chk hF
      refine mw_a_14 (F := (f 3)) B hP rfl hi d_DM_peek_22 ?_
      refine lv_goto (tgt := 27) hx hb d_DM_peek_23 (by decide) ?_
      obtain ⟨hz, hF⟩ := dm_ck1 hF
      have hF := Option.some.inj hF
      subst hF
      exact dm_ret B (dm_nsh hz) d_DM_peek_27 (by decide) (by decide) hP hD hS ⟨rfl, rfl⟩
    rw [if_neg hk3] at hF
    by_cases hk4 : x1.toNatClampNeg = 4
    · rw [if_pos hk4] at hF
      refine W.eq (g2 := F0 m 18 ls [.ref (g 14)]) (by rw [hk4]; rfl) ?_
      refine mw_gn_15_0 B hP k_209 d_DM_peek_18 ?_
      refine lv_iload_n hx hb d_DM_peek_21 rfl (lv_at hl 2 rfl) ?_
      obtain ⟨hi, hF⟩ := dm_chk hF
      refine mw_a_16 (F := (f 4)) B hP rfl hi d_DM_peek_22 ?_
      refine lv_goto (tgt := 27) hx hb d_DM_peek_23 (by decide) ?_
      obtain ⟨hz, hF⟩ := dm_ck1 hF
      have hF := Option.some.inj hF
      subst hF
      exact dm_ret B (dm_nsh hz) d_DM_peek_27 (by decide) (by decide) hP hD hS ⟨rfl, rfl⟩
    rw [if_neg hk4] at hF
    by_cases hk5 : x1.toNatClampNeg = 5
    · rw [if_pos hk5] at hF
      refine W.eq (g2 := F0 m 18 ls [.ref (g 15)]) (by rw [hk5]; rfl) ?_
      refine mw_gn_17_0 B hP k_209 d_DM_peek_18 ?_
      refine lv_iload_n hx hb d_DM_peek_21 rfl (lv_at hl 2 rfl) ?_
      obtain ⟨hi, hF⟩ := dm_chk hF
      refine mw_a_18 (F := (f 5)) B hP rfl hi d_DM_peek_22 ?_
      refine lv_goto (tgt := 27) hx hb d_DM_peek_23 (by decide) ?_
      obtain ⟨hz, hF⟩ := dm_ck1 hF
      have hF := Option.some.inj hF
      subst hF
      exact dm_ret B (dm_nsh hz) d_DM_peek_27 (by decide) (by decide) hP hD hS ⟨rfl, rfl⟩
    rw [if_neg hk5] at hF
    by_cases hk6 : x1.toNatClampNeg = 6
    · rw [if_pos hk6] at hF
      refine W.eq (g2 := F0 m 18 ls [.ref (g 16)]) (by rw [hk6]; rfl) ?_
      refine mw_gn_19_0 B hP k_209 d_DM_peek_18 ?_
      refine lv_iload_n hx hb d_DM_peek_21 rfl (lv_at hl 2 rfl) ?_
      obtain ⟨hi, hF⟩ := dm_chk hF
      refine mw_a_20 (F := (f 6)) B hP rfl hi d_DM_peek_22 ?_
      refine lv_goto (tgt := 27) hx hb d_DM_peek_23 (by decide) ?_
      obtain ⟨hz, hF⟩ := dm_ck1 hF
      have hF := Option.some.inj hF
      subst hF
      exact dm_ret B (dm_nsh hz) d_DM_peek_27 (by decide) (by decide) hP hD hS ⟨rfl, rfl⟩
    rw [if_neg hk6] at hF
    by_cases hk7 : x1.toNatClampNeg = 7
    · rw [if_pos hk7] at hF
      refine W.eq (g2 := F0 m 18 ls [.ref (g 17)]) (by rw [hk7]; rfl) ?_
      refine mw_gn_21_0 B hP k_209 d_DM_peek_18 ?_
      refine lv_iload_n hx hb d_DM_peek_21 rfl (lv_at hl 2 rfl) ?_
      obtain ⟨hi, hF⟩ := dm_chk hF
      refine mw_a_22 (F := (f 7)) B hP rfl hi d_DM_peek_22 ?_
      refine lv_goto (tgt := 27) hx hb d_DM_peek_23 (by decide) ?_
      obtain ⟨hz, hF⟩ := dm_ck1 hF
      have hF := Option.some.inj hF
      subst hF
      exact dm_ret B (dm_nsh hz) d_DM_peek_27 (by decide) (by decide) hP hD hS ⟨rfl, rfl⟩
    rw [if_neg hk7] at hF
    by_cases hk8 : x1.toNatClampNeg = 8
    · rw [if_pos hk8] at hF
      refine W.eq (g2 := F0 m 18 ls [.ref (g 18)]) (by rw [hk8]; rfl) ?_
      refine mw_gn_23_0 B hP k_209 d_DM_peek_18 ?_
      refine lv_iload_n hx hb d_DM_peek_21 rfl (lv_at hl 2 rfl) ?_
      obtain ⟨hi, hF⟩ := dm_chk hF
      refine mw_a_24 (F := (f 8)) B hP rfl hi d_DM_peek_22 ?_
      refine lv_goto (tgt := 27) hx hb d_DM_peek_23 (by decide) ?_
      obtain ⟨hz, hF⟩ := dm_ck1 hF
      have hF := Option.some.inj hF
      subst hF
      exact dm_ret B (dm_nsh hz) d_DM_peek_27 (by decide) (by decide) hP hD hS ⟨rfl, rfl⟩
    rw [if_neg hk8] at hF
    cases hF
abbrev b_DM_read : ByteArray := prog_1_method_11_code
abbrev y_DM_read : MethodName := { cls := "DelayMachine", name := "read", desc := "(II)I" }
theorem d_DM_read_0 : decode b_DM_read 0 = .ok (.iload_n 1, 1) := by decide +kernel
theorem d_DM_read_1 : decode b_DM_read 1 = .ok (.iconst 2, 1) := by decide +kernel
theorem d_DM_read_2 : decode b_DM_read 2 = .ok (.invokestatic 27, 3) := by decide +kernel
theorem d_DM_read_5 : decode b_DM_read 5 = .ok (.ifCond .eq (29), 3) := by decide +kernel
theorem d_DM_read_8 : decode b_DM_read 8 = .ok (.iload_n 2, 1) := by decide +kernel
theorem d_DM_read_9 : decode b_DM_read 9 = .ok (.bipush (32), 2) := by decide +kernel
theorem d_DM_read_11 : decode b_DM_read 11 = .ok (.invokestatic 27, 3) := by decide +kernel
theorem d_DM_read_14 : decode b_DM_read 14 = .ok (.ifCond .eq (20), 3) := by decide +kernel
theorem d_DM_read_17 : decode b_DM_read 17 = .ok (.aload_n 0, 1) := by decide +kernel
theorem d_DM_read_18 : decode b_DM_read 18 = .ok (.getfield 14, 3) := by decide +kernel
theorem d_DM_read_21 : decode b_DM_read 21 = .ok (.getfield 32, 3) := by decide +kernel
theorem d_DM_read_24 : decode b_DM_read 24 = .ok (.bipush (32), 2) := by decide +kernel
theorem d_DM_read_26 : decode b_DM_read 26 = .ok (.iload_n 1, 1) := by decide +kernel
theorem d_DM_read_27 : decode b_DM_read 27 = .ok (.imul, 1) := by decide +kernel
theorem d_DM_read_28 : decode b_DM_read 28 = .ok (.iload_n 2, 1) := by decide +kernel
theorem d_DM_read_29 : decode b_DM_read 29 = .ok (.iadd, 1) := by decide +kernel
theorem d_DM_read_30 : decode b_DM_read 30 = .ok (.iaload, 1) := by decide +kernel
theorem d_DM_read_31 : decode b_DM_read 31 = .ok (.goto (4), 3) := by decide +kernel
theorem d_DM_read_34 : decode b_DM_read 34 = .ok (.iconst (-1), 1) := by decide +kernel
theorem d_DM_read_35 : decode b_DM_read 35 = .ok (.ireturn, 1) := by decide +kernel
theorem hd_DM_read : y_DM_read.cls ≠ "java/lang/invoke/MethodHandle" ∧ y_DM_read.cls ≠ "java/lang/invoke/VarHandle" ∧ (parseMethodDescriptor y_DM_read.desc).map (fun d => d.parameters.length) = some 2 := by decide +kernel
abbrev rm_DM_read : Room := { frames := 1, cells := 0, slots := 0, locals := 21 }
def F_DM_read_34 (x1 x2 : Int32) (v : Nat → Int32) (f : Nat → Nat → Int32) (w : Nat → Nat)    : Option (Int32) := (some (-1 : Int32))
def F_DM_read (x1 x2 : Int32) (v : Nat → Int32) (f : Nat → Nat → Int32) (w : Nat → Nat)  : Option (Int32) := (Option.bind (F_DM_within x1 (2 : Int32)) (fun z1 => (if z1 = (0 : Int32) then (F_DM_read_34 x1 x2 v f w) else (Option.bind (F_DM_within x2 (32 : Int32)) (fun z2 => (if z2 = (0 : Int32) then (F_DM_read_34 x1 x2 v f w) else (if (((32 : Int32) * x1) + x2) < 0 ∨ 64 ≤ (((32 : Int32) * x1) + x2).toNatClampNeg then none else (some ((f 0) (((32 : Int32) * x1) + x2).toNatClampNeg)))))))))
set_option maxHeartbeats 4000000 in
set_option maxRecDepth 100000 in
theorem c_DM_read (l : Launch) (G : dm_G) (g h : Nat → Nat) (x1 x2 : Int32) (v : Nat → Int32) (f : Nat → Nat → Int32) (w : Nat → Nat) (RES : Int32) (hF : F_DM_read x1 x2 v f w = some RES) : dm_Ct l y_DM_read b_DM_read 3 (some .int) rm_DM_read G (mw G g h v f w) [.ref (g 90), .int x1, .int x2] (fun ov w' => ov = some (.int RES) ∧ w' = (mw G g h v f w)) := by
  refine dm_Ct.of (by decide +kernel) (Nat.le_of_ble_eq_true rfl) ?_
  intro p e s m below meth c A ls B hl hP hD hS
  have hx := B.1
  have hb := B.2.1
  have hl : lv_has ls 3 [(0, .ref (g 90)), (1, .int x1), (2, .int x2)] := hl
  have K34 : ∀ (ls : Array Slot) (H : Heap) (locs : List Loc)  , lv_has ls 3 [] → va_P G.1 dm_cl (mw G g h v f w) H → va_D A (mw G g h v f w) → va_S A s.heap H locs → F_DM_read_34 x1 x2 v f w   = some RES → W p l e rm_DM_read s m ([.ref (g 90), .int x1, .int x2] : List Value).toArray below meth c H locs 0 0 (dm_Z below G s ([.ref (g 90), .int x1, .int x2] : List Value).toArray A rm_DM_read.cells rm_DM_read.slots (fun ov w' => ov = some (.int RES) ∧ w' = (mw G g h v f w))) (F0 m 34 ls []) := by
    intro ls H locs  hl hP hD hS hF
    have hF : (some (-1 : Int32)) = some RES := hF
    refine lv_iconst (v := (-1 : Int32)) hx hb d_DM_read_34 (by decide) ?_
    have hF := Option.some.inj hF
    subst hF
    exact dm_ret B rfl d_DM_read_35 (by decide) (by decide) hP hD hS ⟨rfl, rfl⟩
  have hF : (Option.bind (F_DM_within x1 (2 : Int32)) (fun z1 => (if z1 = (0 : Int32) then (F_DM_read_34 x1 x2 v f w) else (Option.bind (F_DM_within x2 (32 : Int32)) (fun z2 => (if z2 = (0 : Int32) then (F_DM_read_34 x1 x2 v f w) else (if (((32 : Int32) * x1) + x2) < 0 ∨ 64 ≤ (((32 : Int32) * x1) + x2).toNatClampNeg then none else (some ((f 0) (((32 : Int32) * x1) + x2).toNatClampNeg))))))))) = some RES := hF
  refine lv_iload_n hx hb d_DM_read_0 rfl (lv_at hl 1 rfl) ?_
  refine lv_iconst (v := (2 : Int32)) hx hb d_DM_read_1 (by decide) ?_
  obtain ⟨z1, hcz1, hF⟩ := dm_bind hF
  refine dm_callSw B [.int x1, .int (2 : Int32)] (c_DM_within l G (mw G g h v f w) x1 (2 : Int32) z1 hcz1) k_334 k_335 k_1 k_336 hd_DM_within rfl ⟨by decide, by decide⟩ hP hD hS hl.1 (rest := []) rfl (Nat.le_of_ble_eq_true rfl) d_DM_read_2 ⟨by decide, by decide⟩ (fun ov w' H locs hq hP hD hS => ?_)
  obtain ⟨rfl, rfl⟩ := hq
  have hP : va_P G.1 dm_cl (mw G g h v f w) H := hP
  have hD : va_D A (mw G g h v f w) := hD
  refine W.eq (g2 := F0 m 5 ls [.int z1]) rfl ?_
  refine lv_if_eq (tgt := 34) hx hb d_DM_read_5 (by decide) (fun (hh : z1 = (0 : Int32)) => ?_) (fun (hh : ¬ z1 = (0 : Int32)) => ?_)
  · rw [if_pos hh] at hF
    exact K34 ls _ _  (lv_sub hl [] rfl) hP hD hS hF
  · rw [if_neg hh] at hF
    refine lv_iload_n hx hb d_DM_read_8 rfl (lv_at hl 2 rfl) ?_
    refine lv_bipush (v := (32 : Int32)) hx hb d_DM_read_9 (by decide) ?_
    obtain ⟨z2, hcz2, hF⟩ := dm_bind hF
    refine dm_callSw B [.int x2, .int (32 : Int32)] (c_DM_within l G (mw G g h v f w) x2 (32 : Int32) z2 hcz2) k_334 k_335 k_1 k_336 hd_DM_within rfl ⟨by decide, by decide⟩ hP hD hS hl.1 (rest := []) rfl (Nat.le_of_ble_eq_true rfl) d_DM_read_11 ⟨by decide, by decide⟩ (fun ov w' H locs hq hP hD hS => ?_)
    obtain ⟨rfl, rfl⟩ := hq
    have hP : va_P G.1 dm_cl (mw G g h v f w) H := hP
    have hD : va_D A (mw G g h v f w) := hD
    refine W.eq (g2 := F0 m 14 ls [.int z2]) rfl ?_
    refine lv_if_eq (tgt := 34) hx hb d_DM_read_14 (by decide) (fun (hh : z2 = (0 : Int32)) => ?_) (fun (hh : ¬ z2 = (0 : Int32)) => ?_)
    · rw [if_pos hh] at hF
      exact K34 ls _ _  (lv_sub hl [] rfl) hP hD hS hF
    · rw [if_neg hh] at hF
      refine lv_aload_n hx hb d_DM_read_17 rfl (lv_at hl 0 rfl) ?_
      refine mw_g_50_0 B hP k_323 d_DM_read_18 ?_
      refine mw_gn_0_0 B hP k_114 d_DM_read_21 ?_
      refine lv_bipush (v := (32 : Int32)) hx hb d_DM_read_24 (by decide) ?_
      refine lv_iload_n hx hb d_DM_read_26 rfl (lv_at hl 1 rfl) ?_
      refine lv_imul hx hb d_DM_read_27 ?_
      refine lv_iload_n hx hb d_DM_read_28 rfl (lv_at hl 2 rfl) ?_
      refine lv_iadd hx hb d_DM_read_29 ?_
      obtain ⟨hi, hF⟩ := dm_chk hF
      refine mw_a_1 (F := (f 0)) B hP rfl hi d_DM_read_30 ?_
      refine lv_goto (tgt := 35) hx hb d_DM_read_31 (by decide) ?_
      have hF := Option.some.inj hF
      subst hF
      exact dm_ret B rfl d_DM_read_35 (by decide) (by decide) hP hD hS ⟨rfl, rfl⟩
abbrev b_DM_punched : ByteArray := prog_1_method_12_code
abbrev y_DM_punched : MethodName := { cls := "DelayMachine", name := "punched", desc := "(I)S" }
theorem d_DM_punched_0 : decode b_DM_punched 0 = .ok (.iload_n 1, 1) := by decide +kernel
theorem d_DM_punched_1 : decode b_DM_punched 1 = .ok (.aload_n 0, 1) := by decide +kernel
theorem d_DM_punched_2 : decode b_DM_punched 2 = .ok (.getfield 14, 3) := by decide +kernel
theorem d_DM_punched_5 : decode b_DM_punched 5 = .ok (.getfield 96, 3) := by decide +kernel
theorem d_DM_punched_8 : decode b_DM_punched 8 = .ok (.invokestatic 27, 3) := by decide +kernel
theorem d_DM_punched_11 : decode b_DM_punched 11 = .ok (.ifCond .eq (15), 3) := by decide +kernel
theorem d_DM_punched_14 : decode b_DM_punched 14 = .ok (.aload_n 0, 1) := by decide +kernel
theorem d_DM_punched_15 : decode b_DM_punched 15 = .ok (.getfield 14, 3) := by decide +kernel
theorem d_DM_punched_18 : decode b_DM_punched 18 = .ok (.getfield 108, 3) := by decide +kernel
theorem d_DM_punched_21 : decode b_DM_punched 21 = .ok (.iload_n 1, 1) := by decide +kernel
theorem d_DM_punched_22 : decode b_DM_punched 22 = .ok (.saload, 1) := by decide +kernel
theorem d_DM_punched_23 : decode b_DM_punched 23 = .ok (.goto (4), 3) := by decide +kernel
theorem d_DM_punched_26 : decode b_DM_punched 26 = .ok (.iconst 0, 1) := by decide +kernel
theorem d_DM_punched_27 : decode b_DM_punched 27 = .ok (.ireturn, 1) := by decide +kernel
theorem hd_DM_punched : y_DM_punched.cls ≠ "java/lang/invoke/MethodHandle" ∧ y_DM_punched.cls ≠ "java/lang/invoke/VarHandle" ∧ (parseMethodDescriptor y_DM_punched.desc).map (fun d => d.parameters.length) = some 1 := by decide +kernel
abbrev rm_DM_punched : Room := { frames := 1, cells := 0, slots := 0, locals := 21 }
def F_DM_punched (x1 : Int32) (v : Nat → Int32) (f : Nat → Nat → Int32) (w : Nat → Nat)  : Option (Int32) := (Option.bind (F_DM_within x1 (v 19)) (fun z1 => (if z1 = (0 : Int32) then (some (0 : Int32)) else (if x1 < 0 ∨ 60 ≤ x1.toNatClampNeg then none else (if ((f 10) x1.toNatClampNeg).toInt16.toInt32 = ((f 10) x1.toNatClampNeg) then (some ((f 10) x1.toNatClampNeg)) else none)))))
set_option maxHeartbeats 4000000 in
set_option maxRecDepth 100000 in
theorem c_DM_punched (l : Launch) (G : dm_G) (g h : Nat → Nat) (x1 : Int32) (v : Nat → Int32) (f : Nat → Nat → Int32) (w : Nat → Nat) (RES : Int32) (hF : F_DM_punched x1 v f w = some RES) : dm_Ct l y_DM_punched b_DM_punched 2 (some .short) rm_DM_punched G (mw G g h v f w) [.ref (g 90), .int x1] (fun ov w' => ov = some (.int RES) ∧ w' = (mw G g h v f w)) := by
  refine dm_Ct.of (by decide +kernel) (Nat.le_of_ble_eq_true rfl) ?_
  intro p e s m below meth c A ls B hl hP hD hS
  have hx := B.1
  have hb := B.2.1
  have hl : lv_has ls 2 [(0, .ref (g 90)), (1, .int x1)] := hl
  have hF : (Option.bind (F_DM_within x1 (v 19)) (fun z1 => (if z1 = (0 : Int32) then (some (0 : Int32)) else (if x1 < 0 ∨ 60 ≤ x1.toNatClampNeg then none else (if ((f 10) x1.toNatClampNeg).toInt16.toInt32 = ((f 10) x1.toNatClampNeg) then (some ((f 10) x1.toNatClampNeg)) else none))))) = some RES := hF
  refine lv_iload_n hx hb d_DM_punched_0 rfl (lv_at hl 1 rfl) ?_
  refine lv_aload_n hx hb d_DM_punched_1 rfl (lv_at hl 0 rfl) ?_
  refine mw_g_50_0 B hP k_323 d_DM_punched_2 ?_
  refine mw_gn_0_19 (x := (v 19)) B hP rfl k_152 d_DM_punched_5 ?_
  obtain ⟨z1, hcz1, hF⟩ := dm_bind hF
  refine dm_callSw B [.int x1, .int (v 19)] (c_DM_within l G (mw G g h v f w) x1 (v 19) z1 hcz1) k_334 k_335 k_1 k_336 hd_DM_within rfl ⟨by decide, by decide⟩ hP hD hS hl.1 (rest := []) rfl (Nat.le_of_ble_eq_true rfl) d_DM_punched_8 ⟨by decide, by decide⟩ (fun ov w' H locs hq hP hD hS => ?_)
  obtain ⟨rfl, rfl⟩ := hq
  have hP : va_P G.1 dm_cl (mw G g h v f w) H := hP
  have hD : va_D A (mw G g h v f w) := hD
  refine W.eq (g2 := F0 m 11 ls [.int z1]) rfl ?_
  refine lv_if_eq (tgt := 26) hx hb d_DM_punched_11 (by decide) (fun (hh : z1 = (0 : Int32)) => ?_) (fun (hh : ¬ z1 = (0 : Int32)) => ?_)
  · rw [if_pos hh] at hF
    refine lv_iconst (v := (0 : Int32)) hx hb d_DM_punched_26 (by decide) ?_
    have hF := Option.some.inj hF
    subst hF
    exact dm_ret B (by decide) d_DM_punched_27 (by decide) (by decide) hP hD hS ⟨rfl, rfl⟩
  · rw [if_neg hh] at hF
    refine lv_aload_n hx hb d_DM_punched_14 rfl (lv_at hl 0 rfl) ?_
    refine mw_g_50_0 B hP k_323 d_DM_punched_15 ?_
    refine mw_gn_0_18 B hP k_150 d_DM_punched_18 ?_
    refine lv_iload_n hx hb d_DM_punched_21 rfl (lv_at hl 1 rfl) ?_
    obtain ⟨hi, hF⟩ := dm_chk hF
    refine mw_a_8 (F := (f 10)) B hP rfl hi d_DM_punched_22 ?_
    refine lv_goto (tgt := 27) hx hb d_DM_punched_23 (by decide) ?_
    obtain ⟨hz, hF⟩ := dm_ck1 hF
    have hF := Option.some.inj hF
    subst hF
    exact dm_ret B (dm_nsh hz) d_DM_punched_27 (by decide) (by decide) hP hD hS ⟨rfl, rfl⟩
