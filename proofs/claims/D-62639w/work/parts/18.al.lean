abbrev b_Pc_check : ByteArray := prog_33_method_11_code
abbrev y_Pc_check : MethodName := { cls := "jdk/internal/util/Preconditions", name := "checkIndex", desc := "(IILjava/util/function/BiFunction;)I" }
theorem d_Pc_check_0 : decode b_Pc_check 0 = .ok (.iload_n 0, 1) := by decide +kernel
theorem d_Pc_check_1 : decode b_Pc_check 1 = .ok (.ifCond .lt (8), 3) := by decide +kernel
theorem d_Pc_check_4 : decode b_Pc_check 4 = .ok (.iload_n 0, 1) := by decide +kernel
theorem d_Pc_check_5 : decode b_Pc_check 5 = .ok (.iload_n 1, 1) := by decide +kernel
theorem d_Pc_check_6 : decode b_Pc_check 6 = .ok (.if_icmp .lt (10), 3) := by decide +kernel
theorem d_Pc_check_9 : decode b_Pc_check 9 = .ok (.aload_n 2, 1) := by decide +kernel
theorem d_Pc_check_16 : decode b_Pc_check 16 = .ok (.iload_n 0, 1) := by decide +kernel
theorem d_Pc_check_17 : decode b_Pc_check 17 = .ok (.ireturn, 1) := by decide +kernel
theorem hd_Pc_check : y_Pc_check.cls ≠ "java/lang/invoke/MethodHandle" ∧ y_Pc_check.cls ≠ "java/lang/invoke/VarHandle" ∧ (parseMethodDescriptor y_Pc_check.desc).map (fun d => d.parameters.length) = some 3 := by decide +kernel
abbrev rm_Pc_check : Room := { frames := 0, cells := 0, slots := 0, locals := 0 }
def F_Pc_check_9 (x0 x1 : Int32)     : Option (Int32) := none
def F_Pc_check (x0 x1 : Int32)   : Option (Int32) := (if x0 < (0 : Int32) then (F_Pc_check_9 x0 x1) else (if x0 < x1 then (some x0) else (F_Pc_check_9 x0 x1)))
set_option maxHeartbeats 4000000 in
set_option maxRecDepth 100000 in
theorem c_Pc_check (l : Launch) (G : dm_G)  (w : va_W) (x0 x1 : Int32)  (RES : Int32) (hF : F_Pc_check x0 x1 = some RES) : dm_Ct l y_Pc_check b_Pc_check 3 (some .int) rm_Pc_check G w [.int x0, .int x1, .null] (fun ov w' => ov = some (.int RES) ∧ w' = w) := by
  refine dm_Ct.of (by decide +kernel) (Nat.le_of_ble_eq_true rfl) ?_
  intro p e s m below meth c A ls B hl hP hD hS
  have hx := B.1
  have hb := B.2.1
  have hl : lv_has ls 3 [(0, .int x0), (1, .int x1), (2, .null)] := hl
  have K9 : ∀ (ls : Array Slot) (H : Heap) (locs : List Loc)  , lv_has ls 3 [(2, .null)] → va_P G.1 dm_cl w H → va_D A w → va_S A s.heap H locs → F_Pc_check_9 x0 x1   = some RES → W p l e rm_Pc_check s m ([.int x0, .int x1, .null] : List Value).toArray below meth c H locs 0 0 (dm_Z below G s ([.int x0, .int x1, .null] : List Value).toArray A rm_Pc_check.cells rm_Pc_check.slots (fun ov w' => ov = some (.int RES) ∧ w' = w)) (F0 m 9 ls []) := by
    intro ls H locs  hl hP hD hS hF
    have hF : none = some RES := hF
    cases hF
  have hF : (if x0 < (0 : Int32) then (F_Pc_check_9 x0 x1) else (if x0 < x1 then (some x0) else (F_Pc_check_9 x0 x1))) = some RES := hF
  refine lv_iload_n hx hb d_Pc_check_0 rfl (lv_at hl 0 rfl) ?_
  refine lv_if_lt (tgt := 9) hx hb d_Pc_check_1 (by decide) (fun (hh : x0 < (0 : Int32)) => ?_) (fun (hh : ¬ x0 < (0 : Int32)) => ?_)
  · rw [if_pos hh] at hF
    exact K9 ls _ _  (lv_sub hl [2] rfl) hP hD hS hF
  · rw [if_neg hh] at hF
    refine lv_iload_n hx hb d_Pc_check_4 rfl (lv_at hl 0 rfl) ?_
    refine lv_iload_n hx hb d_Pc_check_5 rfl (lv_at hl 1 rfl) ?_
    refine lv_icmp_lt (tgt := 16) hx hb d_Pc_check_6 (by decide) (fun (hh : x0 < x1) => ?_) (fun (hh : ¬ x0 < x1) => ?_)
    · rw [if_pos hh] at hF
      refine lv_iload_n hx hb d_Pc_check_16 rfl (lv_at hl 0 rfl) ?_
      have hF := Option.some.inj hF
      subst hF
      exact dm_ret B rfl d_Pc_check_17 (by decide) (by decide) hP hD hS ⟨rfl, rfl⟩
    · rw [if_neg hh] at hF
      exact K9 ls _ _  (lv_sub hl [2] rfl) hP hD hS hF

abbrev b_Ob_check : ByteArray := prog_29_method_17_code
abbrev y_Ob_check : MethodName := { cls := "java/util/Objects", name := "checkIndex", desc := "(II)I" }
theorem d_Ob_check_0 : decode b_Ob_check 0 = .ok (.iload_n 0, 1) := by decide +kernel
theorem d_Ob_check_1 : decode b_Ob_check 1 = .ok (.iload_n 1, 1) := by decide +kernel
theorem d_Ob_check_2 : decode b_Ob_check 2 = .ok (.aconst_null, 1) := by decide +kernel
theorem d_Ob_check_3 : decode b_Ob_check 3 = .ok (.invokestatic 105, 3) := by decide +kernel
theorem d_Ob_check_6 : decode b_Ob_check 6 = .ok (.ireturn, 1) := by decide +kernel
theorem hd_Ob_check : y_Ob_check.cls ≠ "java/lang/invoke/MethodHandle" ∧ y_Ob_check.cls ≠ "java/lang/invoke/VarHandle" ∧ (parseMethodDescriptor y_Ob_check.desc).map (fun d => d.parameters.length) = some 2 := by decide +kernel
abbrev rm_Ob_check : Room := { frames := 1, cells := 0, slots := 0, locals := 22 }
def F_Ob_check (x0 x1 : Int32)   : Option (Int32) := (Option.bind (F_Pc_check x0 x1) (fun z1 => (some z1)))
set_option maxHeartbeats 4000000 in
set_option maxRecDepth 100000 in
theorem c_Ob_check (l : Launch) (G : dm_G)  (w : va_W) (x0 x1 : Int32)  (RES : Int32) (hF : F_Ob_check x0 x1 = some RES) : dm_Ct l y_Ob_check b_Ob_check 2 (some .int) rm_Ob_check G w [.int x0, .int x1] (fun ov w' => ov = some (.int RES) ∧ w' = w) := by
  refine dm_Ct.of (by decide +kernel) (Nat.le_of_ble_eq_true rfl) ?_
  intro p e s m below meth c A ls B hl hP hD hS
  have hx := B.1
  have hb := B.2.1
  have hl : lv_has ls 2 [(0, .int x0), (1, .int x1)] := hl
  have hF : (Option.bind (F_Pc_check x0 x1) (fun z1 => (some z1))) = some RES := hF
  refine lv_iload_n hx hb d_Ob_check_0 rfl (lv_at hl 0 rfl) ?_
  refine lv_iload_n hx hb d_Ob_check_1 rfl (lv_at hl 1 rfl) ?_
  refine lv_null hx hb d_Ob_check_2 ?_
  obtain ⟨z1, hcz1, hF⟩ := dm_bind hF
  refine dm_callSw B [.int x0, .int x1, .null] (c_Pc_check l G w x0 x1 z1 hcz1) k_610 k_611 k_22 k_612 hd_Pc_check rfl ⟨by decide, by decide⟩ hP hD hS hl.1 (rest := []) rfl (Nat.le_of_ble_eq_true rfl) d_Ob_check_3 ⟨by decide, by decide⟩ (fun ov w' H locs hq hP hD hS => ?_)
  obtain ⟨rfl, hw⟩ := hq
  rw [hw] at hP hD
  have hP : va_P G.1 dm_cl w H := hP
  have hD : va_D A w := hD
  refine W.eq (g2 := F0 m 6 ls [.int z1]) rfl ?_
  have hF := Option.some.inj hF
  subst hF
  exact dm_ret B rfl d_Ob_check_6 (by decide) (by decide) hP hD hS ⟨rfl, rfl⟩

abbrev b_Su_newLength : ByteArray := prog_32_method_27_code
abbrev y_Su_newLength : MethodName := { cls := "jdk/internal/util/ArraysSupport", name := "newLength", desc := "(III)I" }
theorem d_Su_newLength_0 : decode b_Su_newLength 0 = .ok (.iload_n 0, 1) := by decide +kernel
theorem d_Su_newLength_1 : decode b_Su_newLength 1 = .ok (.iload_n 1, 1) := by decide +kernel
theorem d_Su_newLength_2 : decode b_Su_newLength 2 = .ok (.iload_n 2, 1) := by decide +kernel
theorem d_Su_newLength_3 : decode b_Su_newLength 3 = .ok (.invokestatic 194, 3) := by decide +kernel
theorem d_Su_newLength_6 : decode b_Su_newLength 6 = .ok (.iadd, 1) := by decide +kernel
theorem d_Su_newLength_7 : decode b_Su_newLength 7 = .ok (.istore_n 3, 1) := by decide +kernel
theorem d_Su_newLength_8 : decode b_Su_newLength 8 = .ok (.iconst 0, 1) := by decide +kernel
theorem d_Su_newLength_9 : decode b_Su_newLength 9 = .ok (.iload_n 3, 1) := by decide +kernel
theorem d_Su_newLength_10 : decode b_Su_newLength 10 = .ok (.if_icmp .ge (11), 3) := by decide +kernel
theorem d_Su_newLength_13 : decode b_Su_newLength 13 = .ok (.iload_n 3, 1) := by decide +kernel
theorem d_Su_newLength_14 : decode b_Su_newLength 14 = .ok (.ldc 200, 2) := by decide +kernel
theorem d_Su_newLength_16 : decode b_Su_newLength 16 = .ok (.if_icmp .gt (5), 3) := by decide +kernel
theorem d_Su_newLength_19 : decode b_Su_newLength 19 = .ok (.iload_n 3, 1) := by decide +kernel
theorem d_Su_newLength_20 : decode b_Su_newLength 20 = .ok (.ireturn, 1) := by decide +kernel
theorem d_Su_newLength_21 : decode b_Su_newLength 21 = .ok (.iload_n 0, 1) := by decide +kernel
theorem hd_Su_newLength : y_Su_newLength.cls ≠ "java/lang/invoke/MethodHandle" ∧ y_Su_newLength.cls ≠ "java/lang/invoke/VarHandle" ∧ (parseMethodDescriptor y_Su_newLength.desc).map (fun d => d.parameters.length) = some 3 := by decide +kernel
abbrev rm_Su_newLength : Room := { frames := 1, cells := 0, slots := 0, locals := 40 }
def F_Su_newLength_21 (x0 x1 x2 : Int32)     : Option (Int32) := none
def F_Su_newLength (x0 x1 x2 : Int32)   : Option (Int32) := (if (x0 + (if x1 < x2 then x2 else x1)) ≤ (0 : Int32) then (F_Su_newLength_21 x0 x1 x2) else (if (2147483639 : Int32) < (x0 + (if x1 < x2 then x2 else x1)) then (F_Su_newLength_21 x0 x1 x2) else (some (x0 + (if x1 < x2 then x2 else x1)))))
set_option maxHeartbeats 4000000 in
set_option maxRecDepth 100000 in
theorem c_Su_newLength (l : Launch) (G : dm_G)  (w : va_W) (x0 x1 x2 : Int32)  (RES : Int32) (hF : F_Su_newLength x0 x1 x2 = some RES) : dm_Ct l y_Su_newLength b_Su_newLength 4 (some .int) rm_Su_newLength G w [.int x0, .int x1, .int x2] (fun ov w' => ov = some (.int RES) ∧ w' = w) := by
  refine dm_Ct.of (by decide +kernel) (Nat.le_of_ble_eq_true rfl) ?_
  intro p e s m below meth c A ls B hl hP hD hS
  have hx := B.1
  have hb := B.2.1
  have hl : lv_has ls 4 [(0, .int x0), (1, .int x1), (2, .int x2)] := hl
  have K21 : ∀ (ls : Array Slot) (H : Heap) (locs : List Loc)  , lv_has ls 4 [(0, .int x0)] → va_P G.1 dm_cl w H → va_D A w → va_S A s.heap H locs → F_Su_newLength_21 x0 x1 x2   = some RES → W p l e rm_Su_newLength s m ([.int x0, .int x1, .int x2] : List Value).toArray below meth c H locs 0 0 (dm_Z below G s ([.int x0, .int x1, .int x2] : List Value).toArray A rm_Su_newLength.cells rm_Su_newLength.slots (fun ov w' => ov = some (.int RES) ∧ w' = w)) (F0 m 21 ls []) := by
    intro ls H locs  hl hP hD hS hF
    have hF : none = some RES := hF
    cases hF
  have hF : (if (x0 + (if x1 < x2 then x2 else x1)) ≤ (0 : Int32) then (F_Su_newLength_21 x0 x1 x2) else (if (2147483639 : Int32) < (x0 + (if x1 < x2 then x2 else x1)) then (F_Su_newLength_21 x0 x1 x2) else (some (x0 + (if x1 < x2 then x2 else x1))))) = some RES := hF
  refine lv_iload_n hx hb d_Su_newLength_0 rfl (lv_at hl 0 rfl) ?_
  refine lv_iload_n hx hb d_Su_newLength_1 rfl (lv_at hl 1 rfl) ?_
  refine lv_iload_n hx hb d_Su_newLength_2 rfl (lv_at hl 2 rfl) ?_
  refine va_mmax hx hb (by rw [B.2.2.1]; exact hl.1.symm) B.2.2.2.1 (B.2.2.2.2.1 _ k_540) (B.2.2.2.2.1 _ k_541) (B.2.2.2.2.1 _ k_18) (B.2.2.2.2.1 _ k_542) (by decide) (Nat.le_of_ble_eq_true rfl) (Nat.zero_le _) (Nat.zero_le _) d_Su_newLength_3 ?_
  refine lv_iadd hx hb d_Su_newLength_6 ?_
  refine lv_istore_n (lv' := [(3, .int (x0 + (if x1 < x2 then x2 else x1))), (0, .int x0), (1, .int x1), (2, .int x2)]) hx hb d_Su_newLength_7 rfl hl (Nat.le_of_ble_eq_true rfl) rfl (fun ls hl => ?_)
  have hl : lv_has ls 4 [(0, .int x0), (1, .int x1), (2, .int x2), (3, .int (x0 + (if x1 < x2 then x2 else x1)))] := lv_sub hl [1, 2, 3, 0] rfl
  refine lv_iconst (v := (0 : Int32)) hx hb d_Su_newLength_8 (by decide) ?_
  refine lv_iload_n hx hb d_Su_newLength_9 rfl (lv_at hl 3 rfl) ?_
  refine lv_icmp_ge (tgt := 21) hx hb d_Su_newLength_10 (by decide) (fun (hh : (x0 + (if x1 < x2 then x2 else x1)) ≤ (0 : Int32)) => ?_) (fun (hh : ¬ (x0 + (if x1 < x2 then x2 else x1)) ≤ (0 : Int32)) => ?_)
  · rw [if_pos hh] at hF
    exact K21 ls _ _  (lv_sub hl [0] rfl) hP hD hS hF
  · rw [if_neg hh] at hF
    refine lv_iload_n hx hb d_Su_newLength_13 rfl (lv_at hl 3 rfl) ?_
    refine dm_ldc B k_543 d_Su_newLength_14 ?_
    refine lv_icmp_gt (tgt := 21) hx hb d_Su_newLength_16 (by decide) (fun (hh : (2147483639 : Int32) < (x0 + (if x1 < x2 then x2 else x1))) => ?_) (fun (hh : ¬ (2147483639 : Int32) < (x0 + (if x1 < x2 then x2 else x1))) => ?_)
    · rw [if_pos hh] at hF
      exact K21 ls _ _  (lv_sub hl [0] rfl) hP hD hS hF
    · rw [if_neg hh] at hF
      refine lv_iload_n hx hb d_Su_newLength_19 rfl (lv_at hl 3 rfl) ?_
      have hF := Option.some.inj hF
      subst hF
      exact dm_ret B rfl d_Su_newLength_20 (by decide) (by decide) hP hD hS ⟨rfl, rfl⟩

/-- an ArrayList: (its array, the array's length (0: the shared empty one), modCount, where its elements lie) -/
abbrev aK : Type := Nat × Nat × Int32 × (Nat → Nat)
def ctab (P : Nat → Nat) (n : Nat) : Nat → Option Nat := fun j => if j < n then some (P j) else none
abbrev qar (G : dm_G) (e n : Nat) (c : Nat → Option Nat) : Nat × va_E := (e, .inl (G.2.1 6, n, .inr (.inr (.inr (.inr c)))))
def arw (G : dm_G) (K : aK) (n : Nat) : va_W := if K.2.1 = 0 then [] else [qar G K.1 K.2.1 (ctab K.2.2.2 n)]
abbrev alo (a : Nat) (K : aK) (z : Int32) : Nat × va_E := (a, .inr (10, [.ref K.1, .int z, .int K.2.2.1]))
def alv (G : dm_G) (a : Nat) (K : aK) (n : Nat) (T : va_W) : va_W := alo a K (nI n) :: (arw G K n ++ T)
/-- a list of n elements in good order -/
def okL (G : dm_G) (K : aK) (n : Nat) : Prop := n ≤ 64 ∧ (K.2.1 = 0 → n = 0 ∧ K.1 = G.2.2.1) ∧ n ≤ K.2.1 ∧ K.2.1 ≤ 100
/-- the elements are cells of one class in T -/
def elT (ci : Nat) (K : aK) (n : Nat) (T : va_W) : Prop := ∀ j, j < n → ∃ (k : Nat) (fs : List Value), T[k]? = some (K.2.2.2 j, .inr (ci, fs))
theorem ctab0 (P : Nat → Nat) : ctab P 0 = fun _ => none := by funext j; simp [ctab]
theorem ctab_up (P : Nat → Nat) (n q : Nat) : va_up (ctab P n) n (some q) = ctab (va_up P n q) (n + 1) := by
  funext j
  unfold va_up ctab
  by_cases h : j = n
  · subst h; simp
  · by_cases h2 : j < n
    · simp [h, h2, Nat.lt_succ_of_lt h2]
    · have : ¬ j < n + 1 := by omega
      simp [h, h2, this]
theorem ctab_cpy (P : Nat → Nat) (n : Nat) : va_cpy (ctab P n) (fun _ => none) 0 0 n = ctab P n := by
  funext j
  unfold va_cpy ctab
  by_cases h : j < n
  · simp [h]
  · simp [h]
theorem newlen_ok : ∀ n, n < 65 → F_Su_newLength (nI n) (nI (n + 1) - nI n) (nI n >>> ((1 : Int32) &&& 31)) = some (nI (n + max 1 (n / 2))) := by decide +kernel

abbrev b_copyOf3 : ByteArray := prog_26_method_120_code
abbrev y_copyOf3 : MethodName := { cls := "java/util/Arrays", name := "copyOf", desc := "([Ljava/lang/Object;ILjava/lang/Class;)[Ljava/lang/Object;" }
theorem d_copyOf3_0 : decode b_copyOf3 0 = .ok (.aload_n 2, 1) := by decide +kernel
theorem d_copyOf3_1 : decode b_copyOf3 1 = .ok (.ldc 110, 2) := by decide +kernel
theorem d_copyOf3_3 : decode b_copyOf3 3 = .ok (.if_acmp .ne (10), 3) := by decide +kernel
theorem d_copyOf3_6 : decode b_copyOf3 6 = .ok (.iload_n 1, 1) := by decide +kernel
theorem d_copyOf3_7 : decode b_copyOf3 7 = .ok (.anewarray 2, 3) := by decide +kernel
theorem d_copyOf3_10 : decode b_copyOf3 10 = .ok (.goto (14), 3) := by decide +kernel
theorem d_copyOf3_24 : decode b_copyOf3 24 = .ok (.astore_n 3, 1) := by decide +kernel
theorem d_copyOf3_25 : decode b_copyOf3 25 = .ok (.aload_n 0, 1) := by decide +kernel
theorem d_copyOf3_26 : decode b_copyOf3 26 = .ok (.iconst 0, 1) := by decide +kernel
theorem d_copyOf3_27 : decode b_copyOf3 27 = .ok (.aload_n 3, 1) := by decide +kernel
theorem d_copyOf3_28 : decode b_copyOf3 28 = .ok (.iconst 0, 1) := by decide +kernel
theorem d_copyOf3_29 : decode b_copyOf3 29 = .ok (.aload_n 0, 1) := by decide +kernel
theorem d_copyOf3_30 : decode b_copyOf3 30 = .ok (.arraylength, 1) := by decide +kernel
theorem d_copyOf3_31 : decode b_copyOf3 31 = .ok (.iload_n 1, 1) := by decide +kernel
theorem d_copyOf3_32 : decode b_copyOf3 32 = .ok (.invokestatic 304, 3) := by decide +kernel
theorem d_copyOf3_35 : decode b_copyOf3 35 = .ok (.invokestatic 150, 3) := by decide +kernel
theorem d_copyOf3_38 : decode b_copyOf3 38 = .ok (.aload_n 3, 1) := by decide +kernel
theorem d_copyOf3_39 : decode b_copyOf3 39 = .ok (.areturn, 1) := by decide +kernel
theorem hd_copyOf3 : y_copyOf3.cls ≠ "java/lang/invoke/MethodHandle" ∧ y_copyOf3.cls ≠ "java/lang/invoke/VarHandle" ∧ (parseMethodDescriptor y_copyOf3.desc).map (fun d => d.parameters.length) = some 3 := by decide +kernel
abbrev rm_copyOf3 : Room := { frames := 1, cells := 1, slots := 100, locals := 60 }

set_option maxHeartbeats 4000000 in
set_option maxRecDepth 100000 in
theorem c_copyOf3 (l : Launch) (G : dm_G) (x n N ci : Nat) (C : String) (F : u_T) (M : Nat) (f : Nat → Option Nat) (T : va_W) (hn : n ≤ N) (hN : N ≤ 100) (hci : dm_cl[ci]? = some (C, F, M)) (hca : Cond.castable C "java/lang/Object" ∈ dm_nw)
    (hel : ∀ j y, j < n → f j = some y → ∃ (k : Nat) (fs : List Value), T[k]? = some (y, .inr (ci, fs))) : dm_Ct l y_copyOf3 b_copyOf3 4 (some (.array (.object "java/lang/Object"))) rm_copyOf3 G (qar G x n f :: T) [.ref x, .int (nI N), .ref G.2.2.2] (fun ov w' => ∃ q : Nat, ov = some (.ref q) ∧ w' = (qar G x n f :: T) ++ [qar G q N (va_cpy f (fun _ => none) 0 0 n)]) := by
  refine dm_Ct.of (by decide +kernel) (Nat.le_of_ble_eq_true rfl) ?_
  intro p e s m below meth c A ls B hl hP hD hS
  have hx := B.1
  have hb := B.2.1
  have hK := B.2.2.2.2.2.2.2.2.1
  have hown := B.2.2.2.1
  have hts := B.2.2.2.2.1
  have hl : lv_has ls 4 [(0, .ref x), (1, .int (nI N)), (2, .ref G.2.2.2)] := hl
  have hN2 : (nI N).toNatClampNeg = N := nI_clamp (by omega)
  refine lv_aload_n hx hb d_copyOf3_0 rfl (lv_at hl 2 rfl) ?_
  refine va_ldcM hx hb hown (hts _ k_571) hK.2.2.2.1 d_copyOf3_1 ?_
  refine lv_acmp_ne (rx := some G.2.2.2) (ry := some G.2.2.2) (tgt := 13) hx hb d_copyOf3_3 (by decide) (fun h => absurd rfl h) (fun _ => ?_)
  refine lv_iload_n hx hb d_copyOf3_6 rfl (lv_at hl 1 rfl) ?_
  refine dm_newq (E := "java/lang/Object") (N' := N) B k_573 k_572 6 rfl hP hD hS (nI_pos (by omega)) hN2 (by omega) (by decide) (by show 0 + N ≤ 100; omega) d_copyOf3_7 (fun q H hP hD hS => ?_)
  refine lv_goto (tgt := 24) hx hb d_copyOf3_10 (by decide) ?_
  refine lv_astore_n (lv' := [(3, .ref q), (0, .ref x), (1, .int (nI N)), (2, .ref G.2.2.2)]) hx hb d_copyOf3_24 rfl hl (Nat.le_of_ble_eq_true rfl) rfl (fun ls hl => ?_)
  refine lv_aload_n hx hb d_copyOf3_25 rfl (lv_at hl 1 rfl) ?_
  refine lv_iconst (v := (0 : Int32)) hx hb d_copyOf3_26 (by decide) ?_
  refine lv_aload_n hx hb d_copyOf3_27 rfl (lv_at hl 0 rfl) ?_
  refine lv_iconst (v := (0 : Int32)) hx hb d_copyOf3_28 (by decide) ?_
  refine lv_aload_n hx hb d_copyOf3_29 rfl (lv_at hl 1 rfl) ?_
  refine dm_alen (v := nI n) B hP 0 6 rfl rfl rfl d_copyOf3_30 ?_
  refine lv_iload_n hx hb d_copyOf3_31 rfl (lv_at hl 2 rfl) ?_
  refine va_mmin hx hb (by rw [B.2.2.1]; exact hl.1.symm) hown (hts _ k_574) (hts _ k_575) (hts _ k_18) (hts _ k_576) (by decide) (Nat.le_of_ble_eq_true rfl) (by decide) (by show 0 + N ≤ 100; omega) d_copyOf3_32 ?_
  rw [if_neg (nI_nlt hn (by omega))]
  have hn2 : (nI n).toNatClampNeg = n := nI_clamp (by omega)
  have hlen : ((qar G x n f :: T) ++ [qar G q N (fun _ => none)])[T.length + 1]? = some (qar G q N (fun _ => none)) := by simp
  refine va_copyq (C := C) (E0 := "java/lang/Object") (E1 := "java/lang/Object") hx hb (by rw [B.2.2.1]; exact hl.1.symm) hown (hts _ k_577) (hts _ k_579) (hts _ k_578) (hts _ k_20) hK.1 hP hD hS 0 (T.length + 1) 6 6 rfl hlen rfl rfl (by decide) (by decide) (nI_pos (by omega)) (by rw [hn2]; show 0 + n ≤ n; omega) (by rw [hn2]; show 0 + n ≤ N; omega) ?_ (vb_asgC (hK.2.1 _ hca)) (by decide) (Nat.le_of_ble_eq_true rfl) d_copyOf3_35 (fun H locs hP hD hS => ?_)
  · intro i hi yy hy
    rw [hn2] at hi
    have hy : f i = some yy := by
      have : (0 : Int32).toNatClampNeg + i = i := by rw [show (0 : Int32).toNatClampNeg = 0 by decide]; omega
      rw [this] at hy; exact hy
    obtain ⟨k, fs, hk⟩ := hel i yy hi hy
    exact va_recv hK.1 hP hci (show ((qar G x n f :: T) ++ [qar G q N (fun _ => none)])[k + 1]? = some (yy, .inr (ci, fs)) by
      rw [List.getElem?_append_left (by simp; exact (List.getElem?_eq_some_iff.mp hk).1)]; exact hk)
  have e0 : (0 : Int32).toNatClampNeg = 0 := by decide
  rw [hn2, e0] at hP hD
  have eset : ((qar G x n f :: T) ++ [qar G q N (fun _ => none)]).set (T.length + 1) (qar G q N (va_cpy f (fun _ => none) 0 0 n)) = (qar G x n f :: T) ++ [qar G q N (va_cpy f (fun _ => none) 0 0 n)] := by simp
  have hP : va_P G.1 dm_cl ((qar G x n f :: T) ++ [qar G q N (va_cpy f (fun _ => none) 0 0 n)]) H := by rw [← eset]; exact hP
  have hD : va_D A ((qar G x n f :: T) ++ [qar G q N (va_cpy f (fun _ => none) 0 0 n)]) := by rw [← eset]; exact hD
  refine lv_aload_n hx hb d_copyOf3_38 rfl (lv_at hl 0 rfl) ?_
  exact dm_reta B (Or.inr ⟨_, rfl⟩) (Or.inr ⟨_, rfl⟩) d_copyOf3_39 (by decide) (by show 0 + N ≤ 100; omega) hP hD hS ⟨q, rfl, rfl⟩

abbrev b_copyOf2 : ByteArray := prog_26_method_119_code
abbrev y_copyOf2 : MethodName := { cls := "java/util/Arrays", name := "copyOf", desc := "([Ljava/lang/Object;I)[Ljava/lang/Object;" }
theorem d_copyOf2_0 : decode b_copyOf2 0 = .ok (.aload_n 0, 1) := by decide +kernel
theorem d_copyOf2_1 : decode b_copyOf2 1 = .ok (.iload_n 1, 1) := by decide +kernel
theorem d_copyOf2_2 : decode b_copyOf2 2 = .ok (.aload_n 0, 1) := by decide +kernel
theorem d_copyOf2_3 : decode b_copyOf2 3 = .ok (.invokevirtual 86, 3) := by decide +kernel
theorem d_copyOf2_6 : decode b_copyOf2 6 = .ok (.invokestatic 300, 3) := by decide +kernel
theorem d_copyOf2_9 : decode b_copyOf2 9 = .ok (.areturn, 1) := by decide +kernel
theorem hd_copyOf2 : y_copyOf2.cls ≠ "java/lang/invoke/MethodHandle" ∧ y_copyOf2.cls ≠ "java/lang/invoke/VarHandle" ∧ (parseMethodDescriptor y_copyOf2.desc).map (fun d => d.parameters.length) = some 2 := by decide +kernel
abbrev rm_copyOf2 : Room := { frames := 2, cells := 1, slots := 100, locals := 90 }

set_option maxHeartbeats 4000000 in
set_option maxRecDepth 100000 in
theorem c_copyOf2 (l : Launch) (G : dm_G) (x n N ci : Nat) (C : String) (F : u_T) (M : Nat) (f : Nat → Option Nat) (T : va_W) (hn : n ≤ N) (hN : N ≤ 100) (hci : dm_cl[ci]? = some (C, F, M)) (hca : Cond.castable C "java/lang/Object" ∈ dm_nw)
    (hel : ∀ j y, j < n → f j = some y → ∃ (k : Nat) (fs : List Value), T[k]? = some (y, .inr (ci, fs))) : dm_Ct l y_copyOf2 b_copyOf2 2 (some (.array (.object "java/lang/Object"))) rm_copyOf2 G (qar G x n f :: T) [.ref x, .int (nI N)] (fun ov w' => ∃ q : Nat, ov = some (.ref q) ∧ w' = (qar G x n f :: T) ++ [qar G q N (va_cpy f (fun _ => none) 0 0 n)]) := by
  refine dm_Ct.of (by decide +kernel) (Nat.le_of_ble_eq_true rfl) ?_
  intro p e s m below meth c A ls B hl hP hD hS
  have hx := B.1
  have hb := B.2.1
  have hK := B.2.2.2.2.2.2.2.2.1
  have hown := B.2.2.2.1
  have hts := B.2.2.2.2.1
  have hl : lv_has ls 2 [(0, .ref x), (1, .int (nI N))] := hl
  refine lv_aload_n hx hb d_copyOf2_0 rfl (lv_at hl 0 rfl) ?_
  refine lv_iload_n hx hb d_copyOf2_1 rfl (lv_at hl 1 rfl) ?_
  refine lv_aload_n hx hb d_copyOf2_2 rfl (lv_at hl 0 rfl) ?_
  refine va_getC (C := "[Ljava/lang/Object;") hx hb (by rw [B.2.2.1]; exact hl.1.symm) hown (hts _ k_550) ((hK.2.1 _ k_1021).use rfl) (hts _ k_1020) (hts _ k_551) (hts _ k_567) hK.2.2.2.1 ⟨_, hP 0 _ rfl, rfl, va_nmO (hK.1.2 6 _ rfl).2 (by decide +kernel)⟩ (by decide) (Nat.le_of_ble_eq_true rfl) d_copyOf2_3 ?_
  refine dm_callSw B [.ref x, .int (nI N), .ref G.2.2.2] (c_copyOf3 l G x n N ci C F M f T hn hN hci hca hel) k_568 k_569 k_19 k_570 hd_copyOf3 rfl ⟨by decide, by decide⟩ hP hD hS hl.1 (rest := []) rfl (Nat.le_of_ble_eq_true rfl) d_copyOf2_6 ⟨by decide, by decide⟩ (fun ov w' H locs hq hP hD hS => ?_)
  obtain ⟨q, rfl, rfl⟩ := hq
  refine W.eq (g2 := F0 m 9 ls [.ref q]) rfl ?_
  exact dm_reta B (Or.inr ⟨_, rfl⟩) (Or.inr ⟨_, rfl⟩) d_copyOf2_9 (by decide) (by decide) hP hD hS ⟨q, rfl, rfl⟩

abbrev b_growI : ByteArray := prog_25_method_6_code
abbrev y_growI : MethodName := { cls := "java/util/ArrayList", name := "grow", desc := "(I)[Ljava/lang/Object;" }
theorem d_growI_0 : decode b_growI 0 = .ok (.aload_n 0, 1) := by decide +kernel
theorem d_growI_1 : decode b_growI 1 = .ok (.getfield 9, 3) := by decide +kernel
theorem d_growI_4 : decode b_growI 4 = .ok (.arraylength, 1) := by decide +kernel
theorem d_growI_5 : decode b_growI 5 = .ok (.istore_n 2, 1) := by decide +kernel
theorem d_growI_6 : decode b_growI 6 = .ok (.iload_n 2, 1) := by decide +kernel
theorem d_growI_7 : decode b_growI 7 = .ok (.ifCond .gt (13), 3) := by decide +kernel
theorem d_growI_10 : decode b_growI 10 = .ok (.aload_n 0, 1) := by decide +kernel
theorem d_growI_11 : decode b_growI 11 = .ok (.getfield 9, 3) := by decide +kernel
theorem d_growI_14 : decode b_growI 14 = .ok (.getstatic 39, 3) := by decide +kernel
theorem d_growI_17 : decode b_growI 17 = .ok (.if_acmp .eq (28), 3) := by decide +kernel
theorem d_growI_20 : decode b_growI 20 = .ok (.iload_n 2, 1) := by decide +kernel
theorem d_growI_21 : decode b_growI 21 = .ok (.iload_n 1, 1) := by decide +kernel
theorem d_growI_22 : decode b_growI 22 = .ok (.iload_n 2, 1) := by decide +kernel
theorem d_growI_23 : decode b_growI 23 = .ok (.isub, 1) := by decide +kernel
theorem d_growI_24 : decode b_growI 24 = .ok (.iload_n 2, 1) := by decide +kernel
theorem d_growI_25 : decode b_growI 25 = .ok (.iconst 1, 1) := by decide +kernel
theorem d_growI_26 : decode b_growI 26 = .ok (.ishr, 1) := by decide +kernel
theorem d_growI_27 : decode b_growI 27 = .ok (.invokestatic 73, 3) := by decide +kernel
theorem d_growI_30 : decode b_growI 30 = .ok (.istore_n 3, 1) := by decide +kernel
theorem d_growI_31 : decode b_growI 31 = .ok (.aload_n 0, 1) := by decide +kernel
theorem d_growI_32 : decode b_growI 32 = .ok (.aload_n 0, 1) := by decide +kernel
theorem d_growI_33 : decode b_growI 33 = .ok (.getfield 9, 3) := by decide +kernel
theorem d_growI_36 : decode b_growI 36 = .ok (.iload_n 3, 1) := by decide +kernel
theorem d_growI_37 : decode b_growI 37 = .ok (.invokestatic 66, 3) := by decide +kernel
theorem d_growI_40 : decode b_growI 40 = .ok (.dup_x1, 1) := by decide +kernel
theorem d_growI_41 : decode b_growI 41 = .ok (.putfield 9, 3) := by decide +kernel
theorem d_growI_44 : decode b_growI 44 = .ok (.areturn, 1) := by decide +kernel
theorem d_growI_45 : decode b_growI 45 = .ok (.aload_n 0, 1) := by decide +kernel
theorem d_growI_46 : decode b_growI 46 = .ok (.bipush (10), 2) := by decide +kernel
theorem d_growI_48 : decode b_growI 48 = .ok (.iload_n 1, 1) := by decide +kernel
theorem d_growI_49 : decode b_growI 49 = .ok (.invokestatic 79, 3) := by decide +kernel
theorem d_growI_52 : decode b_growI 52 = .ok (.anewarray 7, 3) := by decide +kernel
theorem d_growI_55 : decode b_growI 55 = .ok (.dup_x1, 1) := by decide +kernel
theorem d_growI_56 : decode b_growI 56 = .ok (.putfield 9, 3) := by decide +kernel
theorem d_growI_59 : decode b_growI 59 = .ok (.areturn, 1) := by decide +kernel
theorem hd_growI : y_growI.cls ≠ "java/lang/invoke/MethodHandle" ∧ y_growI.cls ≠ "java/lang/invoke/VarHandle" ∧ (parseMethodDescriptor y_growI.desc).map (fun d => d.parameters.length) = some 1 := by decide +kernel
abbrev rm_growI : Room := { frames := 3, cells := 1, slots := 100, locals := 130 }

set_option maxHeartbeats 4000000 in
set_option maxRecDepth 100000 in
theorem c_growI (l : Launch) (G : dm_G) (a n ci : Nat) (K : aK) (C : String) (F : u_T) (M : Nat) (T : va_W) (hok : okL G K n) (hfull : K.2.1 = n) (hn : n < 64) (hci : dm_cl[ci]? = some (C, F, M)) (hca : Cond.castable C "java/lang/Object" ∈ dm_nw) (hel : elT ci K n T) : dm_Ct l y_growI b_growI 4 (some (.array (.object "java/lang/Object"))) rm_growI G (alv G a K n T) [.ref a, .int (nI (n + 1))] (fun ov w' => ∃ K' : aK, K'.2.2 = K.2.2 ∧ n < K'.2.1 ∧ K'.2.1 ≤ 100 ∧ ov = some (.ref K'.1) ∧ w' = alv G a K' n T) := by
  obtain ⟨pe, pc, pm, P⟩ := K
  simp only at hfull
  subst hfull
  obtain ⟨hk1, hk2, hk3, hk4⟩ := hok
  simp only at hk1 hk2 hk3 hk4
  refine dm_Ct.of (by decide +kernel) (Nat.le_of_ble_eq_true rfl) ?_
  intro p e s m below meth c A ls B hl hP hD hS
  have hx := B.1
  have hb := B.2.1
  have hK := B.2.2.2.2.2.2.2.2.1
  have hown := B.2.2.2.1
  have hts := B.2.2.2.2.1
  have hl : lv_has ls 4 [(0, .ref a), (1, .int (nI (pc + 1)))] := hl
  by_cases h0 : pc = 0
  · obtain ⟨-, rfl⟩ := hk2 h0
    subst h0
    have hP : va_P G.1 dm_cl (alo a (G.2.2.1, 0, pm, P) (nI 0) :: T) s.heap := hP
    have hD : va_D A (alo a (G.2.2.1, 0, pm, P) (nI 0) :: T) := hD
    refine lv_aload_n hx hb d_growI_0 rfl (lv_at hl 0 rfl) ?_
    refine dm_get (ci := 10) (v := .ref G.2.2.1) B hP 0 rfl rfl in_AL 0 (by decide) k_269 rfl d_growI_1 ?_
    refine va_tlen (v := 0) hx hb hK.2.2.2.2.2 hS (by decide) d_growI_4 ?_
    refine lv_istore_n (lv' := [(2, .int (0 : Int32)), (0, .ref a), (1, .int (nI (0 + 1)))]) hx hb d_growI_5 rfl hl (Nat.le_of_ble_eq_true rfl) rfl (fun ls hl => ?_)
    refine lv_iload_n hx hb d_growI_6 rfl (lv_at hl 0 rfl) ?_
    refine lv_if_gt (tgt := 20) hx hb d_growI_7 (by decide) (fun h => absurd h (by decide)) (fun _ => ?_)
    refine lv_aload_n hx hb d_growI_10 rfl (lv_at hl 1 rfl) ?_
    refine dm_get (ci := 10) (v := .ref G.2.2.1) B hP 0 rfl rfl in_AL 0 (by decide) k_269 rfl d_growI_11 ?_
    refine va_gets hx hb hK.2.2.2.2.1 hS hown (hts _ k_267) (fun _ h9 => h9) d_growI_14 ?_
    refine lv_acmp_eq (rx := some G.2.2.1) (ry := some G.2.2.1) (tgt := 45) hx hb d_growI_17 (by decide) (fun _ => ?_) (fun h => absurd rfl h)
    refine lv_aload_n hx hb d_growI_45 rfl (lv_at hl 1 rfl) ?_
    refine lv_bipush (v := (10 : Int32)) hx hb d_growI_46 (by decide) ?_
    refine lv_iload_n hx hb d_growI_48 rfl (lv_at hl 2 rfl) ?_
    refine va_mmax hx hb (by rw [B.2.2.1]; exact hl.1.symm) hown (hts _ k_580) (hts _ k_541) (hts _ k_18) (hts _ k_542) (by decide) (Nat.le_of_ble_eq_true rfl) (Nat.zero_le _) (Nat.zero_le _) d_growI_49 ?_
    rw [if_neg (by decide)]
    refine dm_newq (E := "java/lang/Object") (N' := 10) B k_581 k_572 6 rfl hP hD hS (by decide) (by decide) (by decide) (by decide) (by decide) d_growI_52 (fun q H hP hD hS => ?_)
    refine lv_dup_x1 hx hb d_growI_55 rfl rfl ?_
    refine dm_put (ci := 10) (v := .ref q) B hP hD hS 0 rfl rfl in_AL t_AL t_AL_ok n_AL 0 (by decide) k_269 rfl rfl rfl (Nat.le_of_ble_eq_true rfl) d_growI_56 (fun H locs hP hD hS => ?_)
    have hp : List.Perm ((alo a (q, 10, pm, P) (nI 0) :: T) ++ [qar G q 10 (fun _ => none)]) (alv G a (q, 10, pm, P) 0 T) := by
      show List.Perm ((alo a (q, 10, pm, P) (nI 0) :: T) ++ [qar G q 10 (fun _ => none)]) (alo a (q, 10, pm, P) (nI 0) :: ([qar G q 10 (ctab P 0)] ++ T))
      rw [ctab0]
      exact (List.perm_append_singleton _ T).cons _
    exact dm_reta B (Or.inr ⟨_, rfl⟩) (Or.inr ⟨_, rfl⟩) d_growI_59 (by decide) (by decide) (dm_pP hp hP) (dm_pD hp hD) hS ⟨(q, 10, pm, P), rfl, by show 0 < 10; decide, by show 10 ≤ 100; decide, rfl, rfl⟩
  · have e1 : alv G a (pe, pc, pm, P) pc T = alo a (pe, pc, pm, P) (nI pc) :: qar G pe pc (ctab P pc) :: T := by simp [alv, arw, h0]
    rw [e1] at hP hD
    refine lv_aload_n hx hb d_growI_0 rfl (lv_at hl 0 rfl) ?_
    refine dm_get (ci := 10) (v := .ref pe) B hP 0 rfl rfl in_AL 0 (by decide) k_269 rfl d_growI_1 ?_
    refine dm_alen (v := nI pc) B hP 1 6 rfl rfl rfl d_growI_4 ?_
    refine lv_istore_n (lv' := [(2, .int (nI pc)), (0, .ref a), (1, .int (nI (pc + 1)))]) hx hb d_growI_5 rfl hl (Nat.le_of_ble_eq_true rfl) rfl (fun ls hl => ?_)
    refine lv_iload_n hx hb d_growI_6 rfl (lv_at hl 0 rfl) ?_
    refine lv_if_gt (tgt := 20) hx hb d_growI_7 (by decide) (fun _ => ?_) (fun h => absurd (nI_lt (a := 0) (b := pc) (by omega) (by omega)) h)
    refine lv_iload_n hx hb d_growI_20 rfl (lv_at hl 0 rfl) ?_
    refine lv_iload_n hx hb d_growI_21 rfl (lv_at hl 2 rfl) ?_
    refine lv_iload_n hx hb d_growI_22 rfl (lv_at hl 0 rfl) ?_
    refine lv_isub hx hb d_growI_23 ?_
    refine lv_iload_n hx hb d_growI_24 rfl (lv_at hl 0 rfl) ?_
    refine lv_iconst (v := (1 : Int32)) hx hb d_growI_25 (by decide) ?_
    refine lv_ishr hx hb d_growI_26 ?_
    refine dm_callSw B [.int (nI pc), .int (nI (pc + 1) - nI pc), .int (nI pc >>> ((1 : Int32) &&& 31))] (c_Su_newLength l G _ (nI pc) (nI (pc + 1) - nI pc) (nI pc >>> ((1 : Int32) &&& 31)) _ (newlen_ok pc (by omega))) k_537 k_538 k_17 k_539 hd_Su_newLength rfl ⟨by decide, by decide⟩ hP hD hS hl.1 (rest := []) rfl (Nat.le_of_ble_eq_true rfl) d_growI_27 ⟨by decide, by decide⟩ (fun ov w' H locs hq hP hD hS => ?_)
    obtain ⟨rfl, rfl⟩ := hq
    generalize hcap : pc + max 1 (pc / 2) = cap
    have hcap1 : pc < cap := by omega
    have hcap2 : cap ≤ 100 := by omega
    refine W.eq (g2 := F0 m 30 ls [.int (nI cap)]) rfl ?_
    refine lv_istore_n (lv' := [(3, .int (nI cap)), (2, .int (nI pc)), (0, .ref a), (1, .int (nI (pc + 1)))]) hx hb d_growI_30 rfl hl (Nat.le_of_ble_eq_true rfl) rfl (fun ls hl => ?_)
    refine lv_aload_n hx hb d_growI_31 rfl (lv_at hl 2 rfl) ?_
    refine lv_aload_n hx hb d_growI_32 rfl (lv_at hl 2 rfl) ?_
    refine dm_get (ci := 10) (v := .ref pe) B hP 0 rfl rfl in_AL 0 (by decide) k_269 rfl d_growI_33 ?_
    refine lv_iload_n hx hb d_growI_36 rfl (lv_at hl 0 rfl) ?_
    refine dm_callSp (wr := [alo a (pe, pc, pm, P) (nI pc)]) B [.ref pe, .int (nI cap)] (c_copyOf2 l G pe pc cap ci C F M (ctab P pc) T (by omega) hcap2 hci hca ?_) k_547 k_548 k_19 k_549 hd_copyOf2 rfl ⟨by decide, by decide⟩ hP hD hS (List.Perm.refl _) hl.1 (rest := [.ref a]) rfl (Nat.le_of_ble_eq_true rfl) d_growI_37 ⟨by decide, by decide⟩ (fun ov w' H locs hq hP hD hS => ?_)
    · intro j yy hj hy
      rw [show ctab P pc j = some (P j) by simp [ctab, hj]] at hy
      cases hy
      exact hel j hj
    obtain ⟨q, rfl, rfl⟩ := hq
    rw [ctab_cpy] at hP hD
    refine W.eq (g2 := F0 m 40 ls [.ref q, .ref a]) rfl ?_
    have hP : va_P G.1 dm_cl (alo a (pe, pc, pm, P) (nI pc) :: (qar G pe pc (ctab P pc) :: T ++ [qar G q cap (ctab P pc)])) H := hP
    have hD : va_D A (alo a (pe, pc, pm, P) (nI pc) :: (qar G pe pc (ctab P pc) :: T ++ [qar G q cap (ctab P pc)])) := hD
    refine lv_dup_x1 hx hb d_growI_40 rfl rfl ?_
    refine dm_put (ci := 10) (v := .ref q) B hP hD hS 0 rfl rfl in_AL t_AL t_AL_ok n_AL 0 (by decide) k_269 rfl rfl rfl (Nat.le_of_ble_eq_true rfl) d_growI_41 (fun H locs hP hD hS => ?_)
    have hp : List.Perm (alo a (q, cap, pm, P) (nI pc) :: (qar G pe pc (ctab P pc) :: T ++ [qar G q cap (ctab P pc)])) (alv G a (q, cap, pm, P) pc T ++ [qar G pe pc (ctab P pc)]) := by
      have e2 : alv G a (q, cap, pm, P) pc T = alo a (q, cap, pm, P) (nI pc) :: qar G q cap (ctab P pc) :: T := by
        have hc0 : cap ≠ 0 := by omega
        simp [alv, arw, hc0]
      rw [e2]
      refine List.Perm.cons _ ?_
      refine (List.perm_append_singleton _ _).trans ?_
      refine List.Perm.cons _ ?_
      exact (List.perm_append_singleton _ _).symm
    have hP : va_P G.1 dm_cl (alv G a (q, cap, pm, P) pc T) H := dm_dP hp hP
    have hD : va_D A (alv G a (q, cap, pm, P) pc T) := dm_dD hp hD
    exact dm_reta B (Or.inr ⟨_, rfl⟩) (Or.inr ⟨_, rfl⟩) d_growI_44 (by decide) (by decide) hP hD hS ⟨(q, cap, pm, P), rfl, hcap1, hcap2, rfl, rfl⟩

abbrev b_grow0 : ByteArray := prog_25_method_7_code
abbrev y_grow0 : MethodName := { cls := "java/util/ArrayList", name := "grow", desc := "()[Ljava/lang/Object;" }
theorem d_grow0_0 : decode b_grow0 0 = .ok (.aload_n 0, 1) := by decide +kernel
theorem d_grow0_1 : decode b_grow0 1 = .ok (.aload_n 0, 1) := by decide +kernel
theorem d_grow0_2 : decode b_grow0 2 = .ok (.getfield 48, 3) := by decide +kernel
theorem d_grow0_5 : decode b_grow0 5 = .ok (.iconst 1, 1) := by decide +kernel
theorem d_grow0_6 : decode b_grow0 6 = .ok (.iadd, 1) := by decide +kernel
theorem d_grow0_7 : decode b_grow0 7 = .ok (.invokevirtual 69, 3) := by decide +kernel
theorem d_grow0_10 : decode b_grow0 10 = .ok (.areturn, 1) := by decide +kernel
theorem hd_grow0 : y_grow0.cls ≠ "java/lang/invoke/MethodHandle" ∧ y_grow0.cls ≠ "java/lang/invoke/VarHandle" ∧ (parseMethodDescriptor y_grow0.desc).map (fun d => d.parameters.length) = some 0 := by decide +kernel
abbrev rm_grow0 : Room := { frames := 4, cells := 1, slots := 100, locals := 160 }

set_option maxHeartbeats 4000000 in
set_option maxRecDepth 100000 in
theorem c_grow0 (l : Launch) (G : dm_G) (a n ci : Nat) (K : aK) (C : String) (F : u_T) (M : Nat) (T : va_W) (hok : okL G K n) (hfull : K.2.1 = n) (hn : n < 64) (hci : dm_cl[ci]? = some (C, F, M)) (hca : Cond.castable C "java/lang/Object" ∈ dm_nw) (hel : elT ci K n T) : dm_Ct l y_grow0 b_grow0 1 (some (.array (.object "java/lang/Object"))) rm_grow0 G (alv G a K n T) [.ref a] (fun ov w' => ∃ K' : aK, K'.2.2 = K.2.2 ∧ n < K'.2.1 ∧ K'.2.1 ≤ 100 ∧ ov = some (.ref K'.1) ∧ w' = alv G a K' n T) := by
  refine dm_Ct.of (by decide +kernel) (Nat.le_of_ble_eq_true rfl) ?_
  intro p e s m below meth c A ls B hl hP hD hS
  have hx := B.1
  have hb := B.2.1
  have hK := B.2.2.2.2.2.2.2.2.1
  have hown := B.2.2.2.1
  have hts := B.2.2.2.2.1
  have hl : lv_has ls 1 [(0, .ref a)] := hl
  refine lv_aload_n hx hb d_grow0_0 rfl (lv_at hl 0 rfl) ?_
  refine lv_aload_n hx hb d_grow0_1 rfl (lv_at hl 0 rfl) ?_
  refine dm_get (ci := 10) (v := .int (nI n)) B hP 0 rfl rfl in_AL 1 (by decide) k_270 rfl d_grow0_2 ?_
  refine lv_iconst (v := (1 : Int32)) hx hb d_grow0_5 (by decide) ?_
  refine lv_iadd hx hb d_grow0_6 ?_
  rw [nI_1]
  refine dm_callVw B [.int (nI (n + 1))] (c_growI l G a n ci K C F M T hok hfull hn hci hca hel) k_533 k_535 ks_7 k_13 k_536 hd_growI rfl ⟨by decide, by decide⟩ 0 rfl rfl hP hD hS hl.1 (rest := []) rfl (Nat.le_of_ble_eq_true rfl) d_grow0_7 ⟨by decide, by decide⟩ (fun ov w' H locs hq hP hD hS => ?_)
  obtain ⟨K', k1, k2, k3, rfl, rfl⟩ := hq
  refine W.eq (g2 := F0 m 10 ls [.ref K'.1]) rfl ?_
  exact dm_reta B (Or.inr ⟨_, rfl⟩) (Or.inr ⟨_, rfl⟩) d_grow0_10 (by decide) (by decide) hP hD hS ⟨K', k1, k2, k3, rfl, rfl⟩

abbrev b_add3 : ByteArray := prog_25_method_24_code
abbrev y_add3 : MethodName := { cls := "java/util/ArrayList", name := "add", desc := "(Ljava/lang/Object;[Ljava/lang/Object;I)V" }
theorem d_add3_0 : decode b_add3 0 = .ok (.iload_n 3, 1) := by decide +kernel
theorem d_add3_1 : decode b_add3 1 = .ok (.aload_n 2, 1) := by decide +kernel
theorem d_add3_2 : decode b_add3 2 = .ok (.arraylength, 1) := by decide +kernel
theorem d_add3_3 : decode b_add3 3 = .ok (.if_icmp .ne (8), 3) := by decide +kernel
theorem d_add3_6 : decode b_add3 6 = .ok (.aload_n 0, 1) := by decide +kernel
theorem d_add3_7 : decode b_add3 7 = .ok (.invokevirtual 129, 3) := by decide +kernel
theorem d_add3_10 : decode b_add3 10 = .ok (.astore_n 2, 1) := by decide +kernel
theorem d_add3_11 : decode b_add3 11 = .ok (.aload_n 2, 1) := by decide +kernel
theorem d_add3_12 : decode b_add3 12 = .ok (.iload_n 3, 1) := by decide +kernel
theorem d_add3_13 : decode b_add3 13 = .ok (.aload_n 1, 1) := by decide +kernel
theorem d_add3_14 : decode b_add3 14 = .ok (.aastore, 1) := by decide +kernel
theorem d_add3_15 : decode b_add3 15 = .ok (.aload_n 0, 1) := by decide +kernel
theorem d_add3_16 : decode b_add3 16 = .ok (.iload_n 3, 1) := by decide +kernel
theorem d_add3_17 : decode b_add3 17 = .ok (.iconst 1, 1) := by decide +kernel
theorem d_add3_18 : decode b_add3 18 = .ok (.iadd, 1) := by decide +kernel
theorem d_add3_19 : decode b_add3 19 = .ok (.putfield 48, 3) := by decide +kernel
theorem d_add3_22 : decode b_add3 22 = .ok (.return_, 1) := by decide +kernel
theorem hd_add3 : y_add3.cls ≠ "java/lang/invoke/MethodHandle" ∧ y_add3.cls ≠ "java/lang/invoke/VarHandle" ∧ (parseMethodDescriptor y_add3.desc).map (fun d => d.parameters.length) = some 3 := by decide +kernel
abbrev rm_add3 : Room := { frames := 5, cells := 1, slots := 100, locals := 190 }

set_option maxHeartbeats 4000000 in
set_option maxRecDepth 100000 in
theorem c_add3 (l : Launch) (G : dm_G) (a n ci q : Nat) (K : aK) (C : String) (F : u_T) (M : Nat) (T : va_W) (hok : okL G K n) (hn : n < 64) (hci : dm_cl[ci]? = some (C, F, M)) (hca : Cond.castable C "java/lang/Object" ∈ dm_nw) (hel : elT ci K n T) (hq : ∃ (k : Nat) (fs : List Value), T[k]? = some (q, .inr (ci, fs))) : dm_Ct l y_add3 b_add3 4 none rm_add3 G (alv G a K n T) [.ref a, .ref q, .ref K.1, .int (nI n)] (fun ov w' => ∃ K' : aK, K'.2.2 = (K.2.2.1, va_up K.2.2.2 n q) ∧ okL G K' (n + 1) ∧ ov = none ∧ w' = alv G a K' (n + 1) T) := by
  refine dm_Ct.of (by decide +kernel) (Nat.le_of_ble_eq_true rfl) ?_
  intro p e s m below meth c A ls B hl hP hD hS
  have hx := B.1
  have hb := B.2.1
  have hK := B.2.2.2.2.2.2.2.2.1
  have hown := B.2.2.2.1
  have hts := B.2.2.2.2.1
  have hl : lv_has ls 4 [(0, .ref a), (1, .ref q), (2, .ref K.1), (3, .int (nI n))] := hl
  -- behind the test: an array with room
  have K11 : ∀ (cells slots : Nat) (ls : Array Slot) (H : Heap) (locs : List Loc) (K' : aK), cells ≤ 1 → slots ≤ 100 → K'.2.2 = K.2.2 → n < K'.2.1 → K'.2.1 ≤ 100 → lv_has ls 4 [(0, .ref a), (1, .ref q), (2, .ref K'.1), (3, .int (nI n))] → va_P G.1 dm_cl (alv G a K' n T) H → va_D A (alv G a K' n T) → va_S A s.heap H locs → W p l e rm_add3 s m ([.ref a, .ref q, .ref K.1, .int (nI n)] : List Value).toArray below meth c H locs cells slots (dm_Z below G s ([.ref a, .ref q, .ref K.1, .int (nI n)] : List Value).toArray A rm_add3.cells rm_add3.slots (fun ov w' => ∃ K' : aK, K'.2.2 = (K.2.2.1, va_up K.2.2.2 n q) ∧ okL G K' (n + 1) ∧ ov = none ∧ w' = alv G a K' (n + 1) T)) (F0 m 11 ls []) := by
    intro cells slots ls H locs K' hc1 hc2 hK1 hK2 hK3 hl hP hD hS
    obtain ⟨pe, pc, pm, P⟩ := K'
    simp only at hK1 hK2 hK3 hl
    have h0 : pc ≠ 0 := by omega
    have e1 : alv G a (pe, pc, pm, P) n T = alo a (pe, pc, pm, P) (nI n) :: qar G pe pc (ctab P n) :: T := by simp [alv, arw, h0]
    rw [e1] at hP hD
    have hn2 : (nI n).toNatClampNeg = n := nI_clamp (by omega)
    refine lv_aload_n hx hb d_add3_11 rfl (lv_at hl 2 rfl) ?_
    refine lv_iload_n hx hb d_add3_12 rfl (lv_at hl 3 rfl) ?_
    refine lv_aload_n hx hb d_add3_13 rfl (lv_at hl 1 rfl) ?_
    obtain ⟨k, fs, hk⟩ := hq
    refine va_astqO (D := G.1) (E := "java/lang/Object") (r := (C, F, M)) hx hb hK.1 hP hD hS 1 6 (k + 2) ci rfl rfl (hK.2.1 _ hca) hk hci (vp_in_nI hK2 (by omega)) d_add3_14 (fun H locs hP hD hS => ?_)
    rw [hn2, ctab_up] at hP hD
    have hP : va_P G.1 dm_cl (alo a (pe, pc, pm, P) (nI n) :: qar G pe pc (ctab (va_up P n q) (n + 1)) :: T) H := hP
    have hD : va_D A (alo a (pe, pc, pm, P) (nI n) :: qar G pe pc (ctab (va_up P n q) (n + 1)) :: T) := hD
    refine lv_aload_n hx hb d_add3_15 rfl (lv_at hl 0 rfl) ?_
    refine lv_iload_n hx hb d_add3_16 rfl (lv_at hl 3 rfl) ?_
    refine lv_iconst (v := (1 : Int32)) hx hb d_add3_17 (by decide) ?_
    refine lv_iadd hx hb d_add3_18 ?_
    rw [nI_1]
    refine dm_put (ci := 10) (v := .int (nI (n + 1))) B hP hD hS 0 rfl rfl in_AL t_AL t_AL_ok n_AL 1 (by decide) k_270 rfl rfl rfl (Nat.le_of_ble_eq_true rfl) d_add3_19 (fun H locs hP hD hS => ?_)
    have e2 : alv G a (pe, pc, pm, va_up P n q) (n + 1) T = alo a (pe, pc, pm, P) (nI (n + 1)) :: qar G pe pc (ctab (va_up P n q) (n + 1)) :: T := by simp [alv, arw, h0]
    have hP : va_P G.1 dm_cl (alv G a (pe, pc, pm, va_up P n q) (n + 1) T) H := by rw [e2]; exact hP
    have hD : va_D A (alv G a (pe, pc, pm, va_up P n q) (n + 1) T) := by rw [e2]; exact hD
    have hK1' : (pm, P) = K.2.2 := hK1
    refine dm_retv B d_add3_22 hc1 hc2 hP hD hS ⟨(pe, pc, pm, va_up P n q), ?_, ⟨by omega, fun h => absurd h h0, by show n + 1 ≤ pc; omega, hK3⟩, rfl, rfl⟩
    show (pm, va_up P n q) = _
    rw [← hK1']
  refine lv_iload_n hx hb d_add3_0 rfl (lv_at hl 3 rfl) ?_
  refine lv_aload_n hx hb d_add3_1 rfl (lv_at hl 2 rfl) ?_
  have hlen : ∀ (k : W p l e rm_add3 s m ([.ref a, .ref q, .ref K.1, .int (nI n)] : List Value).toArray below meth c s.heap [] 0 0 (dm_Z below G s ([.ref a, .ref q, .ref K.1, .int (nI n)] : List Value).toArray A rm_add3.cells rm_add3.slots (fun ov w' => ∃ K' : aK, K'.2.2 = (K.2.2.1, va_up K.2.2.2 n q) ∧ okL G K' (n + 1) ∧ ov = none ∧ w' = alv G a K' (n + 1) T)) (F0 m 3 ls [.int (nI K.2.1), .int (nI n)])), W p l e rm_add3 s m ([.ref a, .ref q, .ref K.1, .int (nI n)] : List Value).toArray below meth c s.heap [] 0 0 (dm_Z below G s ([.ref a, .ref q, .ref K.1, .int (nI n)] : List Value).toArray A rm_add3.cells rm_add3.slots (fun ov w' => ∃ K' : aK, K'.2.2 = (K.2.2.1, va_up K.2.2.2 n q) ∧ okL G K' (n + 1) ∧ ov = none ∧ w' = alv G a K' (n + 1) T)) (F0 m 2 ls [.ref K.1, .int (nI n)]) := by
    intro k
    by_cases h0 : K.2.1 = 0
    · refine W.eq (g2 := F0 m 2 ls [.ref G.2.2.1, .int (nI n)]) (by rw [(hok.2.1 h0).2]) ?_
      refine va_tlen (v := 0) hx hb hK.2.2.2.2.2 hS (by decide) d_add3_2 ?_
      rw [h0] at k
      exact k
    · have e1 : alv G a K n T = alo a K (nI n) :: qar G K.1 K.2.1 (ctab K.2.2.2 n) :: T := by simp [alv, arw, h0]
      rw [e1] at hP
      exact dm_alen (v := nI K.2.1) B hP 1 6 rfl rfl rfl d_add3_2 k
  refine hlen ?_
  refine lv_icmp_ne (tgt := 11) hx hb d_add3_3 (by decide) (fun (hh : ¬ nI n = nI K.2.1) => ?_) (fun (hh : nI n = nI K.2.1) => ?_)
  · have h2 : n ≠ K.2.1 := fun e => hh (by rw [e])
    have h3 := hok.2.2.1
    exact K11 0 0 ls _ _ K (by decide) (by decide) rfl (by omega) hok.2.2.2 hl hP hD hS
  · have h2 : n = K.2.1 := (nI_eq (by omega) (by have := hok.2.2.2; omega)).mp hh
    refine lv_aload_n hx hb d_add3_6 rfl (lv_at hl 0 rfl) ?_
    refine dm_callVw B [] (c_grow0 l G a n ci K C F M T hok h2.symm hn hci hca hel) k_529 k_531 ks_6 k_13 k_532 hd_grow0 rfl ⟨by decide, by decide⟩ 0 rfl rfl hP hD hS hl.1 (rest := []) rfl (Nat.le_of_ble_eq_true rfl) d_add3_7 ⟨by decide, by decide⟩ (fun ov w' H locs hq' hP hD hS => ?_)
    obtain ⟨K', k1, k2, k3, rfl, rfl⟩ := hq'
    refine W.eq (g2 := F0 m 10 ls [.ref K'.1]) rfl ?_
    refine lv_astore_n (lv' := [(2, .ref K'.1), (0, .ref a), (1, .ref q), (3, .int (nI n))]) hx hb d_add3_10 rfl hl (Nat.le_of_ble_eq_true rfl) rfl (fun ls hl => ?_)
    exact K11 _ _ ls _ _ K' (by decide) (by decide) k1 k2 k3 (lv_sub hl [1, 2, 0, 3] rfl) hP hD hS

abbrev b_add1 : ByteArray := prog_25_method_25_code
abbrev y_add1 : MethodName := { cls := "java/util/ArrayList", name := "add", desc := "(Ljava/lang/Object;)Z" }
theorem d_add1_0 : decode b_add1 0 = .ok (.aload_n 0, 1) := by decide +kernel
theorem d_add1_1 : decode b_add1 1 = .ok (.dup, 1) := by decide +kernel
theorem d_add1_2 : decode b_add1 2 = .ok (.getfield 63, 3) := by decide +kernel
theorem d_add1_5 : decode b_add1 5 = .ok (.iconst 1, 1) := by decide +kernel
theorem d_add1_6 : decode b_add1 6 = .ok (.iadd, 1) := by decide +kernel
theorem d_add1_7 : decode b_add1 7 = .ok (.putfield 63, 3) := by decide +kernel
theorem d_add1_10 : decode b_add1 10 = .ok (.aload_n 0, 1) := by decide +kernel
theorem d_add1_11 : decode b_add1 11 = .ok (.aload_n 1, 1) := by decide +kernel
theorem d_add1_12 : decode b_add1 12 = .ok (.aload_n 0, 1) := by decide +kernel
theorem d_add1_13 : decode b_add1 13 = .ok (.getfield 9, 3) := by decide +kernel
theorem d_add1_16 : decode b_add1 16 = .ok (.aload_n 0, 1) := by decide +kernel
theorem d_add1_17 : decode b_add1 17 = .ok (.getfield 48, 3) := by decide +kernel
theorem d_add1_20 : decode b_add1 20 = .ok (.invokevirtual 131, 3) := by decide +kernel
theorem d_add1_23 : decode b_add1 23 = .ok (.iconst 1, 1) := by decide +kernel
theorem d_add1_24 : decode b_add1 24 = .ok (.ireturn, 1) := by decide +kernel
theorem hd_add1 : y_add1.cls ≠ "java/lang/invoke/MethodHandle" ∧ y_add1.cls ≠ "java/lang/invoke/VarHandle" ∧ (parseMethodDescriptor y_add1.desc).map (fun d => d.parameters.length) = some 1 := by decide +kernel
abbrev rm_add1 : Room := { frames := 6, cells := 1, slots := 100, locals := 230 }

set_option maxHeartbeats 4000000 in
set_option maxRecDepth 100000 in
theorem c_add1 (l : Launch) (G : dm_G) (a n ci q : Nat) (K : aK) (C : String) (F : u_T) (M : Nat) (T : va_W) (hok : okL G K n) (hn : n < 64) (hci : dm_cl[ci]? = some (C, F, M)) (hca : Cond.castable C "java/lang/Object" ∈ dm_nw) (hel : elT ci K n T) (hq : ∃ (k : Nat) (fs : List Value), T[k]? = some (q, .inr (ci, fs))) : dm_Ct l y_add1 b_add1 2 (some .boolean) rm_add1 G (alv G a K n T) [.ref a, .ref q] (fun ov w' => ∃ K' : aK, K'.2.2.2 = va_up K.2.2.2 n q ∧ okL G K' (n + 1) ∧ ov = some (.int 1) ∧ w' = alv G a K' (n + 1) T) := by
  refine dm_Ct.of (by decide +kernel) (Nat.le_of_ble_eq_true rfl) ?_
  intro p e s m below meth c A ls B hl hP hD hS
  have hx := B.1
  have hb := B.2.1
  have hK := B.2.2.2.2.2.2.2.2.1
  have hown := B.2.2.2.1
  have hts := B.2.2.2.2.1
  have hl : lv_has ls 2 [(0, .ref a), (1, .ref q)] := hl
  refine lv_aload_n hx hb d_add1_0 rfl (lv_at hl 0 rfl) ?_
  refine lv_dup hx hb d_add1_1 rfl ?_
  refine va_get (D := G.1) (ci := 10) (v := .int K.2.2.1) (C := R_AL) (T := F_AL) (N := 3) hx hb hts in_AL hown hK.1 hP 0 rfl rfl 2 (by decide) (hts _ k_272) (fun x9 h9 => u_same (hts _ k_273) x9 h9) rfl d_add1_2 ?_
  refine lv_iconst (v := (1 : Int32)) hx hb d_add1_5 (by decide) ?_
  refine lv_iadd hx hb d_add1_6 ?_
  refine va_put (D := G.1) (ci := 10) (v := .int (K.2.2.1 + 1)) (ty := t_AL 2) (C := R_AL) (T := F_AL) (N := 3) hx hb hts in_AL t_AL t_AL_ok n_AL hown hK.1 hP hD hS 0 rfl rfl 2 (by decide) (hts _ k_272) (fun x9 h9 => u_same (hts _ k_273) x9 h9) rfl (t_AL_ok 2 (by decide)) rfl rfl (Nat.le_of_ble_eq_true rfl) d_add1_7 (fun H locs hP hD hS => ?_)
  have hP : va_P G.1 dm_cl (alv G a (K.1, K.2.1, K.2.2.1 + 1, K.2.2.2) n T) H := hP
  have hD : va_D A (alv G a (K.1, K.2.1, K.2.2.1 + 1, K.2.2.2) n T) := hD
  refine lv_aload_n hx hb d_add1_10 rfl (lv_at hl 0 rfl) ?_
  refine lv_aload_n hx hb d_add1_11 rfl (lv_at hl 1 rfl) ?_
  refine lv_aload_n hx hb d_add1_12 rfl (lv_at hl 0 rfl) ?_
  refine dm_get (ci := 10) (v := .ref K.1) B hP 0 rfl rfl in_AL 0 (by decide) k_269 rfl d_add1_13 ?_
  refine lv_aload_n hx hb d_add1_16 rfl (lv_at hl 0 rfl) ?_
  refine dm_get (ci := 10) (v := .int (nI n)) B hP 0 rfl rfl in_AL 1 (by decide) k_270 rfl d_add1_17 ?_
  refine dm_callVw B [.ref q, .ref K.1, .int (nI n)] (c_add3 l G a n ci q (K.1, K.2.1, K.2.2.1 + 1, K.2.2.2) C F M T hok hn hci hca hel hq) k_525 k_527 ks_5 k_13 k_528 hd_add3 rfl ⟨by decide, by decide⟩ 0 rfl rfl hP hD hS hl.1 (rest := []) rfl (Nat.le_of_ble_eq_true rfl) d_add1_20 ⟨by decide, by decide⟩ (fun ov w' H locs hq' hP hD hS => ?_)
  obtain ⟨K', k1, k2, rfl, rfl⟩ := hq'
  refine W.eq (g2 := F0 m 23 ls []) rfl ?_
  refine lv_iconst (v := (1 : Int32)) hx hb d_add1_23 (by decide) ?_
  exact dm_ret B (by decide) d_add1_24 (by decide) (by decide) hP hD hS ⟨K', by rw [k1], k2, rfl, rfl⟩

abbrev b_clear : ByteArray := prog_25_method_40_code
abbrev y_clear : MethodName := { cls := "java/util/ArrayList", name := "clear", desc := "()V" }
theorem d_clear_0 : decode b_clear 0 = .ok (.aload_n 0, 1) := by decide +kernel
theorem d_clear_1 : decode b_clear 1 = .ok (.dup, 1) := by decide +kernel
theorem d_clear_2 : decode b_clear 2 = .ok (.getfield 63, 3) := by decide +kernel
theorem d_clear_5 : decode b_clear 5 = .ok (.iconst 1, 1) := by decide +kernel
theorem d_clear_6 : decode b_clear 6 = .ok (.iadd, 1) := by decide +kernel
theorem d_clear_7 : decode b_clear 7 = .ok (.putfield 63, 3) := by decide +kernel
theorem d_clear_10 : decode b_clear 10 = .ok (.aload_n 0, 1) := by decide +kernel
theorem d_clear_11 : decode b_clear 11 = .ok (.getfield 9, 3) := by decide +kernel
theorem d_clear_14 : decode b_clear 14 = .ok (.astore_n 1, 1) := by decide +kernel
theorem d_clear_15 : decode b_clear 15 = .ok (.aload_n 0, 1) := by decide +kernel
theorem d_clear_16 : decode b_clear 16 = .ok (.getfield 48, 3) := by decide +kernel
theorem d_clear_19 : decode b_clear 19 = .ok (.istore_n 2, 1) := by decide +kernel
theorem d_clear_20 : decode b_clear 20 = .ok (.aload_n 0, 1) := by decide +kernel
theorem d_clear_21 : decode b_clear 21 = .ok (.iconst 0, 1) := by decide +kernel
theorem d_clear_22 : decode b_clear 22 = .ok (.dup_x1, 1) := by decide +kernel
theorem d_clear_23 : decode b_clear 23 = .ok (.putfield 48, 3) := by decide +kernel
theorem d_clear_26 : decode b_clear 26 = .ok (.istore_n 3, 1) := by decide +kernel
theorem d_clear_27 : decode b_clear 27 = .ok (.iload_n 3, 1) := by decide +kernel
theorem d_clear_28 : decode b_clear 28 = .ok (.iload_n 2, 1) := by decide +kernel
theorem d_clear_29 : decode b_clear 29 = .ok (.if_icmp .ge (13), 3) := by decide +kernel
theorem d_clear_32 : decode b_clear 32 = .ok (.aload_n 1, 1) := by decide +kernel
theorem d_clear_33 : decode b_clear 33 = .ok (.iload_n 3, 1) := by decide +kernel
theorem d_clear_34 : decode b_clear 34 = .ok (.aconst_null, 1) := by decide +kernel
theorem d_clear_35 : decode b_clear 35 = .ok (.aastore, 1) := by decide +kernel
theorem d_clear_36 : decode b_clear 36 = .ok (.iinc 3 (1), 3) := by decide +kernel
theorem d_clear_39 : decode b_clear 39 = .ok (.goto (-12), 3) := by decide +kernel
theorem d_clear_42 : decode b_clear 42 = .ok (.return_, 1) := by decide +kernel
theorem hd_clear : y_clear.cls ≠ "java/lang/invoke/MethodHandle" ∧ y_clear.cls ≠ "java/lang/invoke/VarHandle" ∧ (parseMethodDescriptor y_clear.desc).map (fun d => d.parameters.length) = some 0 := by decide +kernel
abbrev rm_clear : Room := { frames := 0, cells := 0, slots := 0, locals := 0 }

set_option maxHeartbeats 4000000 in
set_option maxRecDepth 100000 in
theorem c_clear (l : Launch) (G : dm_G) (a n : Nat) (K : aK) (T : va_W) (hok : okL G K n) : dm_Ct l y_clear b_clear 4 none rm_clear G (alv G a K n T) [.ref a] (fun ov w' => ∃ K' : aK, K'.2.2.2 = K.2.2.2 ∧ okL G K' 0 ∧ ov = none ∧ w' = alv G a K' 0 T) := by
  refine dm_Ct.of (by decide +kernel) (Nat.le_of_ble_eq_true rfl) ?_
  intro p e s m below meth c A ls B hl hP hD hS
  have hx := B.1
  have hb := B.2.1
  have hK := B.2.2.2.2.2.2.2.2.1
  have hown := B.2.2.2.1
  have hts := B.2.2.2.2.1
  have hl : lv_has ls 4 [(0, .ref a)] := hl
  refine lv_aload_n hx hb d_clear_0 rfl (lv_at hl 0 rfl) ?_
  refine lv_dup hx hb d_clear_1 rfl ?_
  refine va_get (D := G.1) (ci := 10) (v := .int K.2.2.1) (C := R_AL) (T := F_AL) (N := 3) hx hb hts in_AL hown hK.1 hP 0 rfl rfl 2 (by decide) (hts _ k_272) (fun x9 h9 => u_same (hts _ k_273) x9 h9) rfl d_clear_2 ?_
  refine lv_iconst (v := (1 : Int32)) hx hb d_clear_5 (by decide) ?_
  refine lv_iadd hx hb d_clear_6 ?_
  refine va_put (D := G.1) (ci := 10) (v := .int (K.2.2.1 + 1)) (ty := t_AL 2) (C := R_AL) (T := F_AL) (N := 3) hx hb hts in_AL t_AL t_AL_ok n_AL hown hK.1 hP hD hS 0 rfl rfl 2 (by decide) (hts _ k_272) (fun x9 h9 => u_same (hts _ k_273) x9 h9) rfl (t_AL_ok 2 (by decide)) rfl rfl (Nat.le_of_ble_eq_true rfl) d_clear_7 (fun H locs hP hD hS => ?_)
  have hP : va_P G.1 dm_cl (alv G a (K.1, K.2.1, K.2.2.1 + 1, K.2.2.2) n T) H := hP
  have hD : va_D A (alv G a (K.1, K.2.1, K.2.2.1 + 1, K.2.2.2) n T) := hD
  have hok : okL G (K.1, K.2.1, K.2.2.1 + 1, K.2.2.2) n := hok
  have hKP : (K.1, K.2.1, K.2.2.1 + 1, K.2.2.2).2.2.2 = K.2.2.2 := rfl
  generalize (K.1, K.2.1, K.2.2.1 + 1, K.2.2.2) = K1 at hP hD hok hKP
  rw [← hKP]
  clear hKP
  refine lv_aload_n hx hb d_clear_10 rfl (lv_at hl 0 rfl) ?_
  refine dm_get (ci := 10) (v := .ref K1.1) B hP 0 rfl rfl in_AL 0 (by decide) k_269 rfl d_clear_11 ?_
  refine lv_astore_n (lv' := [(1, .ref K1.1), (0, .ref a)]) hx hb d_clear_14 rfl hl (Nat.le_of_ble_eq_true rfl) rfl (fun ls hl => ?_)
  refine lv_aload_n hx hb d_clear_15 rfl (lv_at hl 1 rfl) ?_
  refine dm_get (ci := 10) (v := .int (nI n)) B hP 0 rfl rfl in_AL 1 (by decide) k_270 rfl d_clear_16 ?_
  refine lv_istore_n (lv' := [(2, .int (nI n)), (1, .ref K1.1), (0, .ref a)]) hx hb d_clear_19 rfl hl (Nat.le_of_ble_eq_true rfl) rfl (fun ls hl => ?_)
  refine lv_aload_n hx hb d_clear_20 rfl (lv_at hl 2 rfl) ?_
  refine lv_iconst (v := (0 : Int32)) hx hb d_clear_21 (by decide) ?_
  refine lv_dup_x1 hx hb d_clear_22 rfl rfl ?_
  refine dm_put (ci := 10) (v := .int (0 : Int32)) B hP hD hS 0 rfl rfl in_AL t_AL t_AL_ok n_AL 1 (by decide) k_270 rfl rfl rfl (Nat.le_of_ble_eq_true rfl) d_clear_23 (fun H locs hP hD hS => ?_)
  refine lv_istore_n (lv' := [(3, .int (0 : Int32)), (2, .int (nI n)), (1, .ref K1.1), (0, .ref a)]) hx hb d_clear_26 rfl hl (Nat.le_of_ble_eq_true rfl) rfl (fun ls hl => ?_)
  by_cases h0 : K1.2.1 = 0
  · have hn0 := (hok.2.1 h0).1
    subst hn0
    have e1 : alv G a K1 0 T = alo a K1 (nI 0) :: T := by simp [alv, arw, h0]
    rw [e1] at hP hD
    have hP : va_P G.1 dm_cl (alo a K1 (nI 0) :: T) H := hP
    have hD : va_D A (alo a K1 (nI 0) :: T) := hD
    rw [← e1] at hP hD
    refine lv_iload_n hx hb d_clear_27 rfl (lv_at hl 0 rfl) ?_
    refine lv_iload_n hx hb d_clear_28 rfl (lv_at hl 1 rfl) ?_
    refine lv_icmp_ge (tgt := 42) hx hb d_clear_29 (by decide) (fun _ => ?_) (fun h => absurd h (by decide))
    exact dm_retv B d_clear_42 (by decide) (by decide) hP hD hS ⟨K1, rfl, hok, rfl, rfl⟩
  · have e1 : alv G a K1 n T = alo a K1 (nI n) :: qar G K1.1 K1.2.1 (ctab K1.2.2.2 n) :: T := by simp [alv, arw, h0]
    rw [e1] at hP hD
    have hP : va_P G.1 dm_cl (alo a K1 (nI 0) :: qar G K1.1 K1.2.1 (ctab K1.2.2.2 n) :: T) H := hP
    have hD : va_D A (alo a K1 (nI 0) :: qar G K1.1 K1.2.1 (ctab K1.2.2.2 n) :: T) := hD
    have hcap := hok.2.2.1
    have hcap2 := hok.2.2.2
    have loop : ∀ (d i : Nat) (ls : Array Slot) (H : Heap) (locs : List Loc) (cf : Nat → Option Nat), i + d = n → (∀ j, cf j = if j < i then none else ctab K1.2.2.2 n j) → lv_has ls 4 [(3, .int (nI i)), (2, .int (nI n)), (1, .ref K1.1), (0, .ref a)] → va_P G.1 dm_cl (alo a K1 (nI 0) :: qar G K1.1 K1.2.1 cf :: T) H → va_D A (alo a K1 (nI 0) :: qar G K1.1 K1.2.1 cf :: T) → va_S A s.heap H locs → W p l e rm_clear s m ([.ref a] : List Value).toArray below meth c H locs 0 0 (dm_Z below G s ([.ref a] : List Value).toArray A rm_clear.cells rm_clear.slots (fun ov w' => ∃ K' : aK, K'.2.2.2 = K1.2.2.2 ∧ okL G K' 0 ∧ ov = none ∧ w' = alv G a K' 0 T)) (F0 m 27 ls []) := by
      intro d
      induction d with
      | zero =>
        intro i ls H locs cf hi hcf hl hP hD hS
        have hi : i = n := by omega
        subst hi
        refine lv_iload_n hx hb d_clear_27 rfl (lv_at hl 0 rfl) ?_
        refine lv_iload_n hx hb d_clear_28 rfl (lv_at hl 1 rfl) ?_
        refine lv_icmp_ge (tgt := 42) hx hb d_clear_29 (by decide) (fun _ => ?_) (fun h => absurd (nI_le (Nat.le_refl i) (by omega)) h)
        have ec : cf = ctab K1.2.2.2 0 := by
          rw [ctab0]
          funext j
          rw [hcf j]
          by_cases hj : j < i
          · simp [hj]
          · simp [hj, ctab]
        subst ec
        have e2 : alv G a K1 0 T = alo a K1 (nI 0) :: qar G K1.1 K1.2.1 (ctab K1.2.2.2 0) :: T := by simp [alv, arw, h0]
        have hP : va_P G.1 dm_cl (alv G a K1 0 T) H := by rw [e2]; exact hP
        have hD : va_D A (alv G a K1 0 T) := by rw [e2]; exact hD
        exact dm_retv B d_clear_42 (by decide) (by decide) hP hD hS ⟨K1, rfl, ⟨by omega, fun h => absurd h h0, Nat.zero_le _, hcap2⟩, rfl, rfl⟩
      | succ d ih =>
        intro i ls H locs cf hi hcf hl hP hD hS
        have hin : i < n := by omega
        have hn64 := hok.1
        refine lv_iload_n hx hb d_clear_27 rfl (lv_at hl 0 rfl) ?_
        refine lv_iload_n hx hb d_clear_28 rfl (lv_at hl 1 rfl) ?_
        refine lv_icmp_ge (tgt := 42) hx hb d_clear_29 (by decide) (fun h => absurd h (nI_ge hin (by omega))) (fun _ => ?_)
        refine lv_aload_n hx hb d_clear_32 rfl (lv_at hl 2 rfl) ?_
        refine lv_iload_n hx hb d_clear_33 rfl (lv_at hl 0 rfl) ?_
        refine lv_null hx hb d_clear_34 ?_
        refine va_astqN (D := G.1) hx hb hK.1 hP hD hS 1 6 rfl rfl (vp_in_nI (by omega) (by omega)) d_clear_35 (fun H locs hP hD hS => ?_)
        have hi2 : (nI i).toNatClampNeg = i := nI_clamp (by omega)
        rw [hi2] at hP hD
        refine lv_iinc (k := 0) (v := nI (i + 1)) (lv' := [(3, .int (nI (i + 1))), (2, .int (nI n)), (1, .ref K1.1), (0, .ref a)]) hx hb d_clear_36 hl rfl (nI_1 i) (Nat.le_of_ble_eq_true rfl) rfl (fun ls hl => ?_)
        refine lv_goto (tgt := 27) hx hb d_clear_39 (by decide) ?_
        refine ih (i + 1) ls H locs (va_up cf i none) (by omega) ?_ hl hP hD hS
        intro j
        unfold va_up
        by_cases hj : j = i
        · subst hj; simp
        · rw [hcf j]
          by_cases hj2 : j < i
          · have : j < i + 1 := by omega
            simp [hj, hj2, this]
          · have : ¬ j < i + 1 := by omega
            simp [hj, hj2, this]
    exact loop n 0 ls H locs _ (by omega) (fun j => by simp) hl hP hD hS
