abbrev b_Pl_init : ByteArray := prog_8_method_1_code
abbrev y_Pl_init : MethodName := { cls := "DelayMachine$Placed", name := "<init>", desc := "()V" }
theorem d_Pl_init_0 : decode b_Pl_init 0 = .ok (.aload_n 0, 1) := by decide +kernel
theorem d_Pl_init_1 : decode b_Pl_init 1 = .ok (.invokespecial 1, 3) := by decide +kernel
theorem d_Pl_init_4 : decode b_Pl_init 4 = .ok (.return_, 1) := by decide +kernel
theorem hd_Pl_init : y_Pl_init.cls ≠ "java/lang/invoke/MethodHandle" ∧ y_Pl_init.cls ≠ "java/lang/invoke/VarHandle" ∧ (parseMethodDescriptor y_Pl_init.desc).map (fun d => d.parameters.length) = some 0 := by decide +kernel
abbrev rm_Pl_init : Room := { frames := 1, cells := 0, slots := 0, locals := 20 }
set_option maxHeartbeats 4000000 in
set_option maxRecDepth 100000 in
theorem c_Pl_init (l : Launch) (G : dm_G) (a : Nat) : dm_Ct l y_Pl_init b_Pl_init 1 none rm_Pl_init G [(a, .inr (12, [.int (0 : Int32), .int (0 : Int32), .int (0 : Int32), .int (0 : Int32), .int (0 : Int32)]))] [.ref a] (fun ov w' => ov = none ∧ w' = [(a, .inr (12, [.int (0 : Int32), .int (0 : Int32), .int (0 : Int32), .int (0 : Int32), .int (0 : Int32)]))]) := by
  refine dm_Ct.of (by decide +kernel) (Nat.le_of_ble_eq_true rfl) ?_
  intro p e s m below meth c A ls B hl hP hD hS
  have hx := B.1
  have hb := B.2.1
  have hl : lv_has ls 1 [(0, .ref a)] := hl
  refine lv_aload_n hx hb d_Pl_init_0 rfl (lv_at hl 0 rfl) ?_
  refine dm_oi B k_651 k_30 k_31 hl.1 d_Pl_init_1 (by decide) (Nat.le_of_ble_eq_true rfl) ?_
  exact dm_retv B d_Pl_init_4 (by decide) (by decide) hP hD hS ⟨rfl, rfl⟩
abbrev b_As_put : ByteArray := prog_2_method_3_code
abbrev y_As_put : MethodName := { cls := "DelayMachine$Assembler", name := "put", desc := "(III)LDelayMachine$Placed;" }
theorem d_As_put_0 : decode b_As_put 0 = .ok (.aload_n 0, 1) := by decide +kernel
theorem d_As_put_1 : decode b_As_put 1 = .ok (.getfield 41, 3) := by decide +kernel
theorem d_As_put_4 : decode b_As_put 4 = .ok (.aload_n 0, 1) := by decide +kernel
theorem d_As_put_5 : decode b_As_put 5 = .ok (.getfield 18, 3) := by decide +kernel
theorem d_As_put_8 : decode b_As_put 8 = .ok (.invokevirtual 45, 3) := by decide +kernel
theorem d_As_put_11 : decode b_As_put 11 = .ok (.if_icmp .ne (18), 3) := by decide +kernel
theorem d_As_put_14 : decode b_As_put 14 = .ok (.aload_n 0, 1) := by decide +kernel
theorem d_As_put_15 : decode b_As_put 15 = .ok (.getfield 18, 3) := by decide +kernel
theorem d_As_put_18 : decode b_As_put 18 = .ok (.new 49, 3) := by decide +kernel
theorem d_As_put_21 : decode b_As_put 21 = .ok (.dup, 1) := by decide +kernel
theorem d_As_put_22 : decode b_As_put 22 = .ok (.invokespecial 51, 3) := by decide +kernel
theorem d_As_put_25 : decode b_As_put 25 = .ok (.invokevirtual 52, 3) := by decide +kernel
theorem d_As_put_28 : decode b_As_put 28 = .ok (.pop, 1) := by decide +kernel
theorem d_As_put_29 : decode b_As_put 29 = .ok (.aload_n 0, 1) := by decide +kernel
theorem d_As_put_30 : decode b_As_put 30 = .ok (.getfield 18, 3) := by decide +kernel
theorem d_As_put_33 : decode b_As_put 33 = .ok (.aload_n 0, 1) := by decide +kernel
theorem d_As_put_34 : decode b_As_put 34 = .ok (.getfield 41, 3) := by decide +kernel
theorem d_As_put_37 : decode b_As_put 37 = .ok (.invokevirtual 56, 3) := by decide +kernel
theorem d_As_put_40 : decode b_As_put 40 = .ok (.checkcast 49, 3) := by decide +kernel
theorem d_As_put_43 : decode b_As_put 43 = .ok (.iload_n 1, 1) := by decide +kernel
theorem d_As_put_44 : decode b_As_put 44 = .ok (.iload_n 2, 1) := by decide +kernel
theorem d_As_put_45 : decode b_As_put 45 = .ok (.iload_n 3, 1) := by decide +kernel
theorem d_As_put_46 : decode b_As_put 46 = .ok (.invokevirtual 60, 3) := by decide +kernel
theorem d_As_put_49 : decode b_As_put 49 = .ok (.astore 4, 2) := by decide +kernel
theorem d_As_put_51 : decode b_As_put 51 = .ok (.aload_n 0, 1) := by decide +kernel
theorem d_As_put_52 : decode b_As_put 52 = .ok (.dup, 1) := by decide +kernel
theorem d_As_put_53 : decode b_As_put 53 = .ok (.getfield 41, 3) := by decide +kernel
theorem d_As_put_56 : decode b_As_put 56 = .ok (.iconst 1, 1) := by decide +kernel
theorem d_As_put_57 : decode b_As_put 57 = .ok (.iadd, 1) := by decide +kernel
theorem d_As_put_58 : decode b_As_put 58 = .ok (.putfield 41, 3) := by decide +kernel
theorem d_As_put_61 : decode b_As_put 61 = .ok (.aload_n 0, 1) := by decide +kernel
theorem d_As_put_62 : decode b_As_put 62 = .ok (.getfield 21, 3) := by decide +kernel
theorem d_As_put_65 : decode b_As_put 65 = .ok (.bipush (32), 2) := by decide +kernel
theorem d_As_put_67 : decode b_As_put 67 = .ok (.iload_n 1, 1) := by decide +kernel
theorem d_As_put_68 : decode b_As_put 68 = .ok (.imul, 1) := by decide +kernel
theorem d_As_put_69 : decode b_As_put 69 = .ok (.iload_n 2, 1) := by decide +kernel
theorem d_As_put_70 : decode b_As_put 70 = .ok (.iadd, 1) := by decide +kernel
theorem d_As_put_71 : decode b_As_put 71 = .ok (.iconst 1, 1) := by decide +kernel
theorem d_As_put_72 : decode b_As_put 72 = .ok (.bastore, 1) := by decide +kernel
theorem d_As_put_73 : decode b_As_put 73 = .ok (.aload_n 0, 1) := by decide +kernel
theorem d_As_put_74 : decode b_As_put 74 = .ok (.getfield 64, 3) := by decide +kernel
theorem d_As_put_77 : decode b_As_put 77 = .ok (.ifnull (12), 3) := by decide +kernel
theorem d_As_put_80 : decode b_As_put 80 = .ok (.aload_n 0, 1) := by decide +kernel
theorem d_As_put_81 : decode b_As_put 81 = .ok (.getfield 64, 3) := by decide +kernel
theorem d_As_put_84 : decode b_As_put 84 = .ok (.iload_n 1, 1) := by decide +kernel
theorem d_As_put_85 : decode b_As_put 85 = .ok (.iload_n 2, 1) := by decide +kernel
theorem d_As_put_86 : decode b_As_put 86 = .ok (.invokevirtual 68, 3) := by decide +kernel
theorem d_As_put_89 : decode b_As_put 89 = .ok (.aload_n 0, 1) := by decide +kernel
theorem d_As_put_90 : decode b_As_put 90 = .ok (.aload 4, 2) := by decide +kernel
theorem d_As_put_92 : decode b_As_put 92 = .ok (.putfield 64, 3) := by decide +kernel
theorem d_As_put_95 : decode b_As_put 95 = .ok (.aload 4, 2) := by decide +kernel
theorem d_As_put_97 : decode b_As_put 97 = .ok (.areturn, 1) := by decide +kernel
theorem hd_As_put : y_As_put.cls ≠ "java/lang/invoke/MethodHandle" ∧ y_As_put.cls ≠ "java/lang/invoke/VarHandle" ∧ (parseMethodDescriptor y_As_put.desc).map (fun d => d.parameters.length) = some 3 := by decide +kernel

theorem dm_cnt {w w' : va_W} (h : ∀ (_ : DecidableEq (Nat × va_E)) (a : Nat × va_E), w.count a = w'.count a) : w.Perm w' := by
  letI : DecidableEq (Nat × va_E) := fun a b => Classical.propDecidable (a = b)
  exact List.perm_iff_count.mpr (fun a => h _ a)
theorem plw_push {n q : Nat} {P : Nat → Nat} {u : Nat → Nat → Int32} {x : Nat → Int32} : plw (n + 1) (va_up P n q) (va_up u n x) = plw n P u ++ [(q, plc x)] := by
  unfold plw
  rw [List.range_succ, List.map_append]
  congr 1
  · apply List.map_congr_left
    intro i hi
    have : i ≠ n := by have := List.mem_range.mp hi; omega
    rw [va_up_ne _ _ this, va_up_ne _ _ this]
  · simp [va_up]
def awx (G : dm_G) (g : Nat → Nat) (Y : aK) (t : Nat → Nat → Int32) (T : va_W) (K : aK) (N : Nat) (v : Nat → Int32) (f : Nat → Nat → Int32) (u : Nat → Nat → Int32) (la : Nat → Option Nat) : va_W :=
  (g 91, .inr (9, [.ref (g 100), .ref (g 101), .int (v 2), .ref (g 103), .ref (g 104), .ref (g 105), .ref (g 106), .ref (g 107), .int (v 8), .int (v 9), va_rf ((la 0).map K.2.2.2)])) :: (g 103, .inl (G.2.1 2, 96, .inl (f 3))) :: (g 104, .inl (G.2.1 0, 16, .inl (f 4))) :: (g 105, .inl (G.2.1 0, 12, .inl (f 5))) :: (g 106, .inl (G.2.1 0, 16, .inl (f 6))) :: (g 107, .inl (G.2.1 0, 12, .inl (f 7))) :: alo (g 100) Y (v 21) :: alo (g 101) K (nI N) ::
    (plw N K.2.2.2 u ++ (arw G K N ++ (arw G Y (v 21).toNatClampNeg ++ (stw (v 21).toNatClampNeg Y.2.2.2 t ++ T))))
theorem aw_x {G : dm_G} {g : Nat → Nat} {Y : aK} {t : Nat → Nat → Int32} {T : va_W} {K : aK} {N : Nat} {v : Nat → Int32} {f : Nat → Nat → Int32} {u : Nat → Nat → Int32} {la : Nat → Option Nat} (hz : v 20 = nI N) (hN : N < 2 ^ 31) : aw G g Y t T K v f u la = awx G g Y t T K N v f u la := by
  unfold aw awx
  rw [hz, nI_clamp hN]
/-- what is not the pool's list, of a world with a new order behind it -/
def awr (G : dm_G) (g : Nat → Nat) (Y : aK) (t : Nat → Nat → Int32) (T : va_W) (K : aK) (N : Nat) (v : Nat → Int32) (f : Nat → Nat → Int32) (u : Nat → Nat → Int32) (la : Nat → Option Nat) (x : va_W) : va_W :=
  (g 91, .inr (9, [.ref (g 100), .ref (g 101), .int (v 2), .ref (g 103), .ref (g 104), .ref (g 105), .ref (g 106), .ref (g 107), .int (v 8), .int (v 9), va_rf ((la 0).map K.2.2.2)])) :: (g 103, .inl (G.2.1 2, 96, .inl (f 3))) :: (g 104, .inl (G.2.1 0, 16, .inl (f 4))) :: (g 105, .inl (G.2.1 0, 12, .inl (f 5))) :: (g 106, .inl (G.2.1 0, 16, .inl (f 6))) :: (g 107, .inl (G.2.1 0, 12, .inl (f 7))) :: alo (g 100) Y (v 21) ::
    (plw N K.2.2.2 u ++ (arw G Y (v 21).toNatClampNeg ++ (stw (v 21).toNatClampNeg Y.2.2.2 t ++ (T ++ x))))
theorem aw_p1 {G : dm_G} {g : Nat → Nat} {Y : aK} {t : Nat → Nat → Int32} {T : va_W} {K : aK} {N : Nat} {v : Nat → Int32} {f : Nat → Nat → Int32} {u : Nat → Nat → Int32} {la : Nat → Option Nat} {x : Nat × va_E} : (awx G g Y t T K N v f u la ++ [x]).Perm (alv G (g 101) K N (awr G g Y t T K N v f u la [x])) := by
  refine dm_cnt (fun _ a => ?_)
  simp only [awx, alv, awr, List.cons_append, List.append_assoc, List.count_cons, List.count_append, List.count_nil]
  omega
theorem aw_p2 {G : dm_G} {g : Nat → Nat} {Y : aK} {t : Nat → Nat → Int32} {T : va_W} {K K' : aK} {N q : Nat} {v : Nat → Int32} {f : Nat → Nat → Int32} {u : Nat → Nat → Int32} {la : Nat → Option Nat} {y : Nat → Int32} (hP : K'.2.2.2 = va_up K.2.2.2 N q) (hla : ∀ j, la 0 = some j → j < N) : (alv G (g 101) K' (N + 1) (awr G g Y t T K N v f u la [(q, plc y)])).Perm (awx G g Y t T K' (N + 1) (va_up v 20 (nI (N + 1))) f (va_up u N y) la) := by
  have e0 : (la 0).map K'.2.2.2 = (la 0).map K.2.2.2 := by
    cases h : la 0 with
    | none => rfl
    | some j =>
      have := hla j h
      simp only [Option.map_some]
      rw [hP, va_up_ne _ _ (by omega)]
  have e1 : plw (N + 1) K'.2.2.2 (va_up u N y) = plw N K.2.2.2 u ++ [(q, plc y)] := by rw [hP]; exact plw_push
  refine dm_cnt (fun _ a => ?_)
  have e2 : awx G g Y t T K' (N + 1) (va_up v 20 (nI (N + 1))) f (va_up u N y) la = (g 91, .inr (9, [.ref (g 100), .ref (g 101), .int (v 2), .ref (g 103), .ref (g 104), .ref (g 105), .ref (g 106), .ref (g 107), .int (v 8), .int (v 9), va_rf ((la 0).map K.2.2.2)])) :: (g 103, .inl (G.2.1 2, 96, .inl (f 3))) :: (g 104, .inl (G.2.1 0, 16, .inl (f 4))) :: (g 105, .inl (G.2.1 0, 12, .inl (f 5))) :: (g 106, .inl (G.2.1 0, 16, .inl (f 6))) :: (g 107, .inl (G.2.1 0, 12, .inl (f 7))) :: alo (g 100) Y (v 21) :: alo (g 101) K' (nI (N + 1)) ::
    ((plw N K.2.2.2 u ++ [(q, plc y)]) ++ (arw G K' (N + 1) ++ (arw G Y (v 21).toNatClampNeg ++ (stw (v 21).toNatClampNeg Y.2.2.2 t ++ T)))) := by
    rw [← e0, ← e1]; rfl
  rw [e2]
  simp only [alv, awr, List.cons_append, List.append_assoc, List.count_cons, List.count_append, List.count_nil]
  omega
theorem awr_el {G : dm_G} {g : Nat → Nat} {Y : aK} {t : Nat → Nat → Int32} {T : va_W} {K : aK} {N : Nat} {v : Nat → Int32} {f : Nat → Nat → Int32} {u : Nat → Nat → Int32} {la : Nat → Option Nat} {x : va_W} : elT 12 K N (awr G g Y t T K N v f u la x) := by
  intro j hj
  obtain ⟨k, hk⟩ := List.getElem?_of_mem (show (K.2.2.2 j, plc (u j)) ∈ awr G g Y t T K N v f u la x by
    have h : (K.2.2.2 j, plc (u j)) ∈ plw N K.2.2.2 u := List.mem_map.mpr ⟨j, List.mem_range.mpr hj, rfl⟩
    unfold awr
    simp only [List.mem_cons, List.mem_append]
    simp only [h, true_or, or_true])
  exact ⟨k, _, hk⟩
set_option maxHeartbeats 4000000 in
set_option maxRecDepth 100000 in
/-- in put: a new order is made and laid into the pool -/
theorem aw_newp {p : Program} {l : Launch} {e : Env} {R : Room} {s : State} {m : MethodId} {args : Array Value} {below : List Frame} {meth : Method} {c : Code} {H : Heap} {locs : List Loc} {cells slots : Nat} {Q : State → Prop} {ret0 : Option FieldType} {nm : String} {G : dm_G} {A : Nat → Prop} {ls : Array Slot} {g : Nat → Nat} {Y : aK} {t : Nat → Nat → Int32} {T : va_W} {K : aK} {v : Nat → Int32} {f : Nat → Nat → Int32} {u : Nat → Nat → Int32} {la : Nat → Option Nat}
    (B : dm_B p s m args meth c b_As_put 5 ret0 "DelayMachine$Assembler" nm G A) (hsz : ls.size = 5) (h0 : ls[0]? = some (.val (.ref (g 91)))) (hk : okA G K (v 20)) (hla : Option.all (fun j => decide (j < (v 20).toNatClampNeg)) (la 0) = true) (hi : ¬ 64 ≤ (v 20).toNatClampNeg) (hP : va_P G.1 dm_cl (aw G g Y t T K v f u la) H) (hD : va_D A (aw G g Y t T K v f u la)) (hS : va_S A s.heap H locs) (hc : cells + 2 ≤ R.cells) (hs : slots + 105 ≤ R.slots) (hfr : 7 ≤ R.frames) (hlo : 251 ≤ R.locals)
    (kk : ∀ (K1 : aK) (H1 : Heap) (locs1 : List Loc), okA G K1 (v 20 + 1) → extP K K1 (v 20) (v 20 + 1) → va_P G.1 dm_cl (aw G g Y t T K1 (va_up v 20 (v 20 + 1)) f (va_up u (v 20).toNatClampNeg (fun _ => 0)) la) H1 → va_D A (aw G g Y t T K1 (va_up v 20 (v 20 + 1)) f (va_up u (v 20).toNatClampNeg (fun _ => 0)) la) → va_S A s.heap H1 locs1 → W p l e R s m args below meth c H1 locs1 (cells + 2) (slots + 105) Q (F0 m 29 ls [])) : W p l e R s m args below meth c H locs cells slots Q (F0 m 14 ls []) := by
  have hx := B.1
  have hb := B.2.1
  have hK := B.2.2.2.2.2.2.2.2.1
  obtain ⟨hL, hz⟩ := hk
  generalize hNe : (v 20).toNatClampNeg = N at hL hz hla hi kk
  have hN : N < 64 := by omega
  have hla' : ∀ j, la 0 = some j → j < N := by
    intro j hj
    rw [hj] at hla
    simpa using hla
  refine lv_aload_n hx hb d_As_put_14 rfl h0 ?_
  refine aw_g_0_1 B hP k_287 d_As_put_15 ?_
  refine dm_new (ci := 12) (fs := [.int 0, .int 0, .int 0, .int 0, .int 0]) B rfl in_Pl t_Pl t_Pl_ok k_646 k_647 k_23 hP hD hS (by decide +kernel) (by omega) (by omega) d_As_put_18 (fun q H hP hD hS => ?_)
  refine lv_dup hx hb d_As_put_21 rfl ?_
  refine dm_callINp (wr := aw G g Y t T K v f u la) B [] (c_Pl_init l G q) k_648 k_649 k_23 k_650 rfl hd_Pl_init rfl ⟨by show 1 + 1 ≤ R.frames; omega, by show 8 + (1 + 11) + 20 ≤ R.locals; omega⟩ hP hD hS (List.Perm.refl _) hsz (rest := [.ref q, .ref (g 101)]) rfl (Nat.le_of_ble_eq_true rfl) d_As_put_22 ⟨by show cells + 1 + 0 ≤ R.cells; omega, by show slots + 5 + 0 ≤ R.slots; omega⟩ (fun ov w' H locs hq hP hD hS => ?_)
  obtain ⟨rfl, rfl⟩ := hq
  refine W.eq (g2 := F0 m 25 ls [.ref q, .ref (g 101)]) rfl ?_
  have hP : va_P G.1 dm_cl (aw G g Y t T K v f u la ++ [(q, plc (fun _ => 0))]) H := hP
  have hD : va_D A (aw G g Y t T K v f u la ++ [(q, plc (fun _ => 0))]) := hD
  rw [aw_x hz (by omega)] at hP hD
  have hP := dm_pP aw_p1 hP
  have hD := dm_pD aw_p1 hD
  refine dm_callVw B [.ref q] (c_add1 l G (g 101) N 12 q K R_Pl F_Pl 5 _ hL hN rfl k_1034 awr_el ?_) k_672 k_522 k_523 k_13 k_524 hd_add1 rfl ⟨by show 6 + 1 ≤ R.frames; omega, by show 8 + (2 + 11) + 230 ≤ R.locals; omega⟩ 0 rfl rfl hP hD hS hsz (rest := []) rfl (Nat.le_of_ble_eq_true rfl) d_As_put_25 ⟨by show cells + 1 + 0 + 1 ≤ R.cells; omega, by show slots + 5 + 0 + 100 ≤ R.slots; omega⟩ (fun ov w' H locs hq hP hD hS => ?_)
  · obtain ⟨k, hk⟩ := List.getElem?_of_mem (show (q, plc (fun _ => 0)) ∈ awr G g Y t T K N v f u la [(q, plc (fun _ => 0))] by
      unfold awr
      simp only [List.mem_cons, List.mem_append, List.not_mem_nil, or_false, or_true])
    exact ⟨k, _, hk⟩
  obtain ⟨K1, hKP, hok1, rfl, rfl⟩ := hq
  refine W.eq (g2 := F0 m 28 ls [.int 1]) rfl ?_
  refine lv_pop hx hb d_As_put_28 rfl ?_
  have hP := dm_pP (aw_p2 hKP hla') hP
  have hD := dm_pD (aw_p2 hKP hla') hD
  have e20 : v 20 + 1 = nI (N + 1) := by rw [hz, nI_1]
  have hN1 : (nI (N + 1)).toNatClampNeg = N + 1 := nI_clamp (by omega)
  rw [← aw_x (by simp [va_up]) (by omega), ← e20] at hP hD
  refine W.cs (cells' := cells + 2) (slots' := slots + 105) (by show cells + 1 + 0 + 1 = cells + 2; omega) (by show slots + 5 + 0 + 100 = slots + 105; omega) ?_
  refine kk K1 H locs ⟨by rw [e20, hN1]; exact hok1, by rw [e20, hN1]⟩ ⟨by rw [e20, hN1, hNe]; omega, fun j hj => ?_⟩ hP hD hS
  rw [hNe] at hj
  rw [hKP, va_up_ne _ _ (by omega)]

abbrev rm_As_put : Room := { frames := 7, cells := 2, slots := 105, locals := 251 }
def F_As_put_89 (t : Nat → Nat → Int32) (x1 x2 x3 : Int32)   (p4 : Nat) (v : Nat → Int32) (f : Nat → Nat → Int32) (u : Nat → Nat → Int32) (la : Nat → Option Nat) : Option (Nat × (Nat → Int32) × (Nat → Nat → Int32) × (Nat → Nat → Int32) × (Nat → Option Nat)) := (some (p4, v, f, u, (va_up la 0 (some p4))))
def F_As_put_29 (t : Nat → Nat → Int32) (x1 x2 x3 : Int32)    (v : Nat → Int32) (f : Nat → Nat → Int32) (u : Nat → Nat → Int32) (la : Nat → Option Nat) : Option (Nat × (Nat → Int32) × (Nat → Nat → Int32) × (Nat → Nat → Int32) × (Nat → Option Nat)) := (Option.bind (F_AL_get_p t  (v 2) v f u la) (fun z1 => (if (v 20).toNatClampNeg ≤ z1 then none else (if (v 20).toNatClampNeg ≤ z1 then none else (Option.bind (F_Pl_be t z1 x1 x2 x3 v f u la) (fun z2 => (if (((32 : Int32) * x1) + x2) < 0 ∨ 96 ≤ (((32 : Int32) * x1) + x2).toNatClampNeg then none else (dm_oc (z2.2.2.2.2 0) (F_As_put_89 t x1 x2 x3 z2.1 (va_up z2.2.1 2 ((z2.2.1 2) + (1 : Int32))) (va_up z2.2.2.1 3 (upd (z2.2.2.1 3) (((32 : Int32) * x1) + x2).toNatClampNeg ((1 : Int32) &&& 1))) z2.2.2.2.1 z2.2.2.2.2) (fun iz3 => (if (z2.2.1 20).toNatClampNeg ≤ iz3 then none else (Option.bind (F_Pl_lead t iz3 x1 x2 (va_up z2.2.1 2 ((z2.2.1 2) + (1 : Int32))) (va_up z2.2.2.1 3 (upd (z2.2.2.1 3) (((32 : Int32) * x1) + x2).toNatClampNeg ((1 : Int32) &&& 1))) z2.2.2.2.1 z2.2.2.2.2) (fun z4 => (F_As_put_89 t x1 x2 x3 z2.1 z4.1 z4.2.1 z4.2.2.1 z4.2.2.2)))))))))))))
def F_As_put (t : Nat → Nat → Int32) (x1 x2 x3 : Int32)  (v0 : Nat → Int32) (f0 : Nat → Nat → Int32) (u0 : Nat → Nat → Int32) (la0 : Nat → Option Nat) : Option (Nat × (Nat → Int32) × (Nat → Nat → Int32) × (Nat → Nat → Int32) × (Nat → Option Nat)) := (Option.bind (F_AL_size_p t   v0 f0 u0 la0) (fun z1 => (if (v0 2) = z1 then (if Option.all (fun j => decide (j < (v0 20).toNatClampNeg)) (la0 0) = true then (if 64 ≤ (v0 20).toNatClampNeg then none else (F_As_put_29 t x1 x2 x3 (va_up v0 20 ((v0 20) + 1)) f0 (va_up u0 (v0 20).toNatClampNeg (fun _ => 0)) la0)) else none) else (F_As_put_29 t x1 x2 x3 v0 f0 u0 la0))))
set_option maxHeartbeats 4000000 in
set_option maxRecDepth 100000 in
theorem c_As_put (l : Launch) (G : dm_G) (g : Nat → Nat) (Y : aK) (t : Nat → Nat → Int32) (T : va_W) (K0 : aK) (x1 x2 x3 : Int32) (v0 : Nat → Int32) (f0 : Nat → Nat → Int32) (u0 : Nat → Nat → Int32) (la0 : Nat → Option Nat) (RES : Nat × (Nat → Int32) × (Nat → Nat → Int32) × (Nat → Nat → Int32) × (Nat → Option Nat)) (hY : okA G Y (v0 21)) (hk : okA G K0 (v0 20)) (hF : F_As_put t x1 x2 x3 v0 f0 u0 la0 = some RES) : dm_Ct l y_As_put b_As_put 5 (some (.object "DelayMachine$Placed")) rm_As_put G (aw G g Y t T K0 v0 f0 u0 la0) [.ref (g 91), .int x1, .int x2, .int x3] (fun ov w' => ∃ K' : aK, okA G Y (RES.2.1 21) ∧ okA G K' (RES.2.1 20) ∧ extP K0 K' (v0 20) (RES.2.1 20) ∧ ov = some (.ref (K'.2.2.2 RES.1)) ∧ w' = (aw G g Y t T K' RES.2.1 RES.2.2.1 RES.2.2.2.1 RES.2.2.2.2)) := by
  refine dm_Ct.of (by decide +kernel) (Nat.le_of_ble_eq_true rfl) ?_
  intro p e s m below meth c A ls B hl hP hD hS
  have hx := B.1
  have hb := B.2.1
  have hl : lv_has ls 5 [(0, .ref (g 91)), (1, .int x1), (2, .int x2), (3, .int x3)] := hl
  have hext : extP K0 K0 (v0 20) (v0 20) := extP.rf
  have K89 : ∀ (ls : Array Slot) (H : Heap) (locs : List Loc) (cc ss : Nat) (K : aK) (p4 : Nat) (v : Nat → Int32) (f : Nat → Nat → Int32) (u : Nat → Nat → Int32) (la : Nat → Option Nat), cc ≤ 2 → ss ≤ 105 → okA G Y (v 21) → okA G K (v 20) → extP K0 K (v0 20) (v 20) → lv_has ls 5 [(0, .ref (g 91)), (4, .ref (K.2.2.2 p4))] → va_P G.1 dm_cl (aw G g Y t T K v f u la) H → va_D A (aw G g Y t T K v f u la) → va_S A s.heap H locs → F_As_put_89 t x1 x2 x3 p4 v f u la = some RES → W p l e rm_As_put s m ([.ref (g 91), .int x1, .int x2, .int x3] : List Value).toArray below meth c H locs cc ss (dm_Z below G s ([.ref (g 91), .int x1, .int x2, .int x3] : List Value).toArray A rm_As_put.cells rm_As_put.slots (fun ov w' => ∃ K' : aK, okA G Y (RES.2.1 21) ∧ okA G K' (RES.2.1 20) ∧ extP K0 K' (v0 20) (RES.2.1 20) ∧ ov = some (.ref (K'.2.2.2 RES.1)) ∧ w' = (aw G g Y t T K' RES.2.1 RES.2.2.1 RES.2.2.2.1 RES.2.2.2.2))) (F0 m 89 ls []) := by
    intro ls H locs cc ss K p4 v f u la hcc hss hY hk hext hl hP hD hS hF
    have hF : (some (p4, v, f, u, (va_up la 0 (some p4)))) = some RES := hF
    refine lv_aload_n hx hb d_As_put_89 rfl (lv_at hl 0 rfl) ?_
    refine lv_aload hx hb d_As_put_90 (lv_at hl 1 rfl) ?_
    refine aw_pq_0_10 (x := p4) B hP hD hS k_298 d_As_put_92 (fun H locs hP hD hS => ?_)
    refine lv_aload hx hb d_As_put_95 (lv_at hl 1 rfl) ?_
    have hF := Option.some.inj hF
    subst hF
    exact dm_reta B (Or.inl ⟨_, rfl⟩) (Or.inr ⟨_, rfl⟩) d_As_put_97 (by show cc ≤ 2; omega) (by show ss ≤ 105; omega) hP hD hS ⟨K, hY, hk, hext, rfl, rfl⟩
  have K29 : ∀ (ls : Array Slot) (H : Heap) (locs : List Loc) (cc ss : Nat) (K : aK)  (v : Nat → Int32) (f : Nat → Nat → Int32) (u : Nat → Nat → Int32) (la : Nat → Option Nat), cc ≤ 2 → ss ≤ 105 → okA G Y (v 21) → okA G K (v 20) → extP K0 K (v0 20) (v 20) → lv_has ls 5 [(0, .ref (g 91)), (1, .int x1), (2, .int x2), (3, .int x3)] → va_P G.1 dm_cl (aw G g Y t T K v f u la) H → va_D A (aw G g Y t T K v f u la) → va_S A s.heap H locs → F_As_put_29 t x1 x2 x3  v f u la = some RES → W p l e rm_As_put s m ([.ref (g 91), .int x1, .int x2, .int x3] : List Value).toArray below meth c H locs cc ss (dm_Z below G s ([.ref (g 91), .int x1, .int x2, .int x3] : List Value).toArray A rm_As_put.cells rm_As_put.slots (fun ov w' => ∃ K' : aK, okA G Y (RES.2.1 21) ∧ okA G K' (RES.2.1 20) ∧ extP K0 K' (v0 20) (RES.2.1 20) ∧ ov = some (.ref (K'.2.2.2 RES.1)) ∧ w' = (aw G g Y t T K' RES.2.1 RES.2.2.1 RES.2.2.2.1 RES.2.2.2.2))) (F0 m 29 ls []) := by
    intro ls H locs cc ss K v f u la hcc hss hY hk hext hl hP hD hS hF
    have hF : (Option.bind (F_AL_get_p t  (v 2) v f u la) (fun z1 => (if (v 20).toNatClampNeg ≤ z1 then none else (if (v 20).toNatClampNeg ≤ z1 then none else (Option.bind (F_Pl_be t z1 x1 x2 x3 v f u la) (fun z2 => (if (((32 : Int32) * x1) + x2) < 0 ∨ 96 ≤ (((32 : Int32) * x1) + x2).toNatClampNeg then none else (dm_oc (z2.2.2.2.2 0) (F_As_put_89 t x1 x2 x3 z2.1 (va_up z2.2.1 2 ((z2.2.1 2) + (1 : Int32))) (va_up z2.2.2.1 3 (upd (z2.2.2.1 3) (((32 : Int32) * x1) + x2).toNatClampNeg ((1 : Int32) &&& 1))) z2.2.2.2.1 z2.2.2.2.2) (fun iz3 => (if (z2.2.1 20).toNatClampNeg ≤ iz3 then none else (Option.bind (F_Pl_lead t iz3 x1 x2 (va_up z2.2.1 2 ((z2.2.1 2) + (1 : Int32))) (va_up z2.2.2.1 3 (upd (z2.2.2.1 3) (((32 : Int32) * x1) + x2).toNatClampNeg ((1 : Int32) &&& 1))) z2.2.2.2.1 z2.2.2.2.2) (fun z4 => (F_As_put_89 t x1 x2 x3 z2.1 z4.1 z4.2.1 z4.2.2.1 z4.2.2.2))))))))))))) = some RES := hF
    refine lv_aload_n hx hb d_As_put_29 rfl (lv_at hl 0 rfl) ?_
    refine aw_g_0_1 B hP k_287 d_As_put_30 ?_
    refine lv_aload_n hx hb d_As_put_33 rfl (lv_at hl 0 rfl) ?_
    refine aw_g_0_2 (x := (v 2)) B hP rfl k_288 d_As_put_34 ?_
    obtain ⟨z1, hcz1, hF⟩ := dm_bind hF
    refine dm_callVw B [.int (v 2)] (c_AL_get_p l G g Y t T K  (v 2) v f u la z1 hY hk hcz1) k_603 k_604 k_605 k_13 k_606 hd_AL_get_s rfl ⟨by decide, by decide⟩ 7 rfl rfl hP hD hS hl.1 (rest := []) rfl (Nat.le_of_ble_eq_true rfl) d_As_put_37 ⟨(by show cc + 0 ≤ 2; omega), (by show ss + 0 ≤ 105; omega)⟩ (fun ov w' H locs hq hP hD hS => ?_)
    obtain ⟨rfl, rfl⟩ := hq
    have hP : va_P G.1 dm_cl (aw G g Y t T K v f u la) H := hP
    have hD : va_D A (aw G g Y t T K v f u la) := hD
    refine W.eq (g2 := F0 m 40 ls [.ref (K.2.2.2 z1)]) rfl ?_
    obtain ⟨hi, hF⟩ := dm_chk hF
    refine aw_rcp B hP hi k_646 d_As_put_40 ?_
    refine lv_iload_n hx hb d_As_put_43 rfl (lv_at hl 1 rfl) ?_
    refine lv_iload_n hx hb d_As_put_44 rfl (lv_at hl 2 rfl) ?_
    refine lv_iload_n hx hb d_As_put_45 rfl (lv_at hl 3 rfl) ?_
    obtain ⟨hrc, hF⟩ := dm_chk hF
    obtain ⟨z2, hcz2, hF⟩ := dm_bind hF
    refine dm_callVw B [.int x1, .int x2, .int x3] (c_Pl_be l G g Y t T K z1 x1 x2 x3 v f u la z2 hY hk hcz2) k_673 k_674 k_675 k_23 k_676 hd_Pl_be rfl ⟨by decide, by decide⟩ (z1 + 8) (aw_atp (Nat.lt_of_not_le hrc)) rfl hP hD hS hl.1 (rest := []) rfl (Nat.le_of_ble_eq_true rfl) d_As_put_46 ⟨(by show cc + 0 ≤ 2; omega), (by show ss + 0 ≤ 105; omega)⟩ (fun ov w' H locs hq hP hD hS => ?_)
    obtain ⟨hY, hk, hxz2, rfl, rfl⟩ := hq
    have hext := hext.tr hxz2
    have hP : va_P G.1 dm_cl (aw G g Y t T K z2.2.1 z2.2.2.1 z2.2.2.2.1 z2.2.2.2.2) H := hP
    have hD : va_D A (aw G g Y t T K z2.2.1 z2.2.2.1 z2.2.2.2.1 z2.2.2.2.2) := hD
    refine W.eq (g2 := F0 m 49 ls [.ref (K.2.2.2 z2.1)]) rfl ?_
    refine lv_astore (lv' := [(4, .ref (K.2.2.2 z2.1)), (0, .ref (g 91)), (1, .int x1), (2, .int x2), (3, .int x3)]) hx hb d_As_put_49 hl (Nat.le_of_ble_eq_true rfl) rfl (fun ls hl => ?_)
    have hl : lv_has ls 5 [(0, .ref (g 91)), (1, .int x1), (2, .int x2), (3, .int x3), (4, .ref (K.2.2.2 z2.1))] := lv_sub hl [1, 2, 3, 4, 0] rfl
    refine lv_aload_n hx hb d_As_put_51 rfl (lv_at hl 0 rfl) ?_
    refine lv_dup hx hb d_As_put_52 rfl ?_
    refine aw_g_0_2 (x := (z2.2.1 2)) B hP rfl k_288 d_As_put_53 ?_
    refine lv_iconst (v := (1 : Int32)) hx hb d_As_put_56 (by decide) ?_
    refine lv_iadd hx hb d_As_put_57 ?_
    refine aw_p_0_2 (x := ((z2.2.1 2) + (1 : Int32))) B hP hD hS k_288 d_As_put_58 (fun H locs hP hD hS => ?_)
    refine lv_aload_n hx hb d_As_put_61 rfl (lv_at hl 0 rfl) ?_
    refine aw_g_0_3 B hP k_289 d_As_put_62 ?_
    refine lv_bipush (v := (32 : Int32)) hx hb d_As_put_65 (by decide) ?_
    refine lv_iload_n hx hb d_As_put_67 rfl (lv_at hl 1 rfl) ?_
    refine lv_imul hx hb d_As_put_68 ?_
    refine lv_iload_n hx hb d_As_put_69 rfl (lv_at hl 2 rfl) ?_
    refine lv_iadd hx hb d_As_put_70 ?_
    refine lv_iconst (v := (1 : Int32)) hx hb d_As_put_71 (by decide) ?_
    obtain ⟨hi, hF⟩ := dm_chk hF
    refine aw_s_1 (F := (z2.2.2.1 3)) B hP hD hS rfl hi d_As_put_72 (fun H locs hP hD hS => ?_)
    refine lv_aload_n hx hb d_As_put_73 rfl (lv_at hl 0 rfl) ?_
    refine aw_g_0_10 B hP k_298 d_As_put_74 ?_
    refine dm_osp (o := (z2.2.2.2.2 0)) (fun hoz3 => ?_) (fun iz3 hoz3 => ?_)
    · rw [dm_ocn hoz3] at hF
      refine W.eq (g2 := F0 m 77 ls [.null]) (by rw [hoz3]; rfl) ?_
      refine lv_ifnullN (tgt := 89) hx hb d_As_put_77 (by decide) ?_
      exact K89 ls _ _ (cc) (ss) K z2.1 (va_up z2.2.1 2 ((z2.2.1 2) + (1 : Int32))) (va_up z2.2.2.1 3 (upd (z2.2.2.1 3) (((32 : Int32) * x1) + x2).toNatClampNeg ((1 : Int32) &&& 1))) z2.2.2.2.1 z2.2.2.2.2 (by omega) (by omega) hY hk hext (lv_sub hl [0, 4] rfl) hP hD hS hF
    · rw [dm_ocs hoz3] at hF
      refine W.eq (g2 := F0 m 77 ls [.ref (K.2.2.2 iz3)]) (by rw [hoz3]; rfl) ?_
      refine lv_ifnull hx hb d_As_put_77 ?_
      refine lv_aload_n hx hb d_As_put_80 rfl (lv_at hl 0 rfl) ?_
      refine aw_g_0_10 B hP k_298 d_As_put_81 ?_
      refine W.eq (g2 := F0 m 84 ls [.ref (K.2.2.2 iz3)]) (by rw [hoz3]; rfl) ?_
      refine lv_iload_n hx hb d_As_put_84 rfl (lv_at hl 1 rfl) ?_
      refine lv_iload_n hx hb d_As_put_85 rfl (lv_at hl 2 rfl) ?_
      obtain ⟨hrc, hF⟩ := dm_chk hF
      obtain ⟨z4, hcz4, hF⟩ := dm_bind hF
      refine dm_callVw B [.int x1, .int x2] (c_Pl_lead l G g Y t T K iz3 x1 x2 (va_up z2.2.1 2 ((z2.2.1 2) + (1 : Int32))) (va_up z2.2.2.1 3 (upd (z2.2.2.1 3) (((32 : Int32) * x1) + x2).toNatClampNeg ((1 : Int32) &&& 1))) z2.2.2.2.1 z2.2.2.2.2 z4 hY hk hcz4) k_677 k_678 k_679 k_23 k_680 hd_Pl_lead rfl ⟨by decide, by decide⟩ (iz3 + 8) (aw_atp (Nat.lt_of_not_le hrc)) rfl hP hD hS hl.1 (rest := []) rfl (Nat.le_of_ble_eq_true rfl) d_As_put_86 ⟨(by show cc + 0 ≤ 2; omega), (by show ss + 0 ≤ 105; omega)⟩ (fun ov w' H locs hq hP hD hS => ?_)
      obtain ⟨hY, hk, hxz4, rfl, rfl⟩ := hq
      have hext := hext.tr hxz4
      have hP : va_P G.1 dm_cl (aw G g Y t T K z4.1 z4.2.1 z4.2.2.1 z4.2.2.2) H := hP
      have hD : va_D A (aw G g Y t T K z4.1 z4.2.1 z4.2.2.1 z4.2.2.2) := hD
      refine W.eq (g2 := F0 m 89 ls []) rfl ?_
      exact K89 ls _ _ (cc) (ss) K z2.1 z4.1 z4.2.1 z4.2.2.1 z4.2.2.2 (by omega) (by omega) hY hk hext (lv_sub hl [0, 4] rfl) hP hD hS hF
  have hF : (Option.bind (F_AL_size_p t   v0 f0 u0 la0) (fun z1 => (if (v0 2) = z1 then (if Option.all (fun j => decide (j < (v0 20).toNatClampNeg)) (la0 0) = true then (if 64 ≤ (v0 20).toNatClampNeg then none else (F_As_put_29 t x1 x2 x3 (va_up v0 20 ((v0 20) + 1)) f0 (va_up u0 (v0 20).toNatClampNeg (fun _ => 0)) la0)) else none) else (F_As_put_29 t x1 x2 x3 v0 f0 u0 la0)))) = some RES := hF
  refine lv_aload_n hx hb d_As_put_0 rfl (lv_at hl 0 rfl) ?_
  refine aw_g_0_2 (x := (v0 2)) B hP rfl k_288 d_As_put_1 ?_
  refine lv_aload_n hx hb d_As_put_4 rfl (lv_at hl 0 rfl) ?_
  refine aw_g_0_1 B hP k_287 d_As_put_5 ?_
  obtain ⟨z1, hcz1, hF⟩ := dm_bind hF
  refine dm_callVw B [] (c_AL_size_p l G g Y t T K0   v0 f0 u0 la0 z1 hY hk hcz1) k_602 k_493 k_494 k_13 k_495 hd_AL_size_s rfl ⟨by decide, by decide⟩ 7 rfl rfl hP hD hS hl.1 (rest := [.int (v0 2)]) rfl (Nat.le_of_ble_eq_true rfl) d_As_put_8 ⟨(by show 0 + 0 ≤ 2; omega), (by show 0 + 0 ≤ 105; omega)⟩ (fun ov w' H locs hq hP hD hS => ?_)
  obtain ⟨rfl, rfl⟩ := hq
  have hP : va_P G.1 dm_cl (aw G g Y t T K0 v0 f0 u0 la0) H := hP
  have hD : va_D A (aw G g Y t T K0 v0 f0 u0 la0) := hD
  refine W.eq (g2 := F0 m 11 ls [.int z1, .int (v0 2)]) rfl ?_
  refine lv_icmp_ne (tgt := 29) hx hb d_As_put_11 (by decide) (fun (hh : ¬ (v0 2) = z1) => ?_) (fun (hh : (v0 2) = z1) => ?_)
  · rw [if_neg hh] at hF
    exact K29 ls _ _ (0) (0) K0 v0 f0 u0 la0 (by omega) (by omega) hY hk hext (lv_sub hl [0, 1, 2, 3] rfl) hP hD hS hF
  · rw [if_pos hh] at hF
    obtain ⟨hla, hF⟩ := dm_ck1 hF
    obtain ⟨hi, hF⟩ := dm_chk hF
    refine aw_newp B hl.1 (lv_at hl 0 rfl) hk hla hi hP hD hS (by show 0 + 2 ≤ 2; omega) (by show 0 + 105 ≤ 105; omega) (by decide) (by decide) (fun Kz2 H locs hk hxz2 hP hD hS => ?_)
    have hext := hext.tr hxz2
    exact K29 ls _ _ (0 + 2) (0 + 105) Kz2 (va_up v0 20 ((v0 20) + 1)) f0 (va_up u0 (v0 20).toNatClampNeg (fun _ => 0)) la0 (by omega) (by omega) hY hk hext (lv_sub hl [0, 1, 2, 3] rfl) hP hD hS hF
abbrev b_As_place : ByteArray := prog_2_method_6_code
abbrev y_As_place : MethodName := { cls := "DelayMachine$Assembler", name := "place", desc := "(III)LDelayMachine$Placed;" }
theorem d_As_place_0 : decode b_As_place 0 = .ok (.aload_n 0, 1) := by decide +kernel
theorem d_As_place_1 : decode b_As_place 1 = .ok (.invokevirtual 75, 3) := by decide +kernel
theorem d_As_place_4 : decode b_As_place 4 = .ok (.istore 4, 2) := by decide +kernel
theorem d_As_place_6 : decode b_As_place 6 = .ok (.aload_n 0, 1) := by decide +kernel
theorem d_As_place_7 : decode b_As_place 7 = .ok (.dup, 1) := by decide +kernel
theorem d_As_place_8 : decode b_As_place 8 = .ok (.getfield 78, 3) := by decide +kernel
theorem d_As_place_11 : decode b_As_place 11 = .ok (.iload 4, 2) := by decide +kernel
theorem d_As_place_13 : decode b_As_place 13 = .ok (.ifCond .lt (7), 3) := by decide +kernel
theorem d_As_place_16 : decode b_As_place 16 = .ok (.iconst 1, 1) := by decide +kernel
theorem d_As_place_17 : decode b_As_place 17 = .ok (.goto (4), 3) := by decide +kernel
theorem d_As_place_20 : decode b_As_place 20 = .ok (.iconst 0, 1) := by decide +kernel
theorem d_As_place_21 : decode b_As_place 21 = .ok (.iand, 1) := by decide +kernel
theorem d_As_place_22 : decode b_As_place 22 = .ok (.putfield 78, 3) := by decide +kernel
theorem d_As_place_25 : decode b_As_place 25 = .ok (.aload_n 0, 1) := by decide +kernel
theorem d_As_place_26 : decode b_As_place 26 = .ok (.getfield 78, 3) := by decide +kernel
theorem d_As_place_29 : decode b_As_place 29 = .ok (.ifCond .ne (5), 3) := by decide +kernel
theorem d_As_place_32 : decode b_As_place 32 = .ok (.aconst_null, 1) := by decide +kernel
theorem d_As_place_33 : decode b_As_place 33 = .ok (.areturn, 1) := by decide +kernel
theorem d_As_place_34 : decode b_As_place 34 = .ok (.iload 4, 2) := by decide +kernel
theorem d_As_place_36 : decode b_As_place 36 = .ok (.bipush (32), 2) := by decide +kernel
theorem d_As_place_38 : decode b_As_place 38 = .ok (.irem, 1) := by decide +kernel
theorem d_As_place_39 : decode b_As_place 39 = .ok (.istore 5, 2) := by decide +kernel
theorem d_As_place_41 : decode b_As_place 41 = .ok (.iload_n 3, 1) := by decide +kernel
theorem d_As_place_42 : decode b_As_place 42 = .ok (.ifCond .lt (10), 3) := by decide +kernel
theorem d_As_place_45 : decode b_As_place 45 = .ok (.aload_n 0, 1) := by decide +kernel
theorem d_As_place_46 : decode b_As_place 46 = .ok (.iload_n 3, 1) := by decide +kernel
theorem d_As_place_47 : decode b_As_place 47 = .ok (.iload 5, 2) := by decide +kernel
theorem d_As_place_49 : decode b_As_place 49 = .ok (.invokevirtual 82, 3) := by decide +kernel
theorem d_As_place_52 : decode b_As_place 52 = .ok (.iload_n 3, 1) := by decide +kernel
theorem d_As_place_53 : decode b_As_place 53 = .ok (.ifCond .lt (20), 3) := by decide +kernel
theorem d_As_place_56 : decode b_As_place 56 = .ok (.aload_n 0, 1) := by decide +kernel
theorem d_As_place_57 : decode b_As_place 57 = .ok (.getfield 25, 3) := by decide +kernel
theorem d_As_place_60 : decode b_As_place 60 = .ok (.iload_n 3, 1) := by decide +kernel
theorem d_As_place_61 : decode b_As_place 61 = .ok (.iaload, 1) := by decide +kernel
theorem d_As_place_62 : decode b_As_place 62 = .ok (.iload 5, 2) := by decide +kernel
theorem d_As_place_64 : decode b_As_place 64 = .ok (.isub, 1) := by decide +kernel
theorem d_As_place_65 : decode b_As_place 65 = .ok (.iconst 2, 1) := by decide +kernel
theorem d_As_place_66 : decode b_As_place 66 = .ok (.isub, 1) := by decide +kernel
theorem d_As_place_67 : decode b_As_place 67 = .ok (.bipush (31), 2) := by decide +kernel
theorem d_As_place_69 : decode b_As_place 69 = .ok (.iand, 1) := by decide +kernel
theorem d_As_place_70 : decode b_As_place 70 = .ok (.goto (4), 3) := by decide +kernel
theorem d_As_place_73 : decode b_As_place 73 = .ok (.iconst 0, 1) := by decide +kernel
theorem d_As_place_74 : decode b_As_place 74 = .ok (.istore 6, 2) := by decide +kernel
theorem d_As_place_76 : decode b_As_place 76 = .ok (.aload_n 0, 1) := by decide +kernel
theorem d_As_place_77 : decode b_As_place 77 = .ok (.iload 5, 2) := by decide +kernel
theorem d_As_place_79 : decode b_As_place 79 = .ok (.iconst 2, 1) := by decide +kernel
theorem d_As_place_80 : decode b_As_place 80 = .ok (.iadd, 1) := by decide +kernel
theorem d_As_place_81 : decode b_As_place 81 = .ok (.iload 6, 2) := by decide +kernel
theorem d_As_place_83 : decode b_As_place 83 = .ok (.iadd, 1) := by decide +kernel
theorem d_As_place_84 : decode b_As_place 84 = .ok (.bipush (32), 2) := by decide +kernel
theorem d_As_place_86 : decode b_As_place 86 = .ok (.irem, 1) := by decide +kernel
theorem d_As_place_87 : decode b_As_place 87 = .ok (.putfield 72, 3) := by decide +kernel
theorem d_As_place_90 : decode b_As_place 90 = .ok (.aload_n 0, 1) := by decide +kernel
theorem d_As_place_91 : decode b_As_place 91 = .ok (.iload 4, 2) := by decide +kernel
theorem d_As_place_93 : decode b_As_place 93 = .ok (.bipush (32), 2) := by decide +kernel
theorem d_As_place_95 : decode b_As_place 95 = .ok (.idiv, 1) := by decide +kernel
theorem d_As_place_96 : decode b_As_place 96 = .ok (.iload 5, 2) := by decide +kernel
theorem d_As_place_98 : decode b_As_place 98 = .ok (.iload_n 1, 1) := by decide +kernel
theorem d_As_place_99 : decode b_As_place 99 = .ok (.iload_n 2, 1) := by decide +kernel
theorem d_As_place_100 : decode b_As_place 100 = .ok (.iconst 4, 1) := by decide +kernel
theorem d_As_place_101 : decode b_As_place 101 = .ok (.ishl, 1) := by decide +kernel
theorem d_As_place_102 : decode b_As_place 102 = .ok (.ior, 1) := by decide +kernel
theorem d_As_place_103 : decode b_As_place 103 = .ok (.iload 6, 2) := by decide +kernel
theorem d_As_place_105 : decode b_As_place 105 = .ok (.bipush (10), 2) := by decide +kernel
theorem d_As_place_107 : decode b_As_place 107 = .ok (.ishl, 1) := by decide +kernel
theorem d_As_place_108 : decode b_As_place 108 = .ok (.ior, 1) := by decide +kernel
theorem d_As_place_109 : decode b_As_place 109 = .ok (.invokevirtual 85, 3) := by decide +kernel
theorem d_As_place_112 : decode b_As_place 112 = .ok (.areturn, 1) := by decide +kernel
theorem hd_As_place : y_As_place.cls ≠ "java/lang/invoke/MethodHandle" ∧ y_As_place.cls ≠ "java/lang/invoke/VarHandle" ∧ (parseMethodDescriptor y_As_place.desc).map (fun d => d.parameters.length) = some 3 := by decide +kernel
abbrev rm_As_place : Room := { frames := 8, cells := 2, slots := 105, locals := 275 }
def F_As_place_74 (t : Nat → Nat → Int32) (x1 x2 x3 : Int32)   (l4 : Int32) (l5 : Int32) (s0 : Int32) (v : Nat → Int32) (f : Nat → Nat → Int32) (u : Nat → Nat → Int32) (la : Nat → Option Nat) : Option (Option Nat × (Nat → Int32) × (Nat → Nat → Int32) × (Nat → Nat → Int32) × (Nat → Option Nat)) := (Option.bind (F_As_put t  (l4 / (32 : Int32)) l5 ((x1 ||| (x2 <<< ((4 : Int32) &&& 31))) ||| (s0 <<< ((10 : Int32) &&& 31))) (va_up v 8 (((l5 + (2 : Int32)) + s0) - ((l5 + (2 : Int32)) + s0) / (32 : Int32) * (32 : Int32))) f u la) (fun z1 => (some ((some z1.1), z1.2.1, z1.2.2.1, z1.2.2.2.1, z1.2.2.2.2))))
def F_As_place_52 (t : Nat → Nat → Int32) (x1 x2 x3 : Int32)   (l4 : Int32) (l5 : Int32) (v : Nat → Int32) (f : Nat → Nat → Int32) (u : Nat → Nat → Int32) (la : Nat → Option Nat) : Option (Option Nat × (Nat → Int32) × (Nat → Nat → Int32) × (Nat → Nat → Int32) × (Nat → Option Nat)) := (if x3 < (0 : Int32) then (F_As_place_74 t x1 x2 x3 l4 l5 (0 : Int32) v f u la) else (if x3 < 0 ∨ 16 ≤ x3.toNatClampNeg then none else (F_As_place_74 t x1 x2 x3 l4 l5 (((((f 4) x3.toNatClampNeg) - l5) - (2 : Int32)) &&& (31 : Int32)) v f u la)))
def F_As_place_21 (t : Nat → Nat → Int32) (x1 x2 x3 : Int32)   (l4 : Int32) (s1 : Int32) (s2 : Int32) (v : Nat → Int32) (f : Nat → Nat → Int32) (u : Nat → Nat → Int32) (la : Nat → Option Nat) : Option (Option Nat × (Nat → Int32) × (Nat → Nat → Int32) × (Nat → Nat → Int32) × (Nat → Option Nat)) := (if (s1 &&& s2) = 0 ∨ (s1 &&& s2) = 1 then (if (s1 &&& s2) = (0 : Int32) then (some (none, (va_up v 9 (s1 &&& s2)), f, u, la)) else (if x3 < (0 : Int32) then (F_As_place_52 t x1 x2 x3 l4 (l4 - l4 / (32 : Int32) * (32 : Int32)) (va_up v 9 (s1 &&& s2)) f u la) else (Option.bind (F_As_settle t  x3 (l4 - l4 / (32 : Int32) * (32 : Int32)) (va_up v 9 (s1 &&& s2)) f u la) (fun z1 => (F_As_place_52 t x1 x2 x3 l4 (l4 - l4 / (32 : Int32) * (32 : Int32)) z1.1 z1.2.1 z1.2.2.1 z1.2.2.2))))) else none)
def F_As_place (t : Nat → Nat → Int32) (x1 x2 x3 : Int32)  (v0 : Nat → Int32) (f0 : Nat → Nat → Int32) (u0 : Nat → Nat → Int32) (la0 : Nat → Option Nat) : Option (Option Nat × (Nat → Int32) × (Nat → Nat → Int32) × (Nat → Nat → Int32) × (Nat → Option Nat)) := (Option.bind (F_As_free t   v0 f0 u0 la0) (fun z1 => (if z1 < (0 : Int32) then (F_As_place_21 t x1 x2 x3 z1 (v0 9) (0 : Int32) v0 f0 u0 la0) else (F_As_place_21 t x1 x2 x3 z1 (v0 9) (1 : Int32) v0 f0 u0 la0))))
set_option maxHeartbeats 4000000 in
set_option maxRecDepth 100000 in
theorem c_As_place (l : Launch) (G : dm_G) (g : Nat → Nat) (Y : aK) (t : Nat → Nat → Int32) (T : va_W) (K0 : aK) (x1 x2 x3 : Int32) (v0 : Nat → Int32) (f0 : Nat → Nat → Int32) (u0 : Nat → Nat → Int32) (la0 : Nat → Option Nat) (RES : Option Nat × (Nat → Int32) × (Nat → Nat → Int32) × (Nat → Nat → Int32) × (Nat → Option Nat)) (hY : okA G Y (v0 21)) (hk : okA G K0 (v0 20)) (hF : F_As_place t x1 x2 x3 v0 f0 u0 la0 = some RES) : dm_Ct l y_As_place b_As_place 7 (some (.object "DelayMachine$Placed")) rm_As_place G (aw G g Y t T K0 v0 f0 u0 la0) [.ref (g 91), .int x1, .int x2, .int x3] (fun ov w' => ∃ K' : aK, okA G Y (RES.2.1 21) ∧ okA G K' (RES.2.1 20) ∧ extP K0 K' (v0 20) (RES.2.1 20) ∧ ov = some (va_rf (Option.map K'.2.2.2 RES.1)) ∧ w' = (aw G g Y t T K' RES.2.1 RES.2.2.1 RES.2.2.2.1 RES.2.2.2.2)) := by
  refine dm_Ct.of (by decide +kernel) (Nat.le_of_ble_eq_true rfl) ?_
  intro p e s m below meth c A ls B hl hP hD hS
  have hx := B.1
  have hb := B.2.1
  have hl : lv_has ls 7 [(0, .ref (g 91)), (1, .int x1), (2, .int x2), (3, .int x3)] := hl
  have hext : extP K0 K0 (v0 20) (v0 20) := extP.rf
  have K74 : ∀ (ls : Array Slot) (H : Heap) (locs : List Loc) (cc ss : Nat) (K : aK) (l4 : Int32) (l5 : Int32) (s0 : Int32) (v : Nat → Int32) (f : Nat → Nat → Int32) (u : Nat → Nat → Int32) (la : Nat → Option Nat), cc ≤ 0 → ss ≤ 0 → okA G Y (v 21) → okA G K (v 20) → extP K0 K (v0 20) (v 20) → lv_has ls 7 [(0, .ref (g 91)), (1, .int x1), (2, .int x2), (4, .int l4), (5, .int l5)] → va_P G.1 dm_cl (aw G g Y t T K v f u la) H → va_D A (aw G g Y t T K v f u la) → va_S A s.heap H locs → F_As_place_74 t x1 x2 x3 l4 l5 s0 v f u la = some RES → W p l e rm_As_place s m ([.ref (g 91), .int x1, .int x2, .int x3] : List Value).toArray below meth c H locs cc ss (dm_Z below G s ([.ref (g 91), .int x1, .int x2, .int x3] : List Value).toArray A rm_As_place.cells rm_As_place.slots (fun ov w' => ∃ K' : aK, okA G Y (RES.2.1 21) ∧ okA G K' (RES.2.1 20) ∧ extP K0 K' (v0 20) (RES.2.1 20) ∧ ov = some (va_rf (Option.map K'.2.2.2 RES.1)) ∧ w' = (aw G g Y t T K' RES.2.1 RES.2.2.1 RES.2.2.2.1 RES.2.2.2.2))) (F0 m 74 ls [.int s0]) := by
    intro ls H locs cc ss K l4 l5 s0 v f u la hcc hss hY hk hext hl hP hD hS hF
    have hF : (Option.bind (F_As_put t  (l4 / (32 : Int32)) l5 ((x1 ||| (x2 <<< ((4 : Int32) &&& 31))) ||| (s0 <<< ((10 : Int32) &&& 31))) (va_up v 8 (((l5 + (2 : Int32)) + s0) - ((l5 + (2 : Int32)) + s0) / (32 : Int32) * (32 : Int32))) f u la) (fun z1 => (some ((some z1.1), z1.2.1, z1.2.2.1, z1.2.2.2.1, z1.2.2.2.2)))) = some RES := hF
    refine lv_istore (lv' := [(6, .int s0), (0, .ref (g 91)), (1, .int x1), (2, .int x2), (4, .int l4), (5, .int l5)]) hx hb d_As_place_74 hl (Nat.le_of_ble_eq_true rfl) rfl (fun ls hl => ?_)
    have hl : lv_has ls 7 [(0, .ref (g 91)), (1, .int x1), (2, .int x2), (4, .int l4), (5, .int l5), (6, .int s0)] := lv_sub hl [1, 2, 3, 4, 5, 0] rfl
    refine lv_aload_n hx hb d_As_place_76 rfl (lv_at hl 0 rfl) ?_
    refine lv_iload hx hb d_As_place_77 (lv_at hl 4 rfl) ?_
    refine lv_iconst (v := (2 : Int32)) hx hb d_As_place_79 (by decide) ?_
    refine lv_iadd hx hb d_As_place_80 ?_
    refine lv_iload hx hb d_As_place_81 (lv_at hl 5 rfl) ?_
    refine lv_iadd hx hb d_As_place_83 ?_
    refine lv_bipush (v := (32 : Int32)) hx hb d_As_place_84 (by decide) ?_
    refine lv_irem hx hb d_As_place_86 (by decide) ?_
    refine aw_p_0_8 (x := (((l5 + (2 : Int32)) + s0) - ((l5 + (2 : Int32)) + s0) / (32 : Int32) * (32 : Int32))) B hP hD hS k_296 d_As_place_87 (fun H locs hP hD hS => ?_)
    refine lv_aload_n hx hb d_As_place_90 rfl (lv_at hl 0 rfl) ?_
    refine lv_iload hx hb d_As_place_91 (lv_at hl 3 rfl) ?_
    refine lv_bipush (v := (32 : Int32)) hx hb d_As_place_93 (by decide) ?_
    refine lv_idiv hx hb d_As_place_95 (by decide) ?_
    refine lv_iload hx hb d_As_place_96 (lv_at hl 4 rfl) ?_
    refine lv_iload_n hx hb d_As_place_98 rfl (lv_at hl 1 rfl) ?_
    refine lv_iload_n hx hb d_As_place_99 rfl (lv_at hl 2 rfl) ?_
    refine lv_iconst (v := (4 : Int32)) hx hb d_As_place_100 (by decide) ?_
    refine lv_ishl hx hb d_As_place_101 ?_
    refine lv_ior hx hb d_As_place_102 ?_
    refine lv_iload hx hb d_As_place_103 (lv_at hl 5 rfl) ?_
    refine lv_bipush (v := (10 : Int32)) hx hb d_As_place_105 (by decide) ?_
    refine lv_ishl hx hb d_As_place_107 ?_
    refine lv_ior hx hb d_As_place_108 ?_
    obtain ⟨z1, hcz1, hF⟩ := dm_bind hF
    refine dm_callVw B [.int (l4 / (32 : Int32)), .int l5, .int ((x1 ||| (x2 <<< ((4 : Int32) &&& 31))) ||| (s0 <<< ((10 : Int32) &&& 31)))] (c_As_put l G g Y t T K  (l4 / (32 : Int32)) l5 ((x1 ||| (x2 <<< ((4 : Int32) &&& 31))) ||| (s0 <<< ((10 : Int32) &&& 31))) (va_up v 8 (((l5 + (2 : Int32)) + s0) - ((l5 + (2 : Int32)) + s0) / (32 : Int32) * (32 : Int32))) f u la z1 hY hk hcz1) k_642 k_644 ks_12 k_10 k_645 hd_As_put rfl ⟨by decide, by decide⟩ 0 rfl rfl hP hD hS hl.1 (rest := []) rfl (Nat.le_of_ble_eq_true rfl) d_As_place_109 ⟨(by show cc + 2 ≤ 2; omega), (by show ss + 105 ≤ 105; omega)⟩ (fun ov w' H locs hq hP hD hS => ?_)
    obtain ⟨Kz1, hY, hk, hxz1, rfl, rfl⟩ := hq
    have hext := hext.tr hxz1
    have hP : va_P G.1 dm_cl (aw G g Y t T Kz1 z1.2.1 z1.2.2.1 z1.2.2.2.1 z1.2.2.2.2) H := hP
    have hD : va_D A (aw G g Y t T Kz1 z1.2.1 z1.2.2.1 z1.2.2.2.1 z1.2.2.2.2) := hD
    refine W.eq (g2 := F0 m 112 ls [.ref (Kz1.2.2.2 z1.1)]) rfl ?_
    have hF := Option.some.inj hF
    subst hF
    exact dm_reta B (Or.inl ⟨_, rfl⟩) (Or.inr ⟨_, rfl⟩) d_As_place_112 (by show cc + 2 ≤ 2; omega) (by show ss + 105 ≤ 105; omega) hP hD hS ⟨Kz1, hY, hk, hext, rfl, rfl⟩
  have K52 : ∀ (ls : Array Slot) (H : Heap) (locs : List Loc) (cc ss : Nat) (K : aK) (l4 : Int32) (l5 : Int32) (v : Nat → Int32) (f : Nat → Nat → Int32) (u : Nat → Nat → Int32) (la : Nat → Option Nat), cc ≤ 0 → ss ≤ 0 → okA G Y (v 21) → okA G K (v 20) → extP K0 K (v0 20) (v 20) → lv_has ls 7 [(0, .ref (g 91)), (1, .int x1), (2, .int x2), (3, .int x3), (4, .int l4), (5, .int l5)] → va_P G.1 dm_cl (aw G g Y t T K v f u la) H → va_D A (aw G g Y t T K v f u la) → va_S A s.heap H locs → F_As_place_52 t x1 x2 x3 l4 l5 v f u la = some RES → W p l e rm_As_place s m ([.ref (g 91), .int x1, .int x2, .int x3] : List Value).toArray below meth c H locs cc ss (dm_Z below G s ([.ref (g 91), .int x1, .int x2, .int x3] : List Value).toArray A rm_As_place.cells rm_As_place.slots (fun ov w' => ∃ K' : aK, okA G Y (RES.2.1 21) ∧ okA G K' (RES.2.1 20) ∧ extP K0 K' (v0 20) (RES.2.1 20) ∧ ov = some (va_rf (Option.map K'.2.2.2 RES.1)) ∧ w' = (aw G g Y t T K' RES.2.1 RES.2.2.1 RES.2.2.2.1 RES.2.2.2.2))) (F0 m 52 ls []) := by
    intro ls H locs cc ss K l4 l5 v f u la hcc hss hY hk hext hl hP hD hS hF
    have hF : (if x3 < (0 : Int32) then (F_As_place_74 t x1 x2 x3 l4 l5 (0 : Int32) v f u la) else (if x3 < 0 ∨ 16 ≤ x3.toNatClampNeg then none else (F_As_place_74 t x1 x2 x3 l4 l5 (((((f 4) x3.toNatClampNeg) - l5) - (2 : Int32)) &&& (31 : Int32)) v f u la))) = some RES := hF
    refine lv_iload_n hx hb d_As_place_52 rfl (lv_at hl 3 rfl) ?_
    refine lv_if_lt (tgt := 73) hx hb d_As_place_53 (by decide) (fun (hh : x3 < (0 : Int32)) => ?_) (fun (hh : ¬ x3 < (0 : Int32)) => ?_)
    · rw [if_pos hh] at hF
      refine lv_iconst (v := (0 : Int32)) hx hb d_As_place_73 (by decide) ?_
      exact K74 ls _ _ (cc) (ss) K l4 l5 (0 : Int32) v f u la (by omega) (by omega) hY hk hext (lv_sub hl [0, 1, 2, 4, 5] rfl) hP hD hS hF
    · rw [if_neg hh] at hF
      refine lv_aload_n hx hb d_As_place_56 rfl (lv_at hl 0 rfl) ?_
      refine aw_g_0_4 B hP k_290 d_As_place_57 ?_
      refine lv_iload_n hx hb d_As_place_60 rfl (lv_at hl 3 rfl) ?_
      obtain ⟨hi, hF⟩ := dm_chk hF
      refine aw_a_2 (F := (f 4)) B hP rfl hi d_As_place_61 ?_
      refine lv_iload hx hb d_As_place_62 (lv_at hl 5 rfl) ?_
      refine lv_isub hx hb d_As_place_64 ?_
      refine lv_iconst (v := (2 : Int32)) hx hb d_As_place_65 (by decide) ?_
      refine lv_isub hx hb d_As_place_66 ?_
      refine lv_bipush (v := (31 : Int32)) hx hb d_As_place_67 (by decide) ?_
      refine lv_iand hx hb d_As_place_69 ?_
      refine lv_goto (tgt := 74) hx hb d_As_place_70 (by decide) ?_
      exact K74 ls _ _ (cc) (ss) K l4 l5 (((((f 4) x3.toNatClampNeg) - l5) - (2 : Int32)) &&& (31 : Int32)) v f u la (by omega) (by omega) hY hk hext (lv_sub hl [0, 1, 2, 4, 5] rfl) hP hD hS hF
  have K21 : ∀ (ls : Array Slot) (H : Heap) (locs : List Loc) (cc ss : Nat) (K : aK) (l4 : Int32) (s1 : Int32) (s2 : Int32) (v : Nat → Int32) (f : Nat → Nat → Int32) (u : Nat → Nat → Int32) (la : Nat → Option Nat), cc ≤ 0 → ss ≤ 0 → okA G Y (v 21) → okA G K (v 20) → extP K0 K (v0 20) (v 20) → lv_has ls 7 [(0, .ref (g 91)), (1, .int x1), (2, .int x2), (3, .int x3), (4, .int l4)] → va_P G.1 dm_cl (aw G g Y t T K v f u la) H → va_D A (aw G g Y t T K v f u la) → va_S A s.heap H locs → F_As_place_21 t x1 x2 x3 l4 s1 s2 v f u la = some RES → W p l e rm_As_place s m ([.ref (g 91), .int x1, .int x2, .int x3] : List Value).toArray below meth c H locs cc ss (dm_Z below G s ([.ref (g 91), .int x1, .int x2, .int x3] : List Value).toArray A rm_As_place.cells rm_As_place.slots (fun ov w' => ∃ K' : aK, okA G Y (RES.2.1 21) ∧ okA G K' (RES.2.1 20) ∧ extP K0 K' (v0 20) (RES.2.1 20) ∧ ov = some (va_rf (Option.map K'.2.2.2 RES.1)) ∧ w' = (aw G g Y t T K' RES.2.1 RES.2.2.1 RES.2.2.2.1 RES.2.2.2.2))) (F0 m 21 ls [.int s2, .int s1, .ref (g 91)]) := by
    intro ls H locs cc ss K l4 s1 s2 v f u la hcc hss hY hk hext hl hP hD hS hF
    have hF : (if (s1 &&& s2) = 0 ∨ (s1 &&& s2) = 1 then (if (s1 &&& s2) = (0 : Int32) then (some (none, (va_up v 9 (s1 &&& s2)), f, u, la)) else (if x3 < (0 : Int32) then (F_As_place_52 t x1 x2 x3 l4 (l4 - l4 / (32 : Int32) * (32 : Int32)) (va_up v 9 (s1 &&& s2)) f u la) else (Option.bind (F_As_settle t  x3 (l4 - l4 / (32 : Int32) * (32 : Int32)) (va_up v 9 (s1 &&& s2)) f u la) (fun z1 => (F_As_place_52 t x1 x2 x3 l4 (l4 - l4 / (32 : Int32) * (32 : Int32)) z1.1 z1.2.1 z1.2.2.1 z1.2.2.2))))) else none) = some RES := hF
    refine lv_iand hx hb d_As_place_21 ?_
    obtain ⟨hz, hF⟩ := dm_ck1 hF
    refine aw_p_0_9 (x := (s1 &&& s2)) B hP hD hS hz k_297 d_As_place_22 (fun H locs hP hD hS => ?_)
    refine lv_aload_n hx hb d_As_place_25 rfl (lv_at hl 0 rfl) ?_
    refine aw_g_0_9 (x := (s1 &&& s2)) B hP rfl k_297 d_As_place_26 ?_
    refine lv_if_ne (tgt := 34) hx hb d_As_place_29 (by decide) (fun (hh : ¬ (s1 &&& s2) = (0 : Int32)) => ?_) (fun (hh : (s1 &&& s2) = (0 : Int32)) => ?_)
    · rw [if_neg hh] at hF
      refine lv_iload hx hb d_As_place_34 (lv_at hl 4 rfl) ?_
      refine lv_bipush (v := (32 : Int32)) hx hb d_As_place_36 (by decide) ?_
      refine lv_irem hx hb d_As_place_38 (by decide) ?_
      refine lv_istore (lv' := [(5, .int (l4 - l4 / (32 : Int32) * (32 : Int32))), (0, .ref (g 91)), (1, .int x1), (2, .int x2), (3, .int x3), (4, .int l4)]) hx hb d_As_place_39 hl (Nat.le_of_ble_eq_true rfl) rfl (fun ls hl => ?_)
      have hl : lv_has ls 7 [(0, .ref (g 91)), (1, .int x1), (2, .int x2), (3, .int x3), (4, .int l4), (5, .int (l4 - l4 / (32 : Int32) * (32 : Int32)))] := lv_sub hl [1, 2, 3, 4, 5, 0] rfl
      refine lv_iload_n hx hb d_As_place_41 rfl (lv_at hl 3 rfl) ?_
      refine lv_if_lt (tgt := 52) hx hb d_As_place_42 (by decide) (fun (hh : x3 < (0 : Int32)) => ?_) (fun (hh : ¬ x3 < (0 : Int32)) => ?_)
      · rw [if_pos hh] at hF
        exact K52 ls _ _ (cc) (ss) K l4 (l4 - l4 / (32 : Int32) * (32 : Int32)) (va_up v 9 (s1 &&& s2)) f u la (by omega) (by omega) hY hk hext (lv_sub hl [0, 1, 2, 3, 4, 5] rfl) hP hD hS hF
      · rw [if_neg hh] at hF
        refine lv_aload_n hx hb d_As_place_45 rfl (lv_at hl 0 rfl) ?_
        refine lv_iload_n hx hb d_As_place_46 rfl (lv_at hl 3 rfl) ?_
        refine lv_iload hx hb d_As_place_47 (lv_at hl 5 rfl) ?_
        obtain ⟨z1, hcz1, hF⟩ := dm_bind hF
        refine dm_callVw B [.int x3, .int (l4 - l4 / (32 : Int32) * (32 : Int32))] (c_As_settle l G g Y t T K  x3 (l4 - l4 / (32 : Int32) * (32 : Int32)) (va_up v 9 (s1 &&& s2)) f u la z1 hY hk hcz1) k_638 k_640 ks_11 k_10 k_641 hd_As_settle rfl ⟨by decide, by decide⟩ 0 rfl rfl hP hD hS hl.1 (rest := []) rfl (Nat.le_of_ble_eq_true rfl) d_As_place_49 ⟨(by show cc + 0 ≤ 2; omega), (by show ss + 0 ≤ 105; omega)⟩ (fun ov w' H locs hq hP hD hS => ?_)
        obtain ⟨hY, hk, hxz1, rfl, rfl⟩ := hq
        have hext := hext.tr hxz1
        have hP : va_P G.1 dm_cl (aw G g Y t T K z1.1 z1.2.1 z1.2.2.1 z1.2.2.2) H := hP
        have hD : va_D A (aw G g Y t T K z1.1 z1.2.1 z1.2.2.1 z1.2.2.2) := hD
        refine W.eq (g2 := F0 m 52 ls []) rfl ?_
        exact K52 ls _ _ (cc) (ss) K l4 (l4 - l4 / (32 : Int32) * (32 : Int32)) z1.1 z1.2.1 z1.2.2.1 z1.2.2.2 (by omega) (by omega) hY hk hext (lv_sub hl [0, 1, 2, 3, 4, 5] rfl) hP hD hS hF
    · rw [if_pos hh] at hF
      refine lv_null hx hb d_As_place_32 ?_
      have hF := Option.some.inj hF
      subst hF
      exact dm_reta B (Or.inl ⟨_, rfl⟩) (Or.inl rfl) d_As_place_33 (by show cc ≤ 2; omega) (by show ss ≤ 105; omega) hP hD hS ⟨K, hY, hk, hext, rfl, rfl⟩
  have hF : (Option.bind (F_As_free t   v0 f0 u0 la0) (fun z1 => (if z1 < (0 : Int32) then (F_As_place_21 t x1 x2 x3 z1 (v0 9) (0 : Int32) v0 f0 u0 la0) else (F_As_place_21 t x1 x2 x3 z1 (v0 9) (1 : Int32) v0 f0 u0 la0)))) = some RES := hF
  refine lv_aload_n hx hb d_As_place_0 rfl (lv_at hl 0 rfl) ?_
  obtain ⟨z1, hcz1, hF⟩ := dm_bind hF
  refine dm_callVw B [] (c_As_free l G g Y t T K0   v0 f0 u0 la0 z1 hY hk hcz1) k_634 k_636 ks_10 k_10 k_637 hd_As_free rfl ⟨by decide, by decide⟩ 0 rfl rfl hP hD hS hl.1 (rest := []) rfl (Nat.le_of_ble_eq_true rfl) d_As_place_1 ⟨(by show 0 + 0 ≤ 2; omega), (by show 0 + 0 ≤ 105; omega)⟩ (fun ov w' H locs hq hP hD hS => ?_)
  obtain ⟨rfl, rfl⟩ := hq
  have hP : va_P G.1 dm_cl (aw G g Y t T K0 v0 f0 u0 la0) H := hP
  have hD : va_D A (aw G g Y t T K0 v0 f0 u0 la0) := hD
  refine W.eq (g2 := F0 m 4 ls [.int z1]) rfl ?_
  refine lv_istore (lv' := [(4, .int z1), (0, .ref (g 91)), (1, .int x1), (2, .int x2), (3, .int x3)]) hx hb d_As_place_4 hl (Nat.le_of_ble_eq_true rfl) rfl (fun ls hl => ?_)
  have hl : lv_has ls 7 [(0, .ref (g 91)), (1, .int x1), (2, .int x2), (3, .int x3), (4, .int z1)] := lv_sub hl [1, 2, 3, 4, 0] rfl
  refine lv_aload_n hx hb d_As_place_6 rfl (lv_at hl 0 rfl) ?_
  refine lv_dup hx hb d_As_place_7 rfl ?_
  refine aw_g_0_9 (x := (v0 9)) B hP rfl k_297 d_As_place_8 ?_
  refine lv_iload hx hb d_As_place_11 (lv_at hl 4 rfl) ?_
  refine lv_if_lt (tgt := 20) hx hb d_As_place_13 (by decide) (fun (hh : z1 < (0 : Int32)) => ?_) (fun (hh : ¬ z1 < (0 : Int32)) => ?_)
  · rw [if_pos hh] at hF
    refine lv_iconst (v := (0 : Int32)) hx hb d_As_place_20 (by decide) ?_
    exact K21 ls _ _ (0) (0) K0 z1 (v0 9) (0 : Int32) v0 f0 u0 la0 (by omega) (by omega) hY hk hext (lv_sub hl [0, 1, 2, 3, 4] rfl) hP hD hS hF
  · rw [if_neg hh] at hF
    refine lv_iconst (v := (1 : Int32)) hx hb d_As_place_16 (by decide) ?_
    refine lv_goto (tgt := 21) hx hb d_As_place_17 (by decide) ?_
    exact K21 ls _ _ (0) (0) K0 z1 (v0 9) (1 : Int32) v0 f0 u0 la0 (by omega) (by omega) hY hk hext (lv_sub hl [0, 1, 2, 3, 4] rfl) hP hD hS hF
abbrev b_As_fork : ByteArray := prog_2_method_8_code
abbrev y_As_fork : MethodName := { cls := "DelayMachine$Assembler", name := "fork", desc := "(I)V" }
theorem d_As_fork_0 : decode b_As_fork 0 = .ok (.iconst (-1), 1) := by decide +kernel
theorem d_As_fork_1 : decode b_As_fork 1 = .ok (.istore_n 2, 1) := by decide +kernel
theorem d_As_fork_2 : decode b_As_fork 2 = .ok (.iconst 0, 1) := by decide +kernel
theorem d_As_fork_3 : decode b_As_fork 3 = .ok (.istore_n 3, 1) := by decide +kernel
theorem d_As_fork_4 : decode b_As_fork 4 = .ok (.iconst 1, 1) := by decide +kernel
theorem d_As_fork_5 : decode b_As_fork 5 = .ok (.istore 4, 2) := by decide +kernel
theorem d_As_fork_7 : decode b_As_fork 7 = .ok (.iload 4, 2) := by decide +kernel
theorem d_As_fork_9 : decode b_As_fork 9 = .ok (.bipush (32), 2) := by decide +kernel
theorem d_As_fork_11 : decode b_As_fork 11 = .ok (.if_icmp .ge (61), 3) := by decide +kernel
theorem d_As_fork_14 : decode b_As_fork 14 = .ok (.iload_n 2, 1) := by decide +kernel
theorem d_As_fork_15 : decode b_As_fork 15 = .ok (.ifCond .ge (57), 3) := by decide +kernel
theorem d_As_fork_18 : decode b_As_fork 18 = .ok (.aload_n 0, 1) := by decide +kernel
theorem d_As_fork_19 : decode b_As_fork 19 = .ok (.getfield 78, 3) := by decide +kernel
theorem d_As_fork_22 : decode b_As_fork 22 = .ok (.ifCond .eq (50), 3) := by decide +kernel
theorem d_As_fork_25 : decode b_As_fork 25 = .ok (.aload_n 0, 1) := by decide +kernel
theorem d_As_fork_26 : decode b_As_fork 26 = .ok (.getfield 72, 3) := by decide +kernel
theorem d_As_fork_29 : decode b_As_fork 29 = .ok (.iload 4, 2) := by decide +kernel
theorem d_As_fork_31 : decode b_As_fork 31 = .ok (.iadd, 1) := by decide +kernel
theorem d_As_fork_32 : decode b_As_fork 32 = .ok (.bipush (32), 2) := by decide +kernel
theorem d_As_fork_34 : decode b_As_fork 34 = .ok (.irem, 1) := by decide +kernel
theorem d_As_fork_35 : decode b_As_fork 35 = .ok (.istore 5, 2) := by decide +kernel
theorem d_As_fork_37 : decode b_As_fork 37 = .ok (.aload_n 0, 1) := by decide +kernel
theorem d_As_fork_38 : decode b_As_fork 38 = .ok (.iconst 0, 1) := by decide +kernel
theorem d_As_fork_39 : decode b_As_fork 39 = .ok (.iload 5, 2) := by decide +kernel
theorem d_As_fork_41 : decode b_As_fork 41 = .ok (.invokevirtual 88, 3) := by decide +kernel
theorem d_As_fork_44 : decode b_As_fork 44 = .ok (.ifCond .eq (7), 3) := by decide +kernel
theorem d_As_fork_47 : decode b_As_fork 47 = .ok (.iconst 0, 1) := by decide +kernel
theorem d_As_fork_48 : decode b_As_fork 48 = .ok (.goto (4), 3) := by decide +kernel
theorem d_As_fork_51 : decode b_As_fork 51 = .ok (.iconst 1, 1) := by decide +kernel
theorem d_As_fork_52 : decode b_As_fork 52 = .ok (.istore_n 3, 1) := by decide +kernel
theorem d_As_fork_53 : decode b_As_fork 53 = .ok (.aload_n 0, 1) := by decide +kernel
theorem d_As_fork_54 : decode b_As_fork 54 = .ok (.iload_n 3, 1) := by decide +kernel
theorem d_As_fork_55 : decode b_As_fork 55 = .ok (.iload 5, 2) := by decide +kernel
theorem d_As_fork_57 : decode b_As_fork 57 = .ok (.invokevirtual 88, 3) := by decide +kernel
theorem d_As_fork_60 : decode b_As_fork 60 = .ok (.ifCond .eq (6), 3) := by decide +kernel
theorem d_As_fork_63 : decode b_As_fork 63 = .ok (.iload 5, 2) := by decide +kernel
theorem d_As_fork_65 : decode b_As_fork 65 = .ok (.istore_n 2, 1) := by decide +kernel
theorem d_As_fork_66 : decode b_As_fork 66 = .ok (.iinc 4 (1), 3) := by decide +kernel
theorem d_As_fork_69 : decode b_As_fork 69 = .ok (.goto (-62), 3) := by decide +kernel
theorem d_As_fork_72 : decode b_As_fork 72 = .ok (.aload_n 0, 1) := by decide +kernel
theorem d_As_fork_73 : decode b_As_fork 73 = .ok (.dup, 1) := by decide +kernel
theorem d_As_fork_74 : decode b_As_fork 74 = .ok (.getfield 78, 3) := by decide +kernel
theorem d_As_fork_77 : decode b_As_fork 77 = .ok (.iload_n 2, 1) := by decide +kernel
theorem d_As_fork_78 : decode b_As_fork 78 = .ok (.ifCond .lt (7), 3) := by decide +kernel
theorem d_As_fork_81 : decode b_As_fork 81 = .ok (.iconst 1, 1) := by decide +kernel
theorem d_As_fork_82 : decode b_As_fork 82 = .ok (.goto (4), 3) := by decide +kernel
theorem d_As_fork_85 : decode b_As_fork 85 = .ok (.iconst 0, 1) := by decide +kernel
theorem d_As_fork_86 : decode b_As_fork 86 = .ok (.iand, 1) := by decide +kernel
theorem d_As_fork_87 : decode b_As_fork 87 = .ok (.putfield 78, 3) := by decide +kernel
theorem d_As_fork_90 : decode b_As_fork 90 = .ok (.aload_n 0, 1) := by decide +kernel
theorem d_As_fork_91 : decode b_As_fork 91 = .ok (.getfield 78, 3) := by decide +kernel
theorem d_As_fork_94 : decode b_As_fork 94 = .ok (.ifCond .ne (4), 3) := by decide +kernel
theorem d_As_fork_97 : decode b_As_fork 97 = .ok (.return_, 1) := by decide +kernel
theorem d_As_fork_98 : decode b_As_fork 98 = .ok (.aload_n 0, 1) := by decide +kernel
theorem d_As_fork_99 : decode b_As_fork 99 = .ok (.iload_n 3, 1) := by decide +kernel
theorem d_As_fork_100 : decode b_As_fork 100 = .ok (.iload_n 2, 1) := by decide +kernel
theorem d_As_fork_101 : decode b_As_fork 101 = .ok (.iconst 0, 1) := by decide +kernel
theorem d_As_fork_102 : decode b_As_fork 102 = .ok (.invokevirtual 85, 3) := by decide +kernel
theorem d_As_fork_105 : decode b_As_fork 105 = .ok (.astore 4, 2) := by decide +kernel
theorem d_As_fork_107 : decode b_As_fork 107 = .ok (.aload_n 0, 1) := by decide +kernel
theorem d_As_fork_108 : decode b_As_fork 108 = .ok (.aconst_null, 1) := by decide +kernel
theorem d_As_fork_109 : decode b_As_fork 109 = .ok (.putfield 64, 3) := by decide +kernel
theorem d_As_fork_112 : decode b_As_fork 112 = .ok (.aload_n 0, 1) := by decide +kernel
theorem d_As_fork_113 : decode b_As_fork 113 = .ok (.iload_n 3, 1) := by decide +kernel
theorem d_As_fork_114 : decode b_As_fork 114 = .ok (.iload_n 2, 1) := by decide +kernel
theorem d_As_fork_115 : decode b_As_fork 115 = .ok (.iconst 1, 1) := by decide +kernel
theorem d_As_fork_116 : decode b_As_fork 116 = .ok (.iadd, 1) := by decide +kernel
theorem d_As_fork_117 : decode b_As_fork 117 = .ok (.bipush (32), 2) := by decide +kernel
theorem d_As_fork_119 : decode b_As_fork 119 = .ok (.irem, 1) := by decide +kernel
theorem d_As_fork_120 : decode b_As_fork 120 = .ok (.iconst 0, 1) := by decide +kernel
theorem d_As_fork_121 : decode b_As_fork 121 = .ok (.invokevirtual 85, 3) := by decide +kernel
theorem d_As_fork_124 : decode b_As_fork 124 = .ok (.astore 5, 2) := by decide +kernel
theorem d_As_fork_126 : decode b_As_fork 126 = .ok (.aload 5, 2) := by decide +kernel
theorem d_As_fork_128 : decode b_As_fork 128 = .ok (.iload_n 1, 1) := by decide +kernel
theorem d_As_fork_129 : decode b_As_fork 129 = .ok (.putfield 92, 3) := by decide +kernel
theorem d_As_fork_132 : decode b_As_fork 132 = .ok (.aload_n 0, 1) := by decide +kernel
theorem d_As_fork_133 : decode b_As_fork 133 = .ok (.aload 4, 2) := by decide +kernel
theorem d_As_fork_135 : decode b_As_fork 135 = .ok (.putfield 64, 3) := by decide +kernel
theorem d_As_fork_138 : decode b_As_fork 138 = .ok (.aload_n 0, 1) := by decide +kernel
theorem d_As_fork_139 : decode b_As_fork 139 = .ok (.iload_n 2, 1) := by decide +kernel
theorem d_As_fork_140 : decode b_As_fork 140 = .ok (.iconst 2, 1) := by decide +kernel
theorem d_As_fork_141 : decode b_As_fork 141 = .ok (.iadd, 1) := by decide +kernel
theorem d_As_fork_142 : decode b_As_fork 142 = .ok (.bipush (32), 2) := by decide +kernel
theorem d_As_fork_144 : decode b_As_fork 144 = .ok (.irem, 1) := by decide +kernel
theorem d_As_fork_145 : decode b_As_fork 145 = .ok (.putfield 72, 3) := by decide +kernel
theorem d_As_fork_148 : decode b_As_fork 148 = .ok (.return_, 1) := by decide +kernel
theorem hd_As_fork : y_As_fork.cls ≠ "java/lang/invoke/MethodHandle" ∧ y_As_fork.cls ≠ "java/lang/invoke/VarHandle" ∧ (parseMethodDescriptor y_As_fork.desc).map (fun d => d.parameters.length) = some 1 := by decide +kernel
abbrev rm_As_fork : Room := { frames := 8, cells := 4, slots := 210, locals := 275 }
def F_As_fork_86 (t : Nat → Nat → Int32) (x1 : Int32)   (l2 : Int32) (l3 : Int32) (s1 : Int32) (s2 : Int32) (v : Nat → Int32) (f : Nat → Nat → Int32) (u : Nat → Nat → Int32) (la : Nat → Option Nat) : Option ((Nat → Int32) × (Nat → Nat → Int32) × (Nat → Nat → Int32) × (Nat → Option Nat)) := (if (s1 &&& s2) = 0 ∨ (s1 &&& s2) = 1 then (if (s1 &&& s2) = (0 : Int32) then (some ((va_up v 9 (s1 &&& s2)), f, u, la)) else (Option.bind (F_As_put t  l3 l2 (0 : Int32) (va_up v 9 (s1 &&& s2)) f u la) (fun z1 => (if (z1.2.1 20).toNatClampNeg ≤ z1.1 then none else (Option.bind (F_As_put t  l3 ((l2 + (1 : Int32)) - (l2 + (1 : Int32)) / (32 : Int32) * (32 : Int32)) (0 : Int32) z1.2.1 z1.2.2.1 z1.2.2.2.1 (va_up z1.2.2.2.2 0 none)) (fun z2 => (if (z2.2.1 20).toNatClampNeg ≤ z2.1 then none else (some ((va_up z2.2.1 8 ((l2 + (2 : Int32)) - (l2 + (2 : Int32)) / (32 : Int32) * (32 : Int32))), z2.2.2.1, (va_up z2.2.2.2.1 z2.1 (va_up (z2.2.2.2.1 z2.1) 4 x1)), (va_up z2.2.2.2.2 0 (some z1.1))))))))))) else none)
def F_As_fork_72 (t : Nat → Nat → Int32) (x1 : Int32)   (l2 : Int32) (l3 : Int32) (v : Nat → Int32) (f : Nat → Nat → Int32) (u : Nat → Nat → Int32) (la : Nat → Option Nat) : Option ((Nat → Int32) × (Nat → Nat → Int32) × (Nat → Nat → Int32) × (Nat → Option Nat)) := (if l2 < (0 : Int32) then (F_As_fork_86 t x1 l2 l3 (v 9) (0 : Int32) v f u la) else (F_As_fork_86 t x1 l2 l3 (v 9) (1 : Int32) v f u la))
def F_As_fork_66 (t : Nat → Nat → Int32) (x1 : Int32)  (k7 : Int32 → Int32 → Int32 → (Nat → Int32) → (Nat → Nat → Int32) → (Nat → Nat → Int32) → (Nat → Option Nat) → Option ((Nat → Int32) × (Nat → Nat → Int32) × (Nat → Nat → Int32) × (Nat → Option Nat))) (l2 : Int32) (l3 : Int32) (l4 : Int32) (v : Nat → Int32) (f : Nat → Nat → Int32) (u : Nat → Nat → Int32) (la : Nat → Option Nat) : Option ((Nat → Int32) × (Nat → Nat → Int32) × (Nat → Nat → Int32) × (Nat → Option Nat)) := (k7 l2 l3 (l4 + (1 : Int32)) v f u la)
def F_As_fork_52 (t : Nat → Nat → Int32) (x1 : Int32)  (k7 : Int32 → Int32 → Int32 → (Nat → Int32) → (Nat → Nat → Int32) → (Nat → Nat → Int32) → (Nat → Option Nat) → Option ((Nat → Int32) × (Nat → Nat → Int32) × (Nat → Nat → Int32) × (Nat → Option Nat))) (l2 : Int32) (l4 : Int32) (l5 : Int32) (s0 : Int32) (v : Nat → Int32) (f : Nat → Nat → Int32) (u : Nat → Nat → Int32) (la : Nat → Option Nat) : Option ((Nat → Int32) × (Nat → Nat → Int32) × (Nat → Nat → Int32) × (Nat → Option Nat)) := (Option.bind (F_As_pair t  s0 l5 v f u la) (fun z1 => (if z1 = (0 : Int32) then (F_As_fork_66 t x1 (k7) l2 s0 l4 v f u la) else (F_As_fork_66 t x1 (k7) l5 s0 l4 v f u la))))
def F_As_fork_7 (t : Nat → Nat → Int32) (x1 : Int32)   : Nat → Int32 → Int32 → Int32 → (Nat → Int32) → (Nat → Nat → Int32) → (Nat → Nat → Int32) → (Nat → Option Nat) → Option ((Nat → Int32) × (Nat → Nat → Int32) × (Nat → Nat → Int32) × (Nat → Option Nat))
  | 0, _, _, _, _, _, _, _ => none
  | n + 1, l2, l3, l4, v, f, u, la => (if (32 : Int32) ≤ l4 then (F_As_fork_72 t x1 l2 l3 v f u la) else (if (0 : Int32) ≤ l2 then (F_As_fork_72 t x1 l2 l3 v f u la) else (if (v 9) = (0 : Int32) then (F_As_fork_72 t x1 l2 l3 v f u la) else (Option.bind (F_As_pair t  (0 : Int32) (((v 8) + l4) - ((v 8) + l4) / (32 : Int32) * (32 : Int32)) v f u la) (fun z1 => (if z1 = (0 : Int32) then (F_As_fork_52 t x1 (F_As_fork_7 t x1 n) l2 l4 (((v 8) + l4) - ((v 8) + l4) / (32 : Int32) * (32 : Int32)) (1 : Int32) v f u la) else (F_As_fork_52 t x1 (F_As_fork_7 t x1 n) l2 l4 (((v 8) + l4) - ((v 8) + l4) / (32 : Int32) * (32 : Int32)) (0 : Int32) v f u la)))))))
def F_As_fork (t : Nat → Nat → Int32) (x1 : Int32)  (v0 : Nat → Int32) (f0 : Nat → Nat → Int32) (u0 : Nat → Nat → Int32) (la0 : Nat → Option Nat) : Option ((Nat → Int32) × (Nat → Nat → Int32) × (Nat → Nat → Int32) × (Nat → Option Nat)) := (F_As_fork_7 t x1 100 (-1 : Int32) (0 : Int32) (1 : Int32) v0 f0 u0 la0)
set_option maxHeartbeats 4000000 in
set_option maxRecDepth 100000 in
theorem c_As_fork (l : Launch) (G : dm_G) (g : Nat → Nat) (Y : aK) (t : Nat → Nat → Int32) (T : va_W) (K0 : aK) (x1 : Int32) (v0 : Nat → Int32) (f0 : Nat → Nat → Int32) (u0 : Nat → Nat → Int32) (la0 : Nat → Option Nat) (RES : (Nat → Int32) × (Nat → Nat → Int32) × (Nat → Nat → Int32) × (Nat → Option Nat)) (hY : okA G Y (v0 21)) (hk : okA G K0 (v0 20)) (hF : F_As_fork t x1 v0 f0 u0 la0 = some RES) : dm_Ct l y_As_fork b_As_fork 6 none rm_As_fork G (aw G g Y t T K0 v0 f0 u0 la0) [.ref (g 91), .int x1] (fun ov w' => ∃ K' : aK, okA G Y (RES.1 21) ∧ okA G K' (RES.1 20) ∧ extP K0 K' (v0 20) (RES.1 20) ∧ ov = none ∧ w' = (aw G g Y t T K' RES.1 RES.2.1 RES.2.2.1 RES.2.2.2)) := by
  refine dm_Ct.of (by decide +kernel) (Nat.le_of_ble_eq_true rfl) ?_
  intro p e s m below meth c A ls B hl hP hD hS
  have hx := B.1
  have hb := B.2.1
  have hl : lv_has ls 6 [(0, .ref (g 91)), (1, .int x1)] := hl
  have hext : extP K0 K0 (v0 20) (v0 20) := extP.rf
  have K86 : ∀ (ls : Array Slot) (H : Heap) (locs : List Loc) (cc ss : Nat) (K : aK) (l2 : Int32) (l3 : Int32) (s1 : Int32) (s2 : Int32) (v : Nat → Int32) (f : Nat → Nat → Int32) (u : Nat → Nat → Int32) (la : Nat → Option Nat), cc ≤ 0 → ss ≤ 0 → okA G Y (v 21) → okA G K (v 20) → extP K0 K (v0 20) (v 20) → lv_has ls 6 [(0, .ref (g 91)), (1, .int x1), (2, .int l2), (3, .int l3)] → va_P G.1 dm_cl (aw G g Y t T K v f u la) H → va_D A (aw G g Y t T K v f u la) → va_S A s.heap H locs → F_As_fork_86 t x1 l2 l3 s1 s2 v f u la = some RES → W p l e rm_As_fork s m ([.ref (g 91), .int x1] : List Value).toArray below meth c H locs cc ss (dm_Z below G s ([.ref (g 91), .int x1] : List Value).toArray A rm_As_fork.cells rm_As_fork.slots (fun ov w' => ∃ K' : aK, okA G Y (RES.1 21) ∧ okA G K' (RES.1 20) ∧ extP K0 K' (v0 20) (RES.1 20) ∧ ov = none ∧ w' = (aw G g Y t T K' RES.1 RES.2.1 RES.2.2.1 RES.2.2.2))) (F0 m 86 ls [.int s2, .int s1, .ref (g 91)]) := by
    intro ls H locs cc ss K l2 l3 s1 s2 v f u la hcc hss hY hk hext hl hP hD hS hF
    have hF : (if (s1 &&& s2) = 0 ∨ (s1 &&& s2) = 1 then (if (s1 &&& s2) = (0 : Int32) then (some ((va_up v 9 (s1 &&& s2)), f, u, la)) else (Option.bind (F_As_put t  l3 l2 (0 : Int32) (va_up v 9 (s1 &&& s2)) f u la) (fun z1 => (if (z1.2.1 20).toNatClampNeg ≤ z1.1 then none else (Option.bind (F_As_put t  l3 ((l2 + (1 : Int32)) - (l2 + (1 : Int32)) / (32 : Int32) * (32 : Int32)) (0 : Int32) z1.2.1 z1.2.2.1 z1.2.2.2.1 (va_up z1.2.2.2.2 0 none)) (fun z2 => (if (z2.2.1 20).toNatClampNeg ≤ z2.1 then none else (some ((va_up z2.2.1 8 ((l2 + (2 : Int32)) - (l2 + (2 : Int32)) / (32 : Int32) * (32 : Int32))), z2.2.2.1, (va_up z2.2.2.2.1 z2.1 (va_up (z2.2.2.2.1 z2.1) 4 x1)), (va_up z2.2.2.2.2 0 (some z1.1))))))))))) else none) = some RES := hF
    refine lv_iand hx hb d_As_fork_86 ?_
    obtain ⟨hz, hF⟩ := dm_ck1 hF
    refine aw_p_0_9 (x := (s1 &&& s2)) B hP hD hS hz k_297 d_As_fork_87 (fun H locs hP hD hS => ?_)
    refine lv_aload_n hx hb d_As_fork_90 rfl (lv_at hl 0 rfl) ?_
    refine aw_g_0_9 (x := (s1 &&& s2)) B hP rfl k_297 d_As_fork_91 ?_
    refine lv_if_ne (tgt := 98) hx hb d_As_fork_94 (by decide) (fun (hh : ¬ (s1 &&& s2) = (0 : Int32)) => ?_) (fun (hh : (s1 &&& s2) = (0 : Int32)) => ?_)
    · rw [if_neg hh] at hF
      refine lv_aload_n hx hb d_As_fork_98 rfl (lv_at hl 0 rfl) ?_
      refine lv_iload_n hx hb d_As_fork_99 rfl (lv_at hl 3 rfl) ?_
      refine lv_iload_n hx hb d_As_fork_100 rfl (lv_at hl 2 rfl) ?_
      refine lv_iconst (v := (0 : Int32)) hx hb d_As_fork_101 (by decide) ?_
      obtain ⟨z1, hcz1, hF⟩ := dm_bind hF
      refine dm_callVw B [.int l3, .int l2, .int (0 : Int32)] (c_As_put l G g Y t T K  l3 l2 (0 : Int32) (va_up v 9 (s1 &&& s2)) f u la z1 hY hk hcz1) k_642 k_644 ks_12 k_10 k_645 hd_As_put rfl ⟨by decide, by decide⟩ 0 rfl rfl hP hD hS hl.1 (rest := []) rfl (Nat.le_of_ble_eq_true rfl) d_As_fork_102 ⟨(by show cc + 2 ≤ 4; omega), (by show ss + 105 ≤ 210; omega)⟩ (fun ov w' H locs hq hP hD hS => ?_)
      obtain ⟨Kz1, hY, hk, hxz1, rfl, rfl⟩ := hq
      have hext := hext.tr hxz1
      have hP : va_P G.1 dm_cl (aw G g Y t T Kz1 z1.2.1 z1.2.2.1 z1.2.2.2.1 z1.2.2.2.2) H := hP
      have hD : va_D A (aw G g Y t T Kz1 z1.2.1 z1.2.2.1 z1.2.2.2.1 z1.2.2.2.2) := hD
      refine W.eq (g2 := F0 m 105 ls [.ref (Kz1.2.2.2 z1.1)]) rfl ?_
      refine lv_astore (lv' := [(4, .ref (Kz1.2.2.2 z1.1)), (0, .ref (g 91)), (1, .int x1), (2, .int l2), (3, .int l3)]) hx hb d_As_fork_105 hl (Nat.le_of_ble_eq_true rfl) rfl (fun ls hl => ?_)
      have hl : lv_has ls 6 [(0, .ref (g 91)), (1, .int x1), (2, .int l2), (3, .int l3), (4, .ref (Kz1.2.2.2 z1.1))] := lv_sub hl [1, 2, 3, 4, 0] rfl
      refine lv_aload_n hx hb d_As_fork_107 rfl (lv_at hl 0 rfl) ?_
      refine lv_null hx hb d_As_fork_108 ?_
      refine aw_pz_0_10 B hP hD hS k_298 d_As_fork_109 (fun H locs hP hD hS => ?_)
      refine lv_aload_n hx hb d_As_fork_112 rfl (lv_at hl 0 rfl) ?_
      refine lv_iload_n hx hb d_As_fork_113 rfl (lv_at hl 3 rfl) ?_
      refine lv_iload_n hx hb d_As_fork_114 rfl (lv_at hl 2 rfl) ?_
      refine lv_iconst (v := (1 : Int32)) hx hb d_As_fork_115 (by decide) ?_
      refine lv_iadd hx hb d_As_fork_116 ?_
      refine lv_bipush (v := (32 : Int32)) hx hb d_As_fork_117 (by decide) ?_
      refine lv_irem hx hb d_As_fork_119 (by decide) ?_
      refine lv_iconst (v := (0 : Int32)) hx hb d_As_fork_120 (by decide) ?_
      obtain ⟨hkl4, hF⟩ := dm_chk hF
      obtain ⟨z2, hcz2, hF⟩ := dm_bind hF
      refine dm_callVw B [.int l3, .int ((l2 + (1 : Int32)) - (l2 + (1 : Int32)) / (32 : Int32) * (32 : Int32)), .int (0 : Int32)] (c_As_put l G g Y t T Kz1  l3 ((l2 + (1 : Int32)) - (l2 + (1 : Int32)) / (32 : Int32) * (32 : Int32)) (0 : Int32) z1.2.1 z1.2.2.1 z1.2.2.2.1 (va_up z1.2.2.2.2 0 none) z2 hY hk hcz2) k_642 k_644 ks_12 k_10 k_645 hd_As_put rfl ⟨by decide, by decide⟩ 0 rfl rfl hP hD hS hl.1 (rest := []) rfl (Nat.le_of_ble_eq_true rfl) d_As_fork_121 ⟨(by show cc + 2 + 2 ≤ 4; omega), (by show ss + 105 + 105 ≤ 210; omega)⟩ (fun ov w' H locs hq hP hD hS => ?_)
      obtain ⟨Kz2, hY, hk, hxz2, rfl, rfl⟩ := hq
      have hext := hext.tr hxz2
      have hl : lv_has ls 6 [(0, .ref (g 91)), (1, .int x1), (2, .int l2), (3, .int l3), (4, .ref (Kz2.2.2.2 z1.1))] := by rw [hxz2.2 _ (Nat.lt_of_not_le hkl4)]; exact lv_sub hl [0, 1, 2, 3, 4] rfl
      have hP : va_P G.1 dm_cl (aw G g Y t T Kz2 z2.2.1 z2.2.2.1 z2.2.2.2.1 z2.2.2.2.2) H := hP
      have hD : va_D A (aw G g Y t T Kz2 z2.2.1 z2.2.2.1 z2.2.2.2.1 z2.2.2.2.2) := hD
      refine W.eq (g2 := F0 m 124 ls [.ref (Kz2.2.2.2 z2.1)]) rfl ?_
      refine lv_astore (lv' := [(5, .ref (Kz2.2.2.2 z2.1)), (0, .ref (g 91)), (1, .int x1), (2, .int l2), (3, .int l3), (4, .ref (Kz2.2.2.2 z1.1))]) hx hb d_As_fork_124 hl (Nat.le_of_ble_eq_true rfl) rfl (fun ls hl => ?_)
      have hl : lv_has ls 6 [(0, .ref (g 91)), (1, .int x1), (2, .int l2), (3, .int l3), (4, .ref (Kz2.2.2.2 z1.1)), (5, .ref (Kz2.2.2.2 z2.1))] := lv_sub hl [1, 2, 3, 4, 5, 0] rfl
      refine lv_aload hx hb d_As_fork_126 (lv_at hl 5 rfl) ?_
      refine lv_iload_n hx hb d_As_fork_128 rfl (lv_at hl 1 rfl) ?_
      obtain ⟨hi, hF⟩ := dm_chk hF
      refine aw_pln_4 (i := z2.1) (x := x1) B hP hD hS hi k_660 d_As_fork_129 (fun H locs hP hD hS => ?_)
      refine lv_aload_n hx hb d_As_fork_132 rfl (lv_at hl 0 rfl) ?_
      refine lv_aload hx hb d_As_fork_133 (lv_at hl 4 rfl) ?_
      refine aw_pq_0_10 (x := z1.1) B hP hD hS k_298 d_As_fork_135 (fun H locs hP hD hS => ?_)
      refine lv_aload_n hx hb d_As_fork_138 rfl (lv_at hl 0 rfl) ?_
      refine lv_iload_n hx hb d_As_fork_139 rfl (lv_at hl 2 rfl) ?_
      refine lv_iconst (v := (2 : Int32)) hx hb d_As_fork_140 (by decide) ?_
      refine lv_iadd hx hb d_As_fork_141 ?_
      refine lv_bipush (v := (32 : Int32)) hx hb d_As_fork_142 (by decide) ?_
      refine lv_irem hx hb d_As_fork_144 (by decide) ?_
      refine aw_p_0_8 (x := ((l2 + (2 : Int32)) - (l2 + (2 : Int32)) / (32 : Int32) * (32 : Int32))) B hP hD hS k_296 d_As_fork_145 (fun H locs hP hD hS => ?_)
      have hF := Option.some.inj hF
      subst hF
      exact dm_retv B d_As_fork_148 (by show cc + 2 + 2 ≤ 4; omega) (by show ss + 105 + 105 ≤ 210; omega) hP hD hS ⟨Kz2, hY, hk, hext, rfl, rfl⟩
    · rw [if_pos hh] at hF
      have hF := Option.some.inj hF
      subst hF
      exact dm_retv B d_As_fork_97 (by show cc ≤ 4; omega) (by show ss ≤ 210; omega) hP hD hS ⟨K, hY, hk, hext, rfl, rfl⟩
  have K72 : ∀ (ls : Array Slot) (H : Heap) (locs : List Loc) (cc ss : Nat) (K : aK) (l2 : Int32) (l3 : Int32) (v : Nat → Int32) (f : Nat → Nat → Int32) (u : Nat → Nat → Int32) (la : Nat → Option Nat), cc ≤ 0 → ss ≤ 0 → okA G Y (v 21) → okA G K (v 20) → extP K0 K (v0 20) (v 20) → lv_has ls 6 [(0, .ref (g 91)), (1, .int x1), (2, .int l2), (3, .int l3)] → va_P G.1 dm_cl (aw G g Y t T K v f u la) H → va_D A (aw G g Y t T K v f u la) → va_S A s.heap H locs → F_As_fork_72 t x1 l2 l3 v f u la = some RES → W p l e rm_As_fork s m ([.ref (g 91), .int x1] : List Value).toArray below meth c H locs cc ss (dm_Z below G s ([.ref (g 91), .int x1] : List Value).toArray A rm_As_fork.cells rm_As_fork.slots (fun ov w' => ∃ K' : aK, okA G Y (RES.1 21) ∧ okA G K' (RES.1 20) ∧ extP K0 K' (v0 20) (RES.1 20) ∧ ov = none ∧ w' = (aw G g Y t T K' RES.1 RES.2.1 RES.2.2.1 RES.2.2.2))) (F0 m 72 ls []) := by
    intro ls H locs cc ss K l2 l3 v f u la hcc hss hY hk hext hl hP hD hS hF
    have hF : (if l2 < (0 : Int32) then (F_As_fork_86 t x1 l2 l3 (v 9) (0 : Int32) v f u la) else (F_As_fork_86 t x1 l2 l3 (v 9) (1 : Int32) v f u la)) = some RES := hF
    refine lv_aload_n hx hb d_As_fork_72 rfl (lv_at hl 0 rfl) ?_
    refine lv_dup hx hb d_As_fork_73 rfl ?_
    refine aw_g_0_9 (x := (v 9)) B hP rfl k_297 d_As_fork_74 ?_
    refine lv_iload_n hx hb d_As_fork_77 rfl (lv_at hl 2 rfl) ?_
    refine lv_if_lt (tgt := 85) hx hb d_As_fork_78 (by decide) (fun (hh : l2 < (0 : Int32)) => ?_) (fun (hh : ¬ l2 < (0 : Int32)) => ?_)
    · rw [if_pos hh] at hF
      refine lv_iconst (v := (0 : Int32)) hx hb d_As_fork_85 (by decide) ?_
      exact K86 ls _ _ (cc) (ss) K l2 l3 (v 9) (0 : Int32) v f u la (by omega) (by omega) hY hk hext (lv_sub hl [0, 1, 2, 3] rfl) hP hD hS hF
    · rw [if_neg hh] at hF
      refine lv_iconst (v := (1 : Int32)) hx hb d_As_fork_81 (by decide) ?_
      refine lv_goto (tgt := 86) hx hb d_As_fork_82 (by decide) ?_
      exact K86 ls _ _ (cc) (ss) K l2 l3 (v 9) (1 : Int32) v f u la (by omega) (by omega) hY hk hext (lv_sub hl [0, 1, 2, 3] rfl) hP hD hS hF
  have K7 : ∀ (n7 : Nat) (ls : Array Slot) (H : Heap) (locs : List Loc) (cc ss : Nat) (K : aK) (l2 : Int32) (l3 : Int32) (l4 : Int32) (v : Nat → Int32) (f : Nat → Nat → Int32) (u : Nat → Nat → Int32) (la : Nat → Option Nat), cc ≤ 0 → ss ≤ 0 → okA G Y (v 21) → okA G K (v 20) → extP K0 K (v0 20) (v 20) → lv_has ls 6 [(0, .ref (g 91)), (1, .int x1), (2, .int l2), (3, .int l3), (4, .int l4)] → va_P G.1 dm_cl (aw G g Y t T K v f u la) H → va_D A (aw G g Y t T K v f u la) → va_S A s.heap H locs → F_As_fork_7 t x1 n7 l2 l3 l4 v f u la = some RES → W p l e rm_As_fork s m ([.ref (g 91), .int x1] : List Value).toArray below meth c H locs cc ss (dm_Z below G s ([.ref (g 91), .int x1] : List Value).toArray A rm_As_fork.cells rm_As_fork.slots (fun ov w' => ∃ K' : aK, okA G Y (RES.1 21) ∧ okA G K' (RES.1 20) ∧ extP K0 K' (v0 20) (RES.1 20) ∧ ov = none ∧ w' = (aw G g Y t T K' RES.1 RES.2.1 RES.2.2.1 RES.2.2.2))) (F0 m 7 ls []) := by
    intro n7
    induction n7 with
    | zero => intro ls H locs cc ss K l2 l3 l4 v f u la hcc hss hY hk hext hl hP hD hS hF; cases hF
    | succ n7 ih7 =>
      have K66 : ∀ (ls : Array Slot) (H : Heap) (locs : List Loc) (cc ss : Nat) (K : aK) (l2 : Int32) (l3 : Int32) (l4 : Int32) (v : Nat → Int32) (f : Nat → Nat → Int32) (u : Nat → Nat → Int32) (la : Nat → Option Nat), cc ≤ 0 → ss ≤ 0 → okA G Y (v 21) → okA G K (v 20) → extP K0 K (v0 20) (v 20) → lv_has ls 6 [(0, .ref (g 91)), (1, .int x1), (2, .int l2), (3, .int l3), (4, .int l4)] → va_P G.1 dm_cl (aw G g Y t T K v f u la) H → va_D A (aw G g Y t T K v f u la) → va_S A s.heap H locs → F_As_fork_66 t x1 (F_As_fork_7 t x1 n7) l2 l3 l4 v f u la = some RES → W p l e rm_As_fork s m ([.ref (g 91), .int x1] : List Value).toArray below meth c H locs cc ss (dm_Z below G s ([.ref (g 91), .int x1] : List Value).toArray A rm_As_fork.cells rm_As_fork.slots (fun ov w' => ∃ K' : aK, okA G Y (RES.1 21) ∧ okA G K' (RES.1 20) ∧ extP K0 K' (v0 20) (RES.1 20) ∧ ov = none ∧ w' = (aw G g Y t T K' RES.1 RES.2.1 RES.2.2.1 RES.2.2.2))) (F0 m 66 ls []) := by
        intro ls H locs cc ss K l2 l3 l4 v f u la hcc hss hY hk hext hl hP hD hS hF
        have hF : ((F_As_fork_7 t x1 n7) l2 l3 (l4 + (1 : Int32)) v f u la) = some RES := hF
        refine lv_iinc (k := 4) (v := (l4 + (1 : Int32))) (lv' := [(4, .int (l4 + (1 : Int32))), (0, .ref (g 91)), (1, .int x1), (2, .int l2), (3, .int l3)]) hx hb d_As_fork_66 hl rfl (congrArg (fun q => l4 + q) (by decide)) (Nat.le_of_ble_eq_true rfl) rfl (fun ls hl => ?_)
        have hl : lv_has ls 6 [(0, .ref (g 91)), (1, .int x1), (2, .int l2), (3, .int l3), (4, .int (l4 + (1 : Int32)))] := lv_sub hl [1, 2, 3, 4, 0] rfl
        refine lv_goto (tgt := 7) hx hb d_As_fork_69 (by decide) ?_
        exact ih7 ls _ _ (cc) (ss) K l2 l3 (l4 + (1 : Int32)) v f u la (by omega) (by omega) hY hk hext (lv_sub hl [0, 1, 2, 3, 4] rfl) hP hD hS hF
      have K52 : ∀ (ls : Array Slot) (H : Heap) (locs : List Loc) (cc ss : Nat) (K : aK) (l2 : Int32) (l4 : Int32) (l5 : Int32) (s0 : Int32) (v : Nat → Int32) (f : Nat → Nat → Int32) (u : Nat → Nat → Int32) (la : Nat → Option Nat), cc ≤ 0 → ss ≤ 0 → okA G Y (v 21) → okA G K (v 20) → extP K0 K (v0 20) (v 20) → lv_has ls 6 [(0, .ref (g 91)), (1, .int x1), (2, .int l2), (4, .int l4), (5, .int l5)] → va_P G.1 dm_cl (aw G g Y t T K v f u la) H → va_D A (aw G g Y t T K v f u la) → va_S A s.heap H locs → F_As_fork_52 t x1 (F_As_fork_7 t x1 n7) l2 l4 l5 s0 v f u la = some RES → W p l e rm_As_fork s m ([.ref (g 91), .int x1] : List Value).toArray below meth c H locs cc ss (dm_Z below G s ([.ref (g 91), .int x1] : List Value).toArray A rm_As_fork.cells rm_As_fork.slots (fun ov w' => ∃ K' : aK, okA G Y (RES.1 21) ∧ okA G K' (RES.1 20) ∧ extP K0 K' (v0 20) (RES.1 20) ∧ ov = none ∧ w' = (aw G g Y t T K' RES.1 RES.2.1 RES.2.2.1 RES.2.2.2))) (F0 m 52 ls [.int s0]) := by
        intro ls H locs cc ss K l2 l4 l5 s0 v f u la hcc hss hY hk hext hl hP hD hS hF
        have hF : (Option.bind (F_As_pair t  s0 l5 v f u la) (fun z1 => (if z1 = (0 : Int32) then (F_As_fork_66 t x1 ((F_As_fork_7 t x1 n7)) l2 s0 l4 v f u la) else (F_As_fork_66 t x1 ((F_As_fork_7 t x1 n7)) l5 s0 l4 v f u la)))) = some RES := hF
        refine lv_istore_n (lv' := [(3, .int s0), (0, .ref (g 91)), (1, .int x1), (2, .int l2), (4, .int l4), (5, .int l5)]) hx hb d_As_fork_52 rfl hl (Nat.le_of_ble_eq_true rfl) rfl (fun ls hl => ?_)
        have hl : lv_has ls 6 [(0, .ref (g 91)), (1, .int x1), (2, .int l2), (3, .int s0), (4, .int l4), (5, .int l5)] := lv_sub hl [1, 2, 3, 0, 4, 5] rfl
        refine lv_aload_n hx hb d_As_fork_53 rfl (lv_at hl 0 rfl) ?_
        refine lv_iload_n hx hb d_As_fork_54 rfl (lv_at hl 3 rfl) ?_
        refine lv_iload hx hb d_As_fork_55 (lv_at hl 5 rfl) ?_
        obtain ⟨z1, hcz1, hF⟩ := dm_bind hF
        refine dm_callVw B [.int s0, .int l5] (c_As_pair l G g Y t T K  s0 l5 v f u la z1 hY hk hcz1) k_697 k_699 ks_14 k_10 k_700 hd_As_pair rfl ⟨by decide, by decide⟩ 0 rfl rfl hP hD hS hl.1 (rest := []) rfl (Nat.le_of_ble_eq_true rfl) d_As_fork_57 ⟨(by show cc + 0 ≤ 4; omega), (by show ss + 0 ≤ 210; omega)⟩ (fun ov w' H locs hq hP hD hS => ?_)
        obtain ⟨rfl, rfl⟩ := hq
        have hP : va_P G.1 dm_cl (aw G g Y t T K v f u la) H := hP
        have hD : va_D A (aw G g Y t T K v f u la) := hD
        refine W.eq (g2 := F0 m 60 ls [.int z1]) rfl ?_
        refine lv_if_eq (tgt := 66) hx hb d_As_fork_60 (by decide) (fun (hh : z1 = (0 : Int32)) => ?_) (fun (hh : ¬ z1 = (0 : Int32)) => ?_)
        · rw [if_pos hh] at hF
          exact K66 ls _ _ (cc) (ss) K l2 s0 l4 v f u la (by omega) (by omega) hY hk hext (lv_sub hl [0, 1, 2, 3, 4] rfl) hP hD hS hF
        · rw [if_neg hh] at hF
          refine lv_iload hx hb d_As_fork_63 (lv_at hl 5 rfl) ?_
          refine lv_istore_n (lv' := [(2, .int l5), (0, .ref (g 91)), (1, .int x1), (3, .int s0), (4, .int l4), (5, .int l5)]) hx hb d_As_fork_65 rfl hl (Nat.le_of_ble_eq_true rfl) rfl (fun ls hl => ?_)
          have hl : lv_has ls 6 [(0, .ref (g 91)), (1, .int x1), (2, .int l5), (3, .int s0), (4, .int l4), (5, .int l5)] := lv_sub hl [1, 2, 0, 3, 4, 5] rfl
          exact K66 ls _ _ (cc) (ss) K l5 s0 l4 v f u la (by omega) (by omega) hY hk hext (lv_sub hl [0, 1, 2, 3, 4] rfl) hP hD hS hF
      intro ls H locs cc ss K l2 l3 l4 v f u la hcc hss hY hk hext hl hP hD hS hF
      have hF : (if (32 : Int32) ≤ l4 then (F_As_fork_72 t x1 l2 l3 v f u la) else (if (0 : Int32) ≤ l2 then (F_As_fork_72 t x1 l2 l3 v f u la) else (if (v 9) = (0 : Int32) then (F_As_fork_72 t x1 l2 l3 v f u la) else (Option.bind (F_As_pair t  (0 : Int32) (((v 8) + l4) - ((v 8) + l4) / (32 : Int32) * (32 : Int32)) v f u la) (fun z1 => (if z1 = (0 : Int32) then (F_As_fork_52 t x1 (F_As_fork_7 t x1 n7) l2 l4 (((v 8) + l4) - ((v 8) + l4) / (32 : Int32) * (32 : Int32)) (1 : Int32) v f u la) else (F_As_fork_52 t x1 (F_As_fork_7 t x1 n7) l2 l4 (((v 8) + l4) - ((v 8) + l4) / (32 : Int32) * (32 : Int32)) (0 : Int32) v f u la))))))) = some RES := hF
      refine lv_iload hx hb d_As_fork_7 (lv_at hl 4 rfl) ?_
      refine lv_bipush (v := (32 : Int32)) hx hb d_As_fork_9 (by decide) ?_
      refine lv_icmp_ge (tgt := 72) hx hb d_As_fork_11 (by decide) (fun (hh : (32 : Int32) ≤ l4) => ?_) (fun (hh : ¬ (32 : Int32) ≤ l4) => ?_)
      · rw [if_pos hh] at hF
        exact K72 ls _ _ (cc) (ss) K l2 l3 v f u la (by omega) (by omega) hY hk hext (lv_sub hl [0, 1, 2, 3] rfl) hP hD hS hF
      · rw [if_neg hh] at hF
        refine lv_iload_n hx hb d_As_fork_14 rfl (lv_at hl 2 rfl) ?_
        refine lv_if_ge (tgt := 72) hx hb d_As_fork_15 (by decide) (fun (hh : (0 : Int32) ≤ l2) => ?_) (fun (hh : ¬ (0 : Int32) ≤ l2) => ?_)
        · rw [if_pos hh] at hF
          exact K72 ls _ _ (cc) (ss) K l2 l3 v f u la (by omega) (by omega) hY hk hext (lv_sub hl [0, 1, 2, 3] rfl) hP hD hS hF
        · rw [if_neg hh] at hF
          refine lv_aload_n hx hb d_As_fork_18 rfl (lv_at hl 0 rfl) ?_
          refine aw_g_0_9 (x := (v 9)) B hP rfl k_297 d_As_fork_19 ?_
          refine lv_if_eq (tgt := 72) hx hb d_As_fork_22 (by decide) (fun (hh : (v 9) = (0 : Int32)) => ?_) (fun (hh : ¬ (v 9) = (0 : Int32)) => ?_)
          · rw [if_pos hh] at hF
            exact K72 ls _ _ (cc) (ss) K l2 l3 v f u la (by omega) (by omega) hY hk hext (lv_sub hl [0, 1, 2, 3] rfl) hP hD hS hF
          · rw [if_neg hh] at hF
            refine lv_aload_n hx hb d_As_fork_25 rfl (lv_at hl 0 rfl) ?_
            refine aw_g_0_8 (x := (v 8)) B hP rfl k_296 d_As_fork_26 ?_
            refine lv_iload hx hb d_As_fork_29 (lv_at hl 4 rfl) ?_
            refine lv_iadd hx hb d_As_fork_31 ?_
            refine lv_bipush (v := (32 : Int32)) hx hb d_As_fork_32 (by decide) ?_
            refine lv_irem hx hb d_As_fork_34 (by decide) ?_
            refine lv_istore (lv' := [(5, .int (((v 8) + l4) - ((v 8) + l4) / (32 : Int32) * (32 : Int32))), (0, .ref (g 91)), (1, .int x1), (2, .int l2), (3, .int l3), (4, .int l4)]) hx hb d_As_fork_35 hl (Nat.le_of_ble_eq_true rfl) rfl (fun ls hl => ?_)
            have hl : lv_has ls 6 [(0, .ref (g 91)), (1, .int x1), (2, .int l2), (3, .int l3), (4, .int l4), (5, .int (((v 8) + l4) - ((v 8) + l4) / (32 : Int32) * (32 : Int32)))] := lv_sub hl [1, 2, 3, 4, 5, 0] rfl
            refine lv_aload_n hx hb d_As_fork_37 rfl (lv_at hl 0 rfl) ?_
            refine lv_iconst (v := (0 : Int32)) hx hb d_As_fork_38 (by decide) ?_
            refine lv_iload hx hb d_As_fork_39 (lv_at hl 5 rfl) ?_
            obtain ⟨z1, hcz1, hF⟩ := dm_bind hF
            refine dm_callVw B [.int (0 : Int32), .int (((v 8) + l4) - ((v 8) + l4) / (32 : Int32) * (32 : Int32))] (c_As_pair l G g Y t T K  (0 : Int32) (((v 8) + l4) - ((v 8) + l4) / (32 : Int32) * (32 : Int32)) v f u la z1 hY hk hcz1) k_697 k_699 ks_14 k_10 k_700 hd_As_pair rfl ⟨by decide, by decide⟩ 0 rfl rfl hP hD hS hl.1 (rest := []) rfl (Nat.le_of_ble_eq_true rfl) d_As_fork_41 ⟨(by show cc + 0 ≤ 4; omega), (by show ss + 0 ≤ 210; omega)⟩ (fun ov w' H locs hq hP hD hS => ?_)
            obtain ⟨rfl, rfl⟩ := hq
            have hP : va_P G.1 dm_cl (aw G g Y t T K v f u la) H := hP
            have hD : va_D A (aw G g Y t T K v f u la) := hD
            refine W.eq (g2 := F0 m 44 ls [.int z1]) rfl ?_
            refine lv_if_eq (tgt := 51) hx hb d_As_fork_44 (by decide) (fun (hh : z1 = (0 : Int32)) => ?_) (fun (hh : ¬ z1 = (0 : Int32)) => ?_)
            · rw [if_pos hh] at hF
              refine lv_iconst (v := (1 : Int32)) hx hb d_As_fork_51 (by decide) ?_
              exact K52 ls _ _ (cc) (ss) K l2 l4 (((v 8) + l4) - ((v 8) + l4) / (32 : Int32) * (32 : Int32)) (1 : Int32) v f u la (by omega) (by omega) hY hk hext (lv_sub hl [0, 1, 2, 4, 5] rfl) hP hD hS hF
            · rw [if_neg hh] at hF
              refine lv_iconst (v := (0 : Int32)) hx hb d_As_fork_47 (by decide) ?_
              refine lv_goto (tgt := 52) hx hb d_As_fork_48 (by decide) ?_
              exact K52 ls _ _ (cc) (ss) K l2 l4 (((v 8) + l4) - ((v 8) + l4) / (32 : Int32) * (32 : Int32)) (0 : Int32) v f u la (by omega) (by omega) hY hk hext (lv_sub hl [0, 1, 2, 4, 5] rfl) hP hD hS hF
  have hF : (F_As_fork_7 t x1 100 (-1 : Int32) (0 : Int32) (1 : Int32) v0 f0 u0 la0) = some RES := hF
  refine lv_iconst (v := (-1 : Int32)) hx hb d_As_fork_0 (by decide) ?_
  refine lv_istore_n (lv' := [(2, .int (-1 : Int32)), (0, .ref (g 91)), (1, .int x1)]) hx hb d_As_fork_1 rfl hl (Nat.le_of_ble_eq_true rfl) rfl (fun ls hl => ?_)
  have hl : lv_has ls 6 [(0, .ref (g 91)), (1, .int x1), (2, .int (-1 : Int32))] := lv_sub hl [1, 2, 0] rfl
  refine lv_iconst (v := (0 : Int32)) hx hb d_As_fork_2 (by decide) ?_
  refine lv_istore_n (lv' := [(3, .int (0 : Int32)), (0, .ref (g 91)), (1, .int x1), (2, .int (-1 : Int32))]) hx hb d_As_fork_3 rfl hl (Nat.le_of_ble_eq_true rfl) rfl (fun ls hl => ?_)
  have hl : lv_has ls 6 [(0, .ref (g 91)), (1, .int x1), (2, .int (-1 : Int32)), (3, .int (0 : Int32))] := lv_sub hl [1, 2, 3, 0] rfl
  refine lv_iconst (v := (1 : Int32)) hx hb d_As_fork_4 (by decide) ?_
  refine lv_istore (lv' := [(4, .int (1 : Int32)), (0, .ref (g 91)), (1, .int x1), (2, .int (-1 : Int32)), (3, .int (0 : Int32))]) hx hb d_As_fork_5 hl (Nat.le_of_ble_eq_true rfl) rfl (fun ls hl => ?_)
  have hl : lv_has ls 6 [(0, .ref (g 91)), (1, .int x1), (2, .int (-1 : Int32)), (3, .int (0 : Int32)), (4, .int (1 : Int32))] := lv_sub hl [1, 2, 3, 4, 0] rfl
  exact K7 100 ls _ _ (0) (0) K0 (-1 : Int32) (0 : Int32) (1 : Int32) v0 f0 u0 la0 (by omega) (by omega) hY hk hext (lv_sub hl [0, 1, 2, 3, 4] rfl) hP hD hS hF
abbrev b_As_stop : ByteArray := prog_2_method_9_code
abbrev y_As_stop : MethodName := { cls := "DelayMachine$Assembler", name := "stop", desc := "()V" }
theorem d_As_stop_0 : decode b_As_stop 0 = .ok (.aload_n 0, 1) := by decide +kernel
theorem d_As_stop_1 : decode b_As_stop 1 = .ok (.iconst 0, 1) := by decide +kernel
theorem d_As_stop_2 : decode b_As_stop 2 = .ok (.iconst 1, 1) := by decide +kernel
theorem d_As_stop_3 : decode b_As_stop 3 = .ok (.iconst (-1), 1) := by decide +kernel
theorem d_As_stop_4 : decode b_As_stop 4 = .ok (.invokevirtual 95, 3) := by decide +kernel
theorem d_As_stop_7 : decode b_As_stop 7 = .ok (.astore_n 1, 1) := by decide +kernel
theorem d_As_stop_8 : decode b_As_stop 8 = .ok (.aload_n 1, 1) := by decide +kernel
theorem d_As_stop_9 : decode b_As_stop 9 = .ok (.ifnonnull (4), 3) := by decide +kernel
theorem d_As_stop_12 : decode b_As_stop 12 = .ok (.return_, 1) := by decide +kernel
theorem d_As_stop_13 : decode b_As_stop 13 = .ok (.aload_n 1, 1) := by decide +kernel
theorem d_As_stop_14 : decode b_As_stop 14 = .ok (.dup, 1) := by decide +kernel
theorem d_As_stop_15 : decode b_As_stop 15 = .ok (.getfield 98, 3) := by decide +kernel
theorem d_As_stop_18 : decode b_As_stop 18 = .ok (.ldc 101, 2) := by decide +kernel
theorem d_As_stop_20 : decode b_As_stop 20 = .ok (.ior, 1) := by decide +kernel
theorem d_As_stop_21 : decode b_As_stop 21 = .ok (.putfield 98, 3) := by decide +kernel
theorem d_As_stop_24 : decode b_As_stop 24 = .ok (.aload_n 0, 1) := by decide +kernel
theorem d_As_stop_25 : decode b_As_stop 25 = .ok (.aconst_null, 1) := by decide +kernel
theorem d_As_stop_26 : decode b_As_stop 26 = .ok (.putfield 64, 3) := by decide +kernel
theorem d_As_stop_29 : decode b_As_stop 29 = .ok (.return_, 1) := by decide +kernel
theorem hd_As_stop : y_As_stop.cls ≠ "java/lang/invoke/MethodHandle" ∧ y_As_stop.cls ≠ "java/lang/invoke/VarHandle" ∧ (parseMethodDescriptor y_As_stop.desc).map (fun d => d.parameters.length) = some 0 := by decide +kernel
abbrev rm_As_stop : Room := { frames := 9, cells := 2, slots := 105, locals := 301 }
def F_As_stop (t : Nat → Nat → Int32)  (v0 : Nat → Int32) (f0 : Nat → Nat → Int32) (u0 : Nat → Nat → Int32) (la0 : Nat → Option Nat) : Option ((Nat → Int32) × (Nat → Nat → Int32) × (Nat → Nat → Int32) × (Nat → Option Nat)) := (Option.bind (F_As_place t  (0 : Int32) (1 : Int32) (-1 : Int32) v0 f0 u0 la0) (fun z1 => (dm_oc z1.1 (some (z1.2.1, z1.2.2.1, z1.2.2.2.1, z1.2.2.2.2)) (fun iz2 => (if (z1.2.1 20).toNatClampNeg ≤ iz2 then none else (if (z1.2.1 20).toNatClampNeg ≤ iz2 then none else (some (z1.2.1, z1.2.2.1, (va_up z1.2.2.2.1 iz2 (va_up (z1.2.2.2.1 iz2) 2 ((z1.2.2.2.1 iz2 2) ||| (1015808 : Int32)))), (va_up z1.2.2.2.2 0 none)))))))))
set_option maxHeartbeats 4000000 in
set_option maxRecDepth 100000 in
theorem c_As_stop (l : Launch) (G : dm_G) (g : Nat → Nat) (Y : aK) (t : Nat → Nat → Int32) (T : va_W) (K0 : aK) (v0 : Nat → Int32) (f0 : Nat → Nat → Int32) (u0 : Nat → Nat → Int32) (la0 : Nat → Option Nat) (RES : (Nat → Int32) × (Nat → Nat → Int32) × (Nat → Nat → Int32) × (Nat → Option Nat)) (hY : okA G Y (v0 21)) (hk : okA G K0 (v0 20)) (hF : F_As_stop t v0 f0 u0 la0 = some RES) : dm_Ct l y_As_stop b_As_stop 2 none rm_As_stop G (aw G g Y t T K0 v0 f0 u0 la0) [.ref (g 91)] (fun ov w' => ∃ K' : aK, okA G Y (RES.1 21) ∧ okA G K' (RES.1 20) ∧ extP K0 K' (v0 20) (RES.1 20) ∧ ov = none ∧ w' = (aw G g Y t T K' RES.1 RES.2.1 RES.2.2.1 RES.2.2.2)) := by
  refine dm_Ct.of (by decide +kernel) (Nat.le_of_ble_eq_true rfl) ?_
  intro p e s m below meth c A ls B hl hP hD hS
  have hx := B.1
  have hb := B.2.1
  have hl : lv_has ls 2 [(0, .ref (g 91))] := hl
  have hext : extP K0 K0 (v0 20) (v0 20) := extP.rf
  have hF : (Option.bind (F_As_place t  (0 : Int32) (1 : Int32) (-1 : Int32) v0 f0 u0 la0) (fun z1 => (dm_oc z1.1 (some (z1.2.1, z1.2.2.1, z1.2.2.2.1, z1.2.2.2.2)) (fun iz2 => (if (z1.2.1 20).toNatClampNeg ≤ iz2 then none else (if (z1.2.1 20).toNatClampNeg ≤ iz2 then none else (some (z1.2.1, z1.2.2.1, (va_up z1.2.2.2.1 iz2 (va_up (z1.2.2.2.1 iz2) 2 ((z1.2.2.2.1 iz2 2) ||| (1015808 : Int32)))), (va_up z1.2.2.2.2 0 none))))))))) = some RES := hF
  refine lv_aload_n hx hb d_As_stop_0 rfl (lv_at hl 0 rfl) ?_
  refine lv_iconst (v := (0 : Int32)) hx hb d_As_stop_1 (by decide) ?_
  refine lv_iconst (v := (1 : Int32)) hx hb d_As_stop_2 (by decide) ?_
  refine lv_iconst (v := (-1 : Int32)) hx hb d_As_stop_3 (by decide) ?_
  obtain ⟨z1, hcz1, hF⟩ := dm_bind hF
  refine dm_callVw B [.int (0 : Int32), .int (1 : Int32), .int (-1 : Int32)] (c_As_place l G g Y t T K0  (0 : Int32) (1 : Int32) (-1 : Int32) v0 f0 u0 la0 z1 hY hk hcz1) k_630 k_632 ks_9 k_10 k_633 hd_As_place rfl ⟨by decide, by decide⟩ 0 rfl rfl hP hD hS hl.1 (rest := []) rfl (Nat.le_of_ble_eq_true rfl) d_As_stop_4 ⟨(by show 0 + 2 ≤ 2; omega), (by show 0 + 105 ≤ 105; omega)⟩ (fun ov w' H locs hq hP hD hS => ?_)
  obtain ⟨Kz1, hY, hk, hxz1, rfl, rfl⟩ := hq
  have hext := hext.tr hxz1
  have hP : va_P G.1 dm_cl (aw G g Y t T Kz1 z1.2.1 z1.2.2.1 z1.2.2.2.1 z1.2.2.2.2) H := hP
  have hD : va_D A (aw G g Y t T Kz1 z1.2.1 z1.2.2.1 z1.2.2.2.1 z1.2.2.2.2) := hD
  refine W.eq (g2 := F0 m 7 ls [va_rf (Option.map Kz1.2.2.2 z1.1)]) rfl ?_
  refine dm_osp (o := z1.1) (fun hoz2 => ?_) (fun iz2 hoz2 => ?_)
  · rw [dm_ocn hoz2] at hF
    refine W.eq (g2 := F0 m 7 ls [.null]) (by rw [hoz2]; rfl) ?_
    refine lv_astore_nN (lv' := [(1, .null), (0, .ref (g 91))]) hx hb d_As_stop_7 rfl hl (Nat.le_of_ble_eq_true rfl) rfl (fun ls hl => ?_)
    have hl : lv_has ls 2 [(0, .ref (g 91)), (1, .null)] := lv_sub hl [1, 0] rfl
    refine lv_aload_nN hx hb d_As_stop_8 rfl (lv_at hl 1 rfl) ?_
    refine lv_ifnonnullN hx hb d_As_stop_9 ?_
    have hF := Option.some.inj hF
    subst hF
    exact dm_retv B d_As_stop_12 (by show 0 + 2 ≤ 2; omega) (by show 0 + 105 ≤ 105; omega) hP hD hS ⟨Kz1, hY, hk, hext, rfl, rfl⟩
  · rw [dm_ocs hoz2] at hF
    refine W.eq (g2 := F0 m 7 ls [.ref (Kz1.2.2.2 iz2)]) (by rw [hoz2]; rfl) ?_
    refine lv_astore_n (lv' := [(1, .ref (Kz1.2.2.2 iz2)), (0, .ref (g 91))]) hx hb d_As_stop_7 rfl hl (Nat.le_of_ble_eq_true rfl) rfl (fun ls hl => ?_)
    have hl : lv_has ls 2 [(0, .ref (g 91)), (1, .ref (Kz1.2.2.2 iz2))] := lv_sub hl [1, 0] rfl
    refine lv_aload_n hx hb d_As_stop_8 rfl (lv_at hl 1 rfl) ?_
    refine lv_ifnonnull (tgt := 13) hx hb d_As_stop_9 (by decide) ?_
    refine lv_aload_n hx hb d_As_stop_13 rfl (lv_at hl 1 rfl) ?_
    refine lv_dup hx hb d_As_stop_14 rfl ?_
    obtain ⟨hi, hF⟩ := dm_chk hF
    refine aw_gln_2 (i := iz2) (x := (z1.2.2.2.1 iz2 2)) B hP hi rfl k_657 d_As_stop_15 ?_
    refine dm_ldc B k_705 d_As_stop_18 ?_
    refine lv_ior hx hb d_As_stop_20 ?_
    obtain ⟨hi, hF⟩ := dm_chk hF
    refine aw_pln_2 (i := iz2) (x := ((z1.2.2.2.1 iz2 2) ||| (1015808 : Int32))) B hP hD hS hi k_657 d_As_stop_21 (fun H locs hP hD hS => ?_)
    refine lv_aload_n hx hb d_As_stop_24 rfl (lv_at hl 0 rfl) ?_
    refine lv_null hx hb d_As_stop_25 ?_
    refine aw_pz_0_10 B hP hD hS k_298 d_As_stop_26 (fun H locs hP hD hS => ?_)
    have hF := Option.some.inj hF
    subst hF
    exact dm_retv B d_As_stop_29 (by show 0 + 2 ≤ 2; omega) (by show 0 + 105 ≤ 105; omega) hP hD hS ⟨Kz1, hY, hk, hext, rfl, rfl⟩
abbrev b_As_lay : ByteArray := prog_2_method_10_code
abbrev y_As_lay : MethodName := { cls := "DelayMachine$Assembler", name := "lay", desc := "(LDelayMachine$Statement;)V" }
theorem d_As_lay_0 : decode b_As_lay 0 = .ok (.aload_n 1, 1) := by decide +kernel
theorem d_As_lay_1 : decode b_As_lay 1 = .ok (.invokevirtual 102, 3) := by decide +kernel
theorem d_As_lay_4 : decode b_As_lay 4 = .ok (.tableswitch (171) (0) (5) #[40, 40, 91, 118, 133, 156], 40) := by decide +kernel
theorem d_As_lay_44 : decode b_As_lay 44 = .ok (.aload_n 0, 1) := by decide +kernel
theorem d_As_lay_45 : decode b_As_lay 45 = .ok (.iconst 2, 1) := by decide +kernel
theorem d_As_lay_46 : decode b_As_lay 46 = .ok (.bipush (6), 2) := by decide +kernel
theorem d_As_lay_48 : decode b_As_lay 48 = .ok (.aload_n 1, 1) := by decide +kernel
theorem d_As_lay_49 : decode b_As_lay 49 = .ok (.invokevirtual 107, 3) := by decide +kernel
theorem d_As_lay_52 : decode b_As_lay 52 = .ok (.invokevirtual 95, 3) := by decide +kernel
theorem d_As_lay_55 : decode b_As_lay 55 = .ok (.pop, 1) := by decide +kernel
theorem d_As_lay_56 : decode b_As_lay 56 = .ok (.aload_n 0, 1) := by decide +kernel
theorem d_As_lay_57 : decode b_As_lay 57 = .ok (.iconst 2, 1) := by decide +kernel
theorem d_As_lay_58 : decode b_As_lay 58 = .ok (.aload_n 1, 1) := by decide +kernel
theorem d_As_lay_59 : decode b_As_lay 59 = .ok (.invokevirtual 102, 3) := by decide +kernel
theorem d_As_lay_62 : decode b_As_lay 62 = .ok (.ifCond .ne (8), 3) := by decide +kernel
theorem d_As_lay_65 : decode b_As_lay 65 = .ok (.bipush (9), 2) := by decide +kernel
theorem d_As_lay_67 : decode b_As_lay 67 = .ok (.goto (5), 3) := by decide +kernel
theorem d_As_lay_70 : decode b_As_lay 70 = .ok (.bipush (10), 2) := by decide +kernel
theorem d_As_lay_72 : decode b_As_lay 72 = .ok (.aload_n 1, 1) := by decide +kernel
theorem d_As_lay_73 : decode b_As_lay 73 = .ok (.invokevirtual 110, 3) := by decide +kernel
theorem d_As_lay_76 : decode b_As_lay 76 = .ok (.invokevirtual 95, 3) := by decide +kernel
theorem d_As_lay_79 : decode b_As_lay 79 = .ok (.pop, 1) := by decide +kernel
theorem d_As_lay_80 : decode b_As_lay 80 = .ok (.aload_n 0, 1) := by decide +kernel
theorem d_As_lay_81 : decode b_As_lay 81 = .ok (.bipush (6), 2) := by decide +kernel
theorem d_As_lay_83 : decode b_As_lay 83 = .ok (.iconst 2, 1) := by decide +kernel
theorem d_As_lay_84 : decode b_As_lay 84 = .ok (.aload_n 1, 1) := by decide +kernel
theorem d_As_lay_85 : decode b_As_lay 85 = .ok (.invokevirtual 113, 3) := by decide +kernel
theorem d_As_lay_88 : decode b_As_lay 88 = .ok (.invokevirtual 95, 3) := by decide +kernel
theorem d_As_lay_91 : decode b_As_lay 91 = .ok (.pop, 1) := by decide +kernel
theorem d_As_lay_92 : decode b_As_lay 92 = .ok (.goto (87), 3) := by decide +kernel
theorem d_As_lay_95 : decode b_As_lay 95 = .ok (.aload_n 0, 1) := by decide +kernel
theorem d_As_lay_96 : decode b_As_lay 96 = .ok (.iconst 2, 1) := by decide +kernel
theorem d_As_lay_97 : decode b_As_lay 97 = .ok (.bipush (6), 2) := by decide +kernel
theorem d_As_lay_99 : decode b_As_lay 99 = .ok (.aload_n 1, 1) := by decide +kernel
theorem d_As_lay_100 : decode b_As_lay 100 = .ok (.invokevirtual 107, 3) := by decide +kernel
theorem d_As_lay_103 : decode b_As_lay 103 = .ok (.invokevirtual 95, 3) := by decide +kernel
theorem d_As_lay_106 : decode b_As_lay 106 = .ok (.pop, 1) := by decide +kernel
theorem d_As_lay_107 : decode b_As_lay 107 = .ok (.aload_n 0, 1) := by decide +kernel
theorem d_As_lay_108 : decode b_As_lay 108 = .ok (.bipush (6), 2) := by decide +kernel
theorem d_As_lay_110 : decode b_As_lay 110 = .ok (.iconst 2, 1) := by decide +kernel
theorem d_As_lay_111 : decode b_As_lay 111 = .ok (.aload_n 1, 1) := by decide +kernel
theorem d_As_lay_112 : decode b_As_lay 112 = .ok (.invokevirtual 113, 3) := by decide +kernel
theorem d_As_lay_115 : decode b_As_lay 115 = .ok (.invokevirtual 95, 3) := by decide +kernel
theorem d_As_lay_118 : decode b_As_lay 118 = .ok (.pop, 1) := by decide +kernel
theorem d_As_lay_119 : decode b_As_lay 119 = .ok (.goto (60), 3) := by decide +kernel
theorem d_As_lay_122 : decode b_As_lay 122 = .ok (.aload_n 0, 1) := by decide +kernel
theorem d_As_lay_123 : decode b_As_lay 123 = .ok (.iconst 2, 1) := by decide +kernel
theorem d_As_lay_124 : decode b_As_lay 124 = .ok (.bipush (15), 2) := by decide +kernel
theorem d_As_lay_126 : decode b_As_lay 126 = .ok (.aload_n 1, 1) := by decide +kernel
theorem d_As_lay_127 : decode b_As_lay 127 = .ok (.invokevirtual 107, 3) := by decide +kernel
theorem d_As_lay_130 : decode b_As_lay 130 = .ok (.invokevirtual 95, 3) := by decide +kernel
theorem d_As_lay_133 : decode b_As_lay 133 = .ok (.pop, 1) := by decide +kernel
theorem d_As_lay_134 : decode b_As_lay 134 = .ok (.goto (45), 3) := by decide +kernel
theorem d_As_lay_137 : decode b_As_lay 137 = .ok (.aload_n 0, 1) := by decide +kernel
theorem d_As_lay_138 : decode b_As_lay 138 = .ok (.iconst 2, 1) := by decide +kernel
theorem d_As_lay_139 : decode b_As_lay 139 = .ok (.bipush (11), 2) := by decide +kernel
theorem d_As_lay_141 : decode b_As_lay 141 = .ok (.aload_n 1, 1) := by decide +kernel
theorem d_As_lay_142 : decode b_As_lay 142 = .ok (.invokevirtual 107, 3) := by decide +kernel
theorem d_As_lay_145 : decode b_As_lay 145 = .ok (.invokevirtual 95, 3) := by decide +kernel
theorem d_As_lay_148 : decode b_As_lay 148 = .ok (.pop, 1) := by decide +kernel
theorem d_As_lay_149 : decode b_As_lay 149 = .ok (.aload_n 0, 1) := by decide +kernel
theorem d_As_lay_150 : decode b_As_lay 150 = .ok (.aload_n 1, 1) := by decide +kernel
theorem d_As_lay_151 : decode b_As_lay 151 = .ok (.invokevirtual 116, 3) := by decide +kernel
theorem d_As_lay_154 : decode b_As_lay 154 = .ok (.invokevirtual 119, 3) := by decide +kernel
theorem d_As_lay_157 : decode b_As_lay 157 = .ok (.goto (22), 3) := by decide +kernel
theorem d_As_lay_160 : decode b_As_lay 160 = .ok (.aload_n 0, 1) := by decide +kernel
theorem d_As_lay_161 : decode b_As_lay 161 = .ok (.bipush (13), 2) := by decide +kernel
theorem d_As_lay_163 : decode b_As_lay 163 = .ok (.iconst 2, 1) := by decide +kernel
theorem d_As_lay_164 : decode b_As_lay 164 = .ok (.aload_n 1, 1) := by decide +kernel
theorem d_As_lay_165 : decode b_As_lay 165 = .ok (.invokevirtual 113, 3) := by decide +kernel
theorem d_As_lay_168 : decode b_As_lay 168 = .ok (.invokevirtual 95, 3) := by decide +kernel
theorem d_As_lay_171 : decode b_As_lay 171 = .ok (.pop, 1) := by decide +kernel
theorem d_As_lay_172 : decode b_As_lay 172 = .ok (.goto (7), 3) := by decide +kernel
theorem d_As_lay_175 : decode b_As_lay 175 = .ok (.aload_n 0, 1) := by decide +kernel
theorem d_As_lay_176 : decode b_As_lay 176 = .ok (.invokevirtual 123, 3) := by decide +kernel
theorem d_As_lay_179 : decode b_As_lay 179 = .ok (.return_, 1) := by decide +kernel
theorem hd_As_lay : y_As_lay.cls ≠ "java/lang/invoke/MethodHandle" ∧ y_As_lay.cls ≠ "java/lang/invoke/VarHandle" ∧ (parseMethodDescriptor y_As_lay.desc).map (fun d => d.parameters.length) = some 1 := by decide +kernel
abbrev rm_As_lay : Room := { frames := 10, cells := 6, slots := 315, locals := 322 }
def F_As_lay_72 (t : Nat → Nat → Int32) (ix : Nat)   (s2 : Int32) (v : Nat → Int32) (f : Nat → Nat → Int32) (u : Nat → Nat → Int32) (la : Nat → Option Nat) : Option ((Nat → Int32) × (Nat → Nat → Int32) × (Nat → Nat → Int32) × (Nat → Option Nat)) := (if (v 21).toNatClampNeg ≤ ix then none else (Option.bind (F_St_b t ix  v f u la) (fun z1 => (Option.bind (F_As_place t  (2 : Int32) s2 z1 v f u la) (fun z2 => (if (z2.2.1 21).toNatClampNeg ≤ ix then none else (Option.bind (F_St_c t ix  z2.2.1 z2.2.2.1 z2.2.2.2.1 z2.2.2.2.2) (fun z3 => (Option.bind (F_As_place t  (6 : Int32) (2 : Int32) z3 z2.2.1 z2.2.2.1 z2.2.2.2.1 z2.2.2.2.2) (fun z4 => (some (z4.2.1, z4.2.2.1, z4.2.2.2.1, z4.2.2.2.2))))))))))))
def F_As_lay (t : Nat → Nat → Int32) (ix : Nat)  (v0 : Nat → Int32) (f0 : Nat → Nat → Int32) (u0 : Nat → Nat → Int32) (la0 : Nat → Option Nat) : Option ((Nat → Int32) × (Nat → Nat → Int32) × (Nat → Nat → Int32) × (Nat → Option Nat)) := (if (v0 21).toNatClampNeg ≤ ix then none else (Option.bind (F_St_operation t ix  v0 f0 u0 la0) (fun z1 => (if z1 = (0 : Int32) then (if (v0 21).toNatClampNeg ≤ ix then none else (Option.bind (F_St_a t ix  v0 f0 u0 la0) (fun z2 => (Option.bind (F_As_place t  (2 : Int32) (6 : Int32) z2 v0 f0 u0 la0) (fun z3 => (if (z3.2.1 21).toNatClampNeg ≤ ix then none else (Option.bind (F_St_operation t ix  z3.2.1 z3.2.2.1 z3.2.2.2.1 z3.2.2.2.2) (fun z4 => (if z4 = (0 : Int32) then (F_As_lay_72 t ix (9 : Int32) z3.2.1 z3.2.2.1 z3.2.2.2.1 z3.2.2.2.2) else (F_As_lay_72 t ix (10 : Int32) z3.2.1 z3.2.2.1 z3.2.2.2.1 z3.2.2.2.2)))))))))) else (if z1 = (1 : Int32) then (if (v0 21).toNatClampNeg ≤ ix then none else (Option.bind (F_St_a t ix  v0 f0 u0 la0) (fun z5 => (Option.bind (F_As_place t  (2 : Int32) (6 : Int32) z5 v0 f0 u0 la0) (fun z6 => (if (z6.2.1 21).toNatClampNeg ≤ ix then none else (Option.bind (F_St_operation t ix  z6.2.1 z6.2.2.1 z6.2.2.2.1 z6.2.2.2.2) (fun z7 => (if z7 = (0 : Int32) then (F_As_lay_72 t ix (9 : Int32) z6.2.1 z6.2.2.1 z6.2.2.2.1 z6.2.2.2.2) else (F_As_lay_72 t ix (10 : Int32) z6.2.1 z6.2.2.1 z6.2.2.2.1 z6.2.2.2.2)))))))))) else (if z1 = (2 : Int32) then (if (v0 21).toNatClampNeg ≤ ix then none else (Option.bind (F_St_a t ix  v0 f0 u0 la0) (fun z8 => (Option.bind (F_As_place t  (2 : Int32) (6 : Int32) z8 v0 f0 u0 la0) (fun z9 => (if (z9.2.1 21).toNatClampNeg ≤ ix then none else (Option.bind (F_St_c t ix  z9.2.1 z9.2.2.1 z9.2.2.2.1 z9.2.2.2.2) (fun z10 => (Option.bind (F_As_place t  (6 : Int32) (2 : Int32) z10 z9.2.1 z9.2.2.1 z9.2.2.2.1 z9.2.2.2.2) (fun z11 => (some (z11.2.1, z11.2.2.1, z11.2.2.2.1, z11.2.2.2.2)))))))))))) else (if z1 = (3 : Int32) then (if (v0 21).toNatClampNeg ≤ ix then none else (Option.bind (F_St_a t ix  v0 f0 u0 la0) (fun z12 => (Option.bind (F_As_place t  (2 : Int32) (15 : Int32) z12 v0 f0 u0 la0) (fun z13 => (some (z13.2.1, z13.2.2.1, z13.2.2.2.1, z13.2.2.2.2))))))) else (if z1 = (4 : Int32) then (if (v0 21).toNatClampNeg ≤ ix then none else (Option.bind (F_St_a t ix  v0 f0 u0 la0) (fun z14 => (Option.bind (F_As_place t  (2 : Int32) (11 : Int32) z14 v0 f0 u0 la0) (fun z15 => (if (z15.2.1 21).toNatClampNeg ≤ ix then none else (Option.bind (F_St_go t ix  z15.2.1 z15.2.2.1 z15.2.2.2.1 z15.2.2.2.2) (fun z16 => (Option.bind (F_As_fork t  z16 z15.2.1 z15.2.2.1 z15.2.2.2.1 z15.2.2.2.2) (fun z17 => (some (z17.1, z17.2.1, z17.2.2.1, z17.2.2.2)))))))))))) else (if z1 = (5 : Int32) then (if (v0 21).toNatClampNeg ≤ ix then none else (Option.bind (F_St_c t ix  v0 f0 u0 la0) (fun z18 => (Option.bind (F_As_place t  (13 : Int32) (2 : Int32) z18 v0 f0 u0 la0) (fun z19 => (some (z19.2.1, z19.2.2.1, z19.2.2.2.1, z19.2.2.2.2))))))) else (Option.bind (F_As_stop t   v0 f0 u0 la0) (fun z20 => (some (z20.1, z20.2.1, z20.2.2.1, z20.2.2.2)))))))))))))
set_option maxHeartbeats 4000000 in
set_option maxRecDepth 100000 in
theorem c_As_lay (l : Launch) (G : dm_G) (g : Nat → Nat) (Y : aK) (t : Nat → Nat → Int32) (T : va_W) (K0 : aK) (ix : Nat) (v0 : Nat → Int32) (f0 : Nat → Nat → Int32) (u0 : Nat → Nat → Int32) (la0 : Nat → Option Nat) (RES : (Nat → Int32) × (Nat → Nat → Int32) × (Nat → Nat → Int32) × (Nat → Option Nat)) (hY : okA G Y (v0 21)) (hk : okA G K0 (v0 20)) (hF : F_As_lay t ix v0 f0 u0 la0 = some RES) : dm_Ct l y_As_lay b_As_lay 2 none rm_As_lay G (aw G g Y t T K0 v0 f0 u0 la0) [.ref (g 91), .ref (Y.2.2.2 ix)] (fun ov w' => ∃ K' : aK, okA G Y (RES.1 21) ∧ okA G K' (RES.1 20) ∧ extP K0 K' (v0 20) (RES.1 20) ∧ ov = none ∧ w' = (aw G g Y t T K' RES.1 RES.2.1 RES.2.2.1 RES.2.2.2)) := by
  refine dm_Ct.of (by decide +kernel) (Nat.le_of_ble_eq_true rfl) ?_
  intro p e s m below meth c A ls B hl hP hD hS
  have hx := B.1
  have hb := B.2.1
  have hl : lv_has ls 2 [(0, .ref (g 91)), (1, .ref (Y.2.2.2 ix))] := hl
  have hext : extP K0 K0 (v0 20) (v0 20) := extP.rf
  have K72 : ∀ (ls : Array Slot) (H : Heap) (locs : List Loc) (cc ss : Nat) (K : aK) (s2 : Int32) (v : Nat → Int32) (f : Nat → Nat → Int32) (u : Nat → Nat → Int32) (la : Nat → Option Nat), cc ≤ 2 → ss ≤ 105 → okA G Y (v 21) → okA G K (v 20) → extP K0 K (v0 20) (v 20) → lv_has ls 2 [(0, .ref (g 91)), (1, .ref (Y.2.2.2 ix))] → va_P G.1 dm_cl (aw G g Y t T K v f u la) H → va_D A (aw G g Y t T K v f u la) → va_S A s.heap H locs → F_As_lay_72 t ix s2 v f u la = some RES → W p l e rm_As_lay s m ([.ref (g 91), .ref (Y.2.2.2 ix)] : List Value).toArray below meth c H locs cc ss (dm_Z below G s ([.ref (g 91), .ref (Y.2.2.2 ix)] : List Value).toArray A rm_As_lay.cells rm_As_lay.slots (fun ov w' => ∃ K' : aK, okA G Y (RES.1 21) ∧ okA G K' (RES.1 20) ∧ extP K0 K' (v0 20) (RES.1 20) ∧ ov = none ∧ w' = (aw G g Y t T K' RES.1 RES.2.1 RES.2.2.1 RES.2.2.2))) (F0 m 72 ls [.int s2, .int (2 : Int32), .ref (g 91)]) := by
    intro ls H locs cc ss K s2 v f u la hcc hss hY hk hext hl hP hD hS hF
    have hF : (if (v 21).toNatClampNeg ≤ ix then none else (Option.bind (F_St_b t ix  v f u la) (fun z1 => (Option.bind (F_As_place t  (2 : Int32) s2 z1 v f u la) (fun z2 => (if (z2.2.1 21).toNatClampNeg ≤ ix then none else (Option.bind (F_St_c t ix  z2.2.1 z2.2.2.1 z2.2.2.2.1 z2.2.2.2.2) (fun z3 => (Option.bind (F_As_place t  (6 : Int32) (2 : Int32) z3 z2.2.1 z2.2.2.1 z2.2.2.2.1 z2.2.2.2.2) (fun z4 => (some (z4.2.1, z4.2.2.1, z4.2.2.2.1, z4.2.2.2.2)))))))))))) = some RES := hF
    refine lv_aload_n hx hb d_As_lay_72 rfl (lv_at hl 1 rfl) ?_
    obtain ⟨hrc, hF⟩ := dm_chk hF
    obtain ⟨z1, hcz1, hF⟩ := dm_bind hF
    obtain ⟨krz1, hkrz1⟩ := aw_ats (G := G) (g := g) (Y := Y) (t := t) (T := T) (K := K) (v := v) (f := f) (u := u) (la := la) (i := ix) (Nat.lt_of_not_le hrc)
    refine dm_callVw B [] (c_St_b l G g Y t T K ix  v f u la z1 hY hk hcz1) k_681 k_682 k_683 k_16 k_684 hd_St_b rfl ⟨by decide, by decide⟩ krz1 hkrz1 rfl hP hD hS hl.1 (rest := [.int s2, .int (2 : Int32), .ref (g 91)]) rfl (Nat.le_of_ble_eq_true rfl) d_As_lay_73 ⟨(by show cc + 0 ≤ 6; omega), (by show ss + 0 ≤ 315; omega)⟩ (fun ov w' H locs hq hP hD hS => ?_)
    obtain ⟨rfl, rfl⟩ := hq
    have hP : va_P G.1 dm_cl (aw G g Y t T K v f u la) H := hP
    have hD : va_D A (aw G g Y t T K v f u la) := hD
    refine W.eq (g2 := F0 m 76 ls [.int z1, .int s2, .int (2 : Int32), .ref (g 91)]) rfl ?_
    obtain ⟨z2, hcz2, hF⟩ := dm_bind hF
    refine dm_callVw B [.int (2 : Int32), .int s2, .int z1] (c_As_place l G g Y t T K  (2 : Int32) s2 z1 v f u la z2 hY hk hcz2) k_630 k_632 ks_9 k_10 k_633 hd_As_place rfl ⟨by decide, by decide⟩ 0 rfl rfl hP hD hS hl.1 (rest := []) rfl (Nat.le_of_ble_eq_true rfl) d_As_lay_76 ⟨(by show cc + 2 ≤ 6; omega), (by show ss + 105 ≤ 315; omega)⟩ (fun ov w' H locs hq hP hD hS => ?_)
    obtain ⟨Kz2, hY, hk, hxz2, rfl, rfl⟩ := hq
    have hext := hext.tr hxz2
    have hP : va_P G.1 dm_cl (aw G g Y t T Kz2 z2.2.1 z2.2.2.1 z2.2.2.2.1 z2.2.2.2.2) H := hP
    have hD : va_D A (aw G g Y t T Kz2 z2.2.1 z2.2.2.1 z2.2.2.2.1 z2.2.2.2.2) := hD
    refine W.eq (g2 := F0 m 79 ls [va_rf (Option.map Kz2.2.2.2 z2.1)]) rfl ?_
    refine lv_pop hx hb d_As_lay_79 (dm_rfc _) ?_
    refine lv_aload_n hx hb d_As_lay_80 rfl (lv_at hl 0 rfl) ?_
    refine lv_bipush (v := (6 : Int32)) hx hb d_As_lay_81 (by decide) ?_
    refine lv_iconst (v := (2 : Int32)) hx hb d_As_lay_83 (by decide) ?_
    refine lv_aload_n hx hb d_As_lay_84 rfl (lv_at hl 1 rfl) ?_
    obtain ⟨hrc, hF⟩ := dm_chk hF
    obtain ⟨z3, hcz3, hF⟩ := dm_bind hF
    obtain ⟨krz3, hkrz3⟩ := aw_ats (G := G) (g := g) (Y := Y) (t := t) (T := T) (K := Kz2) (v := z2.2.1) (f := z2.2.2.1) (u := z2.2.2.2.1) (la := z2.2.2.2.2) (i := ix) (Nat.lt_of_not_le hrc)
    refine dm_callVw B [] (c_St_c l G g Y t T Kz2 ix  z2.2.1 z2.2.2.1 z2.2.2.2.1 z2.2.2.2.2 z3 hY hk hcz3) k_685 k_686 k_687 k_16 k_688 hd_St_c rfl ⟨by decide, by decide⟩ krz3 hkrz3 rfl hP hD hS hl.1 (rest := [.int (2 : Int32), .int (6 : Int32), .ref (g 91)]) rfl (Nat.le_of_ble_eq_true rfl) d_As_lay_85 ⟨(by show cc + 2 + 0 ≤ 6; omega), (by show ss + 105 + 0 ≤ 315; omega)⟩ (fun ov w' H locs hq hP hD hS => ?_)
    obtain ⟨rfl, rfl⟩ := hq
    have hP : va_P G.1 dm_cl (aw G g Y t T Kz2 z2.2.1 z2.2.2.1 z2.2.2.2.1 z2.2.2.2.2) H := hP
    have hD : va_D A (aw G g Y t T Kz2 z2.2.1 z2.2.2.1 z2.2.2.2.1 z2.2.2.2.2) := hD
    refine W.eq (g2 := F0 m 88 ls [.int z3, .int (2 : Int32), .int (6 : Int32), .ref (g 91)]) rfl ?_
    obtain ⟨z4, hcz4, hF⟩ := dm_bind hF
    refine dm_callVw B [.int (6 : Int32), .int (2 : Int32), .int z3] (c_As_place l G g Y t T Kz2  (6 : Int32) (2 : Int32) z3 z2.2.1 z2.2.2.1 z2.2.2.2.1 z2.2.2.2.2 z4 hY hk hcz4) k_630 k_632 ks_9 k_10 k_633 hd_As_place rfl ⟨by decide, by decide⟩ 0 rfl rfl hP hD hS hl.1 (rest := []) rfl (Nat.le_of_ble_eq_true rfl) d_As_lay_88 ⟨(by show cc + 2 + 2 ≤ 6; omega), (by show ss + 105 + 105 ≤ 315; omega)⟩ (fun ov w' H locs hq hP hD hS => ?_)
    obtain ⟨Kz4, hY, hk, hxz4, rfl, rfl⟩ := hq
    have hext := hext.tr hxz4
    have hP : va_P G.1 dm_cl (aw G g Y t T Kz4 z4.2.1 z4.2.2.1 z4.2.2.2.1 z4.2.2.2.2) H := hP
    have hD : va_D A (aw G g Y t T Kz4 z4.2.1 z4.2.2.1 z4.2.2.2.1 z4.2.2.2.2) := hD
    refine W.eq (g2 := F0 m 91 ls [va_rf (Option.map Kz4.2.2.2 z4.1)]) rfl ?_
    refine lv_pop hx hb d_As_lay_91 (dm_rfc _) ?_
    refine lv_goto (tgt := 179) hx hb d_As_lay_92 (by decide) ?_
    have hF := Option.some.inj hF
    subst hF
    exact dm_retv B d_As_lay_179 (by show cc + 2 + 2 ≤ 6; omega) (by show ss + 105 + 105 ≤ 315; omega) hP hD hS ⟨Kz4, hY, hk, hext, rfl, rfl⟩
  have hF : (if (v0 21).toNatClampNeg ≤ ix then none else (Option.bind (F_St_operation t ix  v0 f0 u0 la0) (fun z1 => (if z1 = (0 : Int32) then (if (v0 21).toNatClampNeg ≤ ix then none else (Option.bind (F_St_a t ix  v0 f0 u0 la0) (fun z2 => (Option.bind (F_As_place t  (2 : Int32) (6 : Int32) z2 v0 f0 u0 la0) (fun z3 => (if (z3.2.1 21).toNatClampNeg ≤ ix then none else (Option.bind (F_St_operation t ix  z3.2.1 z3.2.2.1 z3.2.2.2.1 z3.2.2.2.2) (fun z4 => (if z4 = (0 : Int32) then (F_As_lay_72 t ix (9 : Int32) z3.2.1 z3.2.2.1 z3.2.2.2.1 z3.2.2.2.2) else (F_As_lay_72 t ix (10 : Int32) z3.2.1 z3.2.2.1 z3.2.2.2.1 z3.2.2.2.2)))))))))) else (if z1 = (1 : Int32) then (if (v0 21).toNatClampNeg ≤ ix then none else (Option.bind (F_St_a t ix  v0 f0 u0 la0) (fun z5 => (Option.bind (F_As_place t  (2 : Int32) (6 : Int32) z5 v0 f0 u0 la0) (fun z6 => (if (z6.2.1 21).toNatClampNeg ≤ ix then none else (Option.bind (F_St_operation t ix  z6.2.1 z6.2.2.1 z6.2.2.2.1 z6.2.2.2.2) (fun z7 => (if z7 = (0 : Int32) then (F_As_lay_72 t ix (9 : Int32) z6.2.1 z6.2.2.1 z6.2.2.2.1 z6.2.2.2.2) else (F_As_lay_72 t ix (10 : Int32) z6.2.1 z6.2.2.1 z6.2.2.2.1 z6.2.2.2.2)))))))))) else (if z1 = (2 : Int32) then (if (v0 21).toNatClampNeg ≤ ix then none else (Option.bind (F_St_a t ix  v0 f0 u0 la0) (fun z8 => (Option.bind (F_As_place t  (2 : Int32) (6 : Int32) z8 v0 f0 u0 la0) (fun z9 => (if (z9.2.1 21).toNatClampNeg ≤ ix then none else (Option.bind (F_St_c t ix  z9.2.1 z9.2.2.1 z9.2.2.2.1 z9.2.2.2.2) (fun z10 => (Option.bind (F_As_place t  (6 : Int32) (2 : Int32) z10 z9.2.1 z9.2.2.1 z9.2.2.2.1 z9.2.2.2.2) (fun z11 => (some (z11.2.1, z11.2.2.1, z11.2.2.2.1, z11.2.2.2.2)))))))))))) else (if z1 = (3 : Int32) then (if (v0 21).toNatClampNeg ≤ ix then none else (Option.bind (F_St_a t ix  v0 f0 u0 la0) (fun z12 => (Option.bind (F_As_place t  (2 : Int32) (15 : Int32) z12 v0 f0 u0 la0) (fun z13 => (some (z13.2.1, z13.2.2.1, z13.2.2.2.1, z13.2.2.2.2))))))) else (if z1 = (4 : Int32) then (if (v0 21).toNatClampNeg ≤ ix then none else (Option.bind (F_St_a t ix  v0 f0 u0 la0) (fun z14 => (Option.bind (F_As_place t  (2 : Int32) (11 : Int32) z14 v0 f0 u0 la0) (fun z15 => (if (z15.2.1 21).toNatClampNeg ≤ ix then none else (Option.bind (F_St_go t ix  z15.2.1 z15.2.2.1 z15.2.2.2.1 z15.2.2.2.2) (fun z16 => (Option.bind (F_As_fork t  z16 z15.2.1 z15.2.2.1 z15.2.2.2.1 z15.2.2.2.2) (fun z17 => (some (z17.1, z17.2.1, z17.2.2.1, z17.2.2.2)))))))))))) else (if z1 = (5 : Int32) then (if (v0 21).toNatClampNeg ≤ ix then none else (Option.bind (F_St_c t ix  v0 f0 u0 la0) (fun z18 => (Option.bind (F_As_place t  (13 : Int32) (2 : Int32) z18 v0 f0 u0 la0) (fun z19 => (some (z19.2.1, z19.2.2.1, z19.2.2.2.1, z19.2.2.2.2))))))) else (Option.bind (F_As_stop t   v0 f0 u0 la0) (fun z20 => (some (z20.1, z20.2.1, z20.2.2.1, z20.2.2.2))))))))))))) = some RES := hF
  refine lv_aload_n hx hb d_As_lay_0 rfl (lv_at hl 1 rfl) ?_
  obtain ⟨hrc, hF⟩ := dm_chk hF
  obtain ⟨z1, hcz1, hF⟩ := dm_bind hF
  obtain ⟨krz1, hkrz1⟩ := aw_ats (G := G) (g := g) (Y := Y) (t := t) (T := T) (K := K0) (v := v0) (f := f0) (u := u0) (la := la0) (i := ix) (Nat.lt_of_not_le hrc)
  refine dm_callVw B [] (c_St_operation l G g Y t T K0 ix  v0 f0 u0 la0 z1 hY hk hcz1) k_622 k_623 k_624 k_16 k_625 hd_St_operation rfl ⟨by decide, by decide⟩ krz1 hkrz1 rfl hP hD hS hl.1 (rest := []) rfl (Nat.le_of_ble_eq_true rfl) d_As_lay_1 ⟨(by show 0 + 0 ≤ 6; omega), (by show 0 + 0 ≤ 315; omega)⟩ (fun ov w' H locs hq hP hD hS => ?_)
  obtain ⟨rfl, rfl⟩ := hq
  have hP : va_P G.1 dm_cl (aw G g Y t T K0 v0 f0 u0 la0) H := hP
  have hD : va_D A (aw G g Y t T K0 v0 f0 u0 la0) := hD
  refine W.eq (g2 := F0 m 4 ls [.int z1]) rfl ?_
  by_cases h0 : z1 = (0 : Int32)
  · rw [if_pos h0] at hF
    refine lv_tableIn (off := 40) (tgt := 44) hx hb d_As_lay_4 (by rw [h0]; decide) (by rw [h0]; decide) (by rw [h0]; rfl) (by decide) ?_
    refine lv_aload_n hx hb d_As_lay_44 rfl (lv_at hl 0 rfl) ?_
    refine lv_iconst (v := (2 : Int32)) hx hb d_As_lay_45 (by decide) ?_
    refine lv_bipush (v := (6 : Int32)) hx hb d_As_lay_46 (by decide) ?_
    refine lv_aload_n hx hb d_As_lay_48 rfl (lv_at hl 1 rfl) ?_
    obtain ⟨hrc, hF⟩ := dm_chk hF
    obtain ⟨z2, hcz2, hF⟩ := dm_bind hF
    obtain ⟨krz2, hkrz2⟩ := aw_ats (G := G) (g := g) (Y := Y) (t := t) (T := T) (K := K0) (v := v0) (f := f0) (u := u0) (la := la0) (i := ix) (Nat.lt_of_not_le hrc)
    refine dm_callVw B [] (c_St_a l G g Y t T K0 ix  v0 f0 u0 la0 z2 hY hk hcz2) k_626 k_627 k_628 k_16 k_629 hd_St_a rfl ⟨by decide, by decide⟩ krz2 hkrz2 rfl hP hD hS hl.1 (rest := [.int (6 : Int32), .int (2 : Int32), .ref (g 91)]) rfl (Nat.le_of_ble_eq_true rfl) d_As_lay_49 ⟨(by show 0 + 0 ≤ 6; omega), (by show 0 + 0 ≤ 315; omega)⟩ (fun ov w' H locs hq hP hD hS => ?_)
    obtain ⟨rfl, rfl⟩ := hq
    have hP : va_P G.1 dm_cl (aw G g Y t T K0 v0 f0 u0 la0) H := hP
    have hD : va_D A (aw G g Y t T K0 v0 f0 u0 la0) := hD
    refine W.eq (g2 := F0 m 52 ls [.int z2, .int (6 : Int32), .int (2 : Int32), .ref (g 91)]) rfl ?_
    obtain ⟨z3, hcz3, hF⟩ := dm_bind hF
    refine dm_callVw B [.int (2 : Int32), .int (6 : Int32), .int z2] (c_As_place l G g Y t T K0  (2 : Int32) (6 : Int32) z2 v0 f0 u0 la0 z3 hY hk hcz3) k_630 k_632 ks_9 k_10 k_633 hd_As_place rfl ⟨by decide, by decide⟩ 0 rfl rfl hP hD hS hl.1 (rest := []) rfl (Nat.le_of_ble_eq_true rfl) d_As_lay_52 ⟨(by show 0 + 2 ≤ 6; omega), (by show 0 + 105 ≤ 315; omega)⟩ (fun ov w' H locs hq hP hD hS => ?_)
    obtain ⟨Kz3, hY, hk, hxz3, rfl, rfl⟩ := hq
    have hext := hext.tr hxz3
    have hP : va_P G.1 dm_cl (aw G g Y t T Kz3 z3.2.1 z3.2.2.1 z3.2.2.2.1 z3.2.2.2.2) H := hP
    have hD : va_D A (aw G g Y t T Kz3 z3.2.1 z3.2.2.1 z3.2.2.2.1 z3.2.2.2.2) := hD
    refine W.eq (g2 := F0 m 55 ls [va_rf (Option.map Kz3.2.2.2 z3.1)]) rfl ?_
    refine lv_pop hx hb d_As_lay_55 (dm_rfc _) ?_
    refine lv_aload_n hx hb d_As_lay_56 rfl (lv_at hl 0 rfl) ?_
    refine lv_iconst (v := (2 : Int32)) hx hb d_As_lay_57 (by decide) ?_
    refine lv_aload_n hx hb d_As_lay_58 rfl (lv_at hl 1 rfl) ?_
    obtain ⟨hrc, hF⟩ := dm_chk hF
    obtain ⟨z4, hcz4, hF⟩ := dm_bind hF
    obtain ⟨krz4, hkrz4⟩ := aw_ats (G := G) (g := g) (Y := Y) (t := t) (T := T) (K := Kz3) (v := z3.2.1) (f := z3.2.2.1) (u := z3.2.2.2.1) (la := z3.2.2.2.2) (i := ix) (Nat.lt_of_not_le hrc)
    refine dm_callVw B [] (c_St_operation l G g Y t T Kz3 ix  z3.2.1 z3.2.2.1 z3.2.2.2.1 z3.2.2.2.2 z4 hY hk hcz4) k_622 k_623 k_624 k_16 k_625 hd_St_operation rfl ⟨by decide, by decide⟩ krz4 hkrz4 rfl hP hD hS hl.1 (rest := [.int (2 : Int32), .ref (g 91)]) rfl (Nat.le_of_ble_eq_true rfl) d_As_lay_59 ⟨(by show 0 + 2 + 0 ≤ 6; omega), (by show 0 + 105 + 0 ≤ 315; omega)⟩ (fun ov w' H locs hq hP hD hS => ?_)
    obtain ⟨rfl, rfl⟩ := hq
    have hP : va_P G.1 dm_cl (aw G g Y t T Kz3 z3.2.1 z3.2.2.1 z3.2.2.2.1 z3.2.2.2.2) H := hP
    have hD : va_D A (aw G g Y t T Kz3 z3.2.1 z3.2.2.1 z3.2.2.2.1 z3.2.2.2.2) := hD
    refine W.eq (g2 := F0 m 62 ls [.int z4, .int (2 : Int32), .ref (g 91)]) rfl ?_
    refine lv_if_ne (tgt := 70) hx hb d_As_lay_62 (by decide) (fun (hh : ¬ z4 = (0 : Int32)) => ?_) (fun (hh : z4 = (0 : Int32)) => ?_)
    · rw [if_neg hh] at hF
      refine lv_bipush (v := (10 : Int32)) hx hb d_As_lay_70 (by decide) ?_
      exact K72 ls _ _ (0 + 2) (0 + 105) Kz3 (10 : Int32) z3.2.1 z3.2.2.1 z3.2.2.2.1 z3.2.2.2.2 (by omega) (by omega) hY hk hext (lv_sub hl [0, 1] rfl) hP hD hS hF
    · rw [if_pos hh] at hF
      refine lv_bipush (v := (9 : Int32)) hx hb d_As_lay_65 (by decide) ?_
      refine lv_goto (tgt := 72) hx hb d_As_lay_67 (by decide) ?_
      exact K72 ls _ _ (0 + 2) (0 + 105) Kz3 (9 : Int32) z3.2.1 z3.2.2.1 z3.2.2.2.1 z3.2.2.2.2 (by omega) (by omega) hY hk hext (lv_sub hl [0, 1] rfl) hP hD hS hF
  rw [if_neg h0] at hF
  by_cases h1 : z1 = (1 : Int32)
  · rw [if_pos h1] at hF
    refine lv_tableIn (off := 40) (tgt := 44) hx hb d_As_lay_4 (by rw [h1]; decide) (by rw [h1]; decide) (by rw [h1]; rfl) (by decide) ?_
    refine lv_aload_n hx hb d_As_lay_44 rfl (lv_at hl 0 rfl) ?_
    refine lv_iconst (v := (2 : Int32)) hx hb d_As_lay_45 (by decide) ?_
    refine lv_bipush (v := (6 : Int32)) hx hb d_As_lay_46 (by decide) ?_
    refine lv_aload_n hx hb d_As_lay_48 rfl (lv_at hl 1 rfl) ?_
    obtain ⟨hrc, hF⟩ := dm_chk hF
    obtain ⟨z5, hcz5, hF⟩ := dm_bind hF
    obtain ⟨krz5, hkrz5⟩ := aw_ats (G := G) (g := g) (Y := Y) (t := t) (T := T) (K := K0) (v := v0) (f := f0) (u := u0) (la := la0) (i := ix) (Nat.lt_of_not_le hrc)
    refine dm_callVw B [] (c_St_a l G g Y t T K0 ix  v0 f0 u0 la0 z5 hY hk hcz5) k_626 k_627 k_628 k_16 k_629 hd_St_a rfl ⟨by decide, by decide⟩ krz5 hkrz5 rfl hP hD hS hl.1 (rest := [.int (6 : Int32), .int (2 : Int32), .ref (g 91)]) rfl (Nat.le_of_ble_eq_true rfl) d_As_lay_49 ⟨(by show 0 + 0 ≤ 6; omega), (by show 0 + 0 ≤ 315; omega)⟩ (fun ov w' H locs hq hP hD hS => ?_)
    obtain ⟨rfl, rfl⟩ := hq
    have hP : va_P G.1 dm_cl (aw G g Y t T K0 v0 f0 u0 la0) H := hP
    have hD : va_D A (aw G g Y t T K0 v0 f0 u0 la0) := hD
    refine W.eq (g2 := F0 m 52 ls [.int z5, .int (6 : Int32), .int (2 : Int32), .ref (g 91)]) rfl ?_
    obtain ⟨z6, hcz6, hF⟩ := dm_bind hF
    refine dm_callVw B [.int (2 : Int32), .int (6 : Int32), .int z5] (c_As_place l G g Y t T K0  (2 : Int32) (6 : Int32) z5 v0 f0 u0 la0 z6 hY hk hcz6) k_630 k_632 ks_9 k_10 k_633 hd_As_place rfl ⟨by decide, by decide⟩ 0 rfl rfl hP hD hS hl.1 (rest := []) rfl (Nat.le_of_ble_eq_true rfl) d_As_lay_52 ⟨(by show 0 + 2 ≤ 6; omega), (by show 0 + 105 ≤ 315; omega)⟩ (fun ov w' H locs hq hP hD hS => ?_)
    obtain ⟨Kz6, hY, hk, hxz6, rfl, rfl⟩ := hq
    have hext := hext.tr hxz6
    have hP : va_P G.1 dm_cl (aw G g Y t T Kz6 z6.2.1 z6.2.2.1 z6.2.2.2.1 z6.2.2.2.2) H := hP
    have hD : va_D A (aw G g Y t T Kz6 z6.2.1 z6.2.2.1 z6.2.2.2.1 z6.2.2.2.2) := hD
    refine W.eq (g2 := F0 m 55 ls [va_rf (Option.map Kz6.2.2.2 z6.1)]) rfl ?_
    refine lv_pop hx hb d_As_lay_55 (dm_rfc _) ?_
    refine lv_aload_n hx hb d_As_lay_56 rfl (lv_at hl 0 rfl) ?_
    refine lv_iconst (v := (2 : Int32)) hx hb d_As_lay_57 (by decide) ?_
    refine lv_aload_n hx hb d_As_lay_58 rfl (lv_at hl 1 rfl) ?_
    obtain ⟨hrc, hF⟩ := dm_chk hF
    obtain ⟨z7, hcz7, hF⟩ := dm_bind hF
    obtain ⟨krz7, hkrz7⟩ := aw_ats (G := G) (g := g) (Y := Y) (t := t) (T := T) (K := Kz6) (v := z6.2.1) (f := z6.2.2.1) (u := z6.2.2.2.1) (la := z6.2.2.2.2) (i := ix) (Nat.lt_of_not_le hrc)
    refine dm_callVw B [] (c_St_operation l G g Y t T Kz6 ix  z6.2.1 z6.2.2.1 z6.2.2.2.1 z6.2.2.2.2 z7 hY hk hcz7) k_622 k_623 k_624 k_16 k_625 hd_St_operation rfl ⟨by decide, by decide⟩ krz7 hkrz7 rfl hP hD hS hl.1 (rest := [.int (2 : Int32), .ref (g 91)]) rfl (Nat.le_of_ble_eq_true rfl) d_As_lay_59 ⟨(by show 0 + 2 + 0 ≤ 6; omega), (by show 0 + 105 + 0 ≤ 315; omega)⟩ (fun ov w' H locs hq hP hD hS => ?_)
    obtain ⟨rfl, rfl⟩ := hq
    have hP : va_P G.1 dm_cl (aw G g Y t T Kz6 z6.2.1 z6.2.2.1 z6.2.2.2.1 z6.2.2.2.2) H := hP
    have hD : va_D A (aw G g Y t T Kz6 z6.2.1 z6.2.2.1 z6.2.2.2.1 z6.2.2.2.2) := hD
    refine W.eq (g2 := F0 m 62 ls [.int z7, .int (2 : Int32), .ref (g 91)]) rfl ?_
    refine lv_if_ne (tgt := 70) hx hb d_As_lay_62 (by decide) (fun (hh : ¬ z7 = (0 : Int32)) => ?_) (fun (hh : z7 = (0 : Int32)) => ?_)
    · rw [if_neg hh] at hF
      refine lv_bipush (v := (10 : Int32)) hx hb d_As_lay_70 (by decide) ?_
      exact K72 ls _ _ (0 + 2) (0 + 105) Kz6 (10 : Int32) z6.2.1 z6.2.2.1 z6.2.2.2.1 z6.2.2.2.2 (by omega) (by omega) hY hk hext (lv_sub hl [0, 1] rfl) hP hD hS hF
    · rw [if_pos hh] at hF
      refine lv_bipush (v := (9 : Int32)) hx hb d_As_lay_65 (by decide) ?_
      refine lv_goto (tgt := 72) hx hb d_As_lay_67 (by decide) ?_
      exact K72 ls _ _ (0 + 2) (0 + 105) Kz6 (9 : Int32) z6.2.1 z6.2.2.1 z6.2.2.2.1 z6.2.2.2.2 (by omega) (by omega) hY hk hext (lv_sub hl [0, 1] rfl) hP hD hS hF
  rw [if_neg h1] at hF
  by_cases h2 : z1 = (2 : Int32)
  · rw [if_pos h2] at hF
    refine lv_tableIn (off := 91) (tgt := 95) hx hb d_As_lay_4 (by rw [h2]; decide) (by rw [h2]; decide) (by rw [h2]; rfl) (by decide) ?_
    refine lv_aload_n hx hb d_As_lay_95 rfl (lv_at hl 0 rfl) ?_
    refine lv_iconst (v := (2 : Int32)) hx hb d_As_lay_96 (by decide) ?_
    refine lv_bipush (v := (6 : Int32)) hx hb d_As_lay_97 (by decide) ?_
    refine lv_aload_n hx hb d_As_lay_99 rfl (lv_at hl 1 rfl) ?_
    obtain ⟨hrc, hF⟩ := dm_chk hF
    obtain ⟨z8, hcz8, hF⟩ := dm_bind hF
    obtain ⟨krz8, hkrz8⟩ := aw_ats (G := G) (g := g) (Y := Y) (t := t) (T := T) (K := K0) (v := v0) (f := f0) (u := u0) (la := la0) (i := ix) (Nat.lt_of_not_le hrc)
    refine dm_callVw B [] (c_St_a l G g Y t T K0 ix  v0 f0 u0 la0 z8 hY hk hcz8) k_626 k_627 k_628 k_16 k_629 hd_St_a rfl ⟨by decide, by decide⟩ krz8 hkrz8 rfl hP hD hS hl.1 (rest := [.int (6 : Int32), .int (2 : Int32), .ref (g 91)]) rfl (Nat.le_of_ble_eq_true rfl) d_As_lay_100 ⟨(by show 0 + 0 ≤ 6; omega), (by show 0 + 0 ≤ 315; omega)⟩ (fun ov w' H locs hq hP hD hS => ?_)
    obtain ⟨rfl, rfl⟩ := hq
    have hP : va_P G.1 dm_cl (aw G g Y t T K0 v0 f0 u0 la0) H := hP
    have hD : va_D A (aw G g Y t T K0 v0 f0 u0 la0) := hD
    refine W.eq (g2 := F0 m 103 ls [.int z8, .int (6 : Int32), .int (2 : Int32), .ref (g 91)]) rfl ?_
    obtain ⟨z9, hcz9, hF⟩ := dm_bind hF
    refine dm_callVw B [.int (2 : Int32), .int (6 : Int32), .int z8] (c_As_place l G g Y t T K0  (2 : Int32) (6 : Int32) z8 v0 f0 u0 la0 z9 hY hk hcz9) k_630 k_632 ks_9 k_10 k_633 hd_As_place rfl ⟨by decide, by decide⟩ 0 rfl rfl hP hD hS hl.1 (rest := []) rfl (Nat.le_of_ble_eq_true rfl) d_As_lay_103 ⟨(by show 0 + 2 ≤ 6; omega), (by show 0 + 105 ≤ 315; omega)⟩ (fun ov w' H locs hq hP hD hS => ?_)
    obtain ⟨Kz9, hY, hk, hxz9, rfl, rfl⟩ := hq
    have hext := hext.tr hxz9
    have hP : va_P G.1 dm_cl (aw G g Y t T Kz9 z9.2.1 z9.2.2.1 z9.2.2.2.1 z9.2.2.2.2) H := hP
    have hD : va_D A (aw G g Y t T Kz9 z9.2.1 z9.2.2.1 z9.2.2.2.1 z9.2.2.2.2) := hD
    refine W.eq (g2 := F0 m 106 ls [va_rf (Option.map Kz9.2.2.2 z9.1)]) rfl ?_
    refine lv_pop hx hb d_As_lay_106 (dm_rfc _) ?_
    refine lv_aload_n hx hb d_As_lay_107 rfl (lv_at hl 0 rfl) ?_
    refine lv_bipush (v := (6 : Int32)) hx hb d_As_lay_108 (by decide) ?_
    refine lv_iconst (v := (2 : Int32)) hx hb d_As_lay_110 (by decide) ?_
    refine lv_aload_n hx hb d_As_lay_111 rfl (lv_at hl 1 rfl) ?_
    obtain ⟨hrc, hF⟩ := dm_chk hF
    obtain ⟨z10, hcz10, hF⟩ := dm_bind hF
    obtain ⟨krz10, hkrz10⟩ := aw_ats (G := G) (g := g) (Y := Y) (t := t) (T := T) (K := Kz9) (v := z9.2.1) (f := z9.2.2.1) (u := z9.2.2.2.1) (la := z9.2.2.2.2) (i := ix) (Nat.lt_of_not_le hrc)
    refine dm_callVw B [] (c_St_c l G g Y t T Kz9 ix  z9.2.1 z9.2.2.1 z9.2.2.2.1 z9.2.2.2.2 z10 hY hk hcz10) k_685 k_686 k_687 k_16 k_688 hd_St_c rfl ⟨by decide, by decide⟩ krz10 hkrz10 rfl hP hD hS hl.1 (rest := [.int (2 : Int32), .int (6 : Int32), .ref (g 91)]) rfl (Nat.le_of_ble_eq_true rfl) d_As_lay_112 ⟨(by show 0 + 2 + 0 ≤ 6; omega), (by show 0 + 105 + 0 ≤ 315; omega)⟩ (fun ov w' H locs hq hP hD hS => ?_)
    obtain ⟨rfl, rfl⟩ := hq
    have hP : va_P G.1 dm_cl (aw G g Y t T Kz9 z9.2.1 z9.2.2.1 z9.2.2.2.1 z9.2.2.2.2) H := hP
    have hD : va_D A (aw G g Y t T Kz9 z9.2.1 z9.2.2.1 z9.2.2.2.1 z9.2.2.2.2) := hD
    refine W.eq (g2 := F0 m 115 ls [.int z10, .int (2 : Int32), .int (6 : Int32), .ref (g 91)]) rfl ?_
    obtain ⟨z11, hcz11, hF⟩ := dm_bind hF
    refine dm_callVw B [.int (6 : Int32), .int (2 : Int32), .int z10] (c_As_place l G g Y t T Kz9  (6 : Int32) (2 : Int32) z10 z9.2.1 z9.2.2.1 z9.2.2.2.1 z9.2.2.2.2 z11 hY hk hcz11) k_630 k_632 ks_9 k_10 k_633 hd_As_place rfl ⟨by decide, by decide⟩ 0 rfl rfl hP hD hS hl.1 (rest := []) rfl (Nat.le_of_ble_eq_true rfl) d_As_lay_115 ⟨(by show 0 + 2 + 2 ≤ 6; omega), (by show 0 + 105 + 105 ≤ 315; omega)⟩ (fun ov w' H locs hq hP hD hS => ?_)
    obtain ⟨Kz11, hY, hk, hxz11, rfl, rfl⟩ := hq
    have hext := hext.tr hxz11
    have hP : va_P G.1 dm_cl (aw G g Y t T Kz11 z11.2.1 z11.2.2.1 z11.2.2.2.1 z11.2.2.2.2) H := hP
    have hD : va_D A (aw G g Y t T Kz11 z11.2.1 z11.2.2.1 z11.2.2.2.1 z11.2.2.2.2) := hD
    refine W.eq (g2 := F0 m 118 ls [va_rf (Option.map Kz11.2.2.2 z11.1)]) rfl ?_
    refine lv_pop hx hb d_As_lay_118 (dm_rfc _) ?_
    refine lv_goto (tgt := 179) hx hb d_As_lay_119 (by decide) ?_
    have hF := Option.some.inj hF
    subst hF
    exact dm_retv B d_As_lay_179 (by show 0 + 2 + 2 ≤ 6; omega) (by show 0 + 105 + 105 ≤ 315; omega) hP hD hS ⟨Kz11, hY, hk, hext, rfl, rfl⟩
  rw [if_neg h2] at hF
  by_cases h3 : z1 = (3 : Int32)
  · rw [if_pos h3] at hF
    refine lv_tableIn (off := 118) (tgt := 122) hx hb d_As_lay_4 (by rw [h3]; decide) (by rw [h3]; decide) (by rw [h3]; rfl) (by decide) ?_
    refine lv_aload_n hx hb d_As_lay_122 rfl (lv_at hl 0 rfl) ?_
    refine lv_iconst (v := (2 : Int32)) hx hb d_As_lay_123 (by decide) ?_
    refine lv_bipush (v := (15 : Int32)) hx hb d_As_lay_124 (by decide) ?_
    refine lv_aload_n hx hb d_As_lay_126 rfl (lv_at hl 1 rfl) ?_
    obtain ⟨hrc, hF⟩ := dm_chk hF
    obtain ⟨z12, hcz12, hF⟩ := dm_bind hF
    obtain ⟨krz12, hkrz12⟩ := aw_ats (G := G) (g := g) (Y := Y) (t := t) (T := T) (K := K0) (v := v0) (f := f0) (u := u0) (la := la0) (i := ix) (Nat.lt_of_not_le hrc)
    refine dm_callVw B [] (c_St_a l G g Y t T K0 ix  v0 f0 u0 la0 z12 hY hk hcz12) k_626 k_627 k_628 k_16 k_629 hd_St_a rfl ⟨by decide, by decide⟩ krz12 hkrz12 rfl hP hD hS hl.1 (rest := [.int (15 : Int32), .int (2 : Int32), .ref (g 91)]) rfl (Nat.le_of_ble_eq_true rfl) d_As_lay_127 ⟨(by show 0 + 0 ≤ 6; omega), (by show 0 + 0 ≤ 315; omega)⟩ (fun ov w' H locs hq hP hD hS => ?_)
    obtain ⟨rfl, rfl⟩ := hq
    have hP : va_P G.1 dm_cl (aw G g Y t T K0 v0 f0 u0 la0) H := hP
    have hD : va_D A (aw G g Y t T K0 v0 f0 u0 la0) := hD
    refine W.eq (g2 := F0 m 130 ls [.int z12, .int (15 : Int32), .int (2 : Int32), .ref (g 91)]) rfl ?_
    obtain ⟨z13, hcz13, hF⟩ := dm_bind hF
    refine dm_callVw B [.int (2 : Int32), .int (15 : Int32), .int z12] (c_As_place l G g Y t T K0  (2 : Int32) (15 : Int32) z12 v0 f0 u0 la0 z13 hY hk hcz13) k_630 k_632 ks_9 k_10 k_633 hd_As_place rfl ⟨by decide, by decide⟩ 0 rfl rfl hP hD hS hl.1 (rest := []) rfl (Nat.le_of_ble_eq_true rfl) d_As_lay_130 ⟨(by show 0 + 2 ≤ 6; omega), (by show 0 + 105 ≤ 315; omega)⟩ (fun ov w' H locs hq hP hD hS => ?_)
    obtain ⟨Kz13, hY, hk, hxz13, rfl, rfl⟩ := hq
    have hext := hext.tr hxz13
    have hP : va_P G.1 dm_cl (aw G g Y t T Kz13 z13.2.1 z13.2.2.1 z13.2.2.2.1 z13.2.2.2.2) H := hP
    have hD : va_D A (aw G g Y t T Kz13 z13.2.1 z13.2.2.1 z13.2.2.2.1 z13.2.2.2.2) := hD
    refine W.eq (g2 := F0 m 133 ls [va_rf (Option.map Kz13.2.2.2 z13.1)]) rfl ?_
    refine lv_pop hx hb d_As_lay_133 (dm_rfc _) ?_
    refine lv_goto (tgt := 179) hx hb d_As_lay_134 (by decide) ?_
    have hF := Option.some.inj hF
    subst hF
    exact dm_retv B d_As_lay_179 (by show 0 + 2 ≤ 6; omega) (by show 0 + 105 ≤ 315; omega) hP hD hS ⟨Kz13, hY, hk, hext, rfl, rfl⟩
  rw [if_neg h3] at hF
  by_cases h4 : z1 = (4 : Int32)
  · rw [if_pos h4] at hF
    refine lv_tableIn (off := 133) (tgt := 137) hx hb d_As_lay_4 (by rw [h4]; decide) (by rw [h4]; decide) (by rw [h4]; rfl) (by decide) ?_
    refine lv_aload_n hx hb d_As_lay_137 rfl (lv_at hl 0 rfl) ?_
    refine lv_iconst (v := (2 : Int32)) hx hb d_As_lay_138 (by decide) ?_
    refine lv_bipush (v := (11 : Int32)) hx hb d_As_lay_139 (by decide) ?_
    refine lv_aload_n hx hb d_As_lay_141 rfl (lv_at hl 1 rfl) ?_
    obtain ⟨hrc, hF⟩ := dm_chk hF
    obtain ⟨z14, hcz14, hF⟩ := dm_bind hF
    obtain ⟨krz14, hkrz14⟩ := aw_ats (G := G) (g := g) (Y := Y) (t := t) (T := T) (K := K0) (v := v0) (f := f0) (u := u0) (la := la0) (i := ix) (Nat.lt_of_not_le hrc)
    refine dm_callVw B [] (c_St_a l G g Y t T K0 ix  v0 f0 u0 la0 z14 hY hk hcz14) k_626 k_627 k_628 k_16 k_629 hd_St_a rfl ⟨by decide, by decide⟩ krz14 hkrz14 rfl hP hD hS hl.1 (rest := [.int (11 : Int32), .int (2 : Int32), .ref (g 91)]) rfl (Nat.le_of_ble_eq_true rfl) d_As_lay_142 ⟨(by show 0 + 0 ≤ 6; omega), (by show 0 + 0 ≤ 315; omega)⟩ (fun ov w' H locs hq hP hD hS => ?_)
    obtain ⟨rfl, rfl⟩ := hq
    have hP : va_P G.1 dm_cl (aw G g Y t T K0 v0 f0 u0 la0) H := hP
    have hD : va_D A (aw G g Y t T K0 v0 f0 u0 la0) := hD
    refine W.eq (g2 := F0 m 145 ls [.int z14, .int (11 : Int32), .int (2 : Int32), .ref (g 91)]) rfl ?_
    obtain ⟨z15, hcz15, hF⟩ := dm_bind hF
    refine dm_callVw B [.int (2 : Int32), .int (11 : Int32), .int z14] (c_As_place l G g Y t T K0  (2 : Int32) (11 : Int32) z14 v0 f0 u0 la0 z15 hY hk hcz15) k_630 k_632 ks_9 k_10 k_633 hd_As_place rfl ⟨by decide, by decide⟩ 0 rfl rfl hP hD hS hl.1 (rest := []) rfl (Nat.le_of_ble_eq_true rfl) d_As_lay_145 ⟨(by show 0 + 2 ≤ 6; omega), (by show 0 + 105 ≤ 315; omega)⟩ (fun ov w' H locs hq hP hD hS => ?_)
    obtain ⟨Kz15, hY, hk, hxz15, rfl, rfl⟩ := hq
    have hext := hext.tr hxz15
    have hP : va_P G.1 dm_cl (aw G g Y t T Kz15 z15.2.1 z15.2.2.1 z15.2.2.2.1 z15.2.2.2.2) H := hP
    have hD : va_D A (aw G g Y t T Kz15 z15.2.1 z15.2.2.1 z15.2.2.2.1 z15.2.2.2.2) := hD
    refine W.eq (g2 := F0 m 148 ls [va_rf (Option.map Kz15.2.2.2 z15.1)]) rfl ?_
    refine lv_pop hx hb d_As_lay_148 (dm_rfc _) ?_
    refine lv_aload_n hx hb d_As_lay_149 rfl (lv_at hl 0 rfl) ?_
    refine lv_aload_n hx hb d_As_lay_150 rfl (lv_at hl 1 rfl) ?_
    obtain ⟨hrc, hF⟩ := dm_chk hF
    obtain ⟨z16, hcz16, hF⟩ := dm_bind hF
    obtain ⟨krz16, hkrz16⟩ := aw_ats (G := G) (g := g) (Y := Y) (t := t) (T := T) (K := Kz15) (v := z15.2.1) (f := z15.2.2.1) (u := z15.2.2.2.1) (la := z15.2.2.2.2) (i := ix) (Nat.lt_of_not_le hrc)
    refine dm_callVw B [] (c_St_go l G g Y t T Kz15 ix  z15.2.1 z15.2.2.1 z15.2.2.2.1 z15.2.2.2.2 z16 hY hk hcz16) k_689 k_690 k_691 k_16 k_692 hd_St_go rfl ⟨by decide, by decide⟩ krz16 hkrz16 rfl hP hD hS hl.1 (rest := [.ref (g 91)]) rfl (Nat.le_of_ble_eq_true rfl) d_As_lay_151 ⟨(by show 0 + 2 + 0 ≤ 6; omega), (by show 0 + 105 + 0 ≤ 315; omega)⟩ (fun ov w' H locs hq hP hD hS => ?_)
    obtain ⟨rfl, rfl⟩ := hq
    have hP : va_P G.1 dm_cl (aw G g Y t T Kz15 z15.2.1 z15.2.2.1 z15.2.2.2.1 z15.2.2.2.2) H := hP
    have hD : va_D A (aw G g Y t T Kz15 z15.2.1 z15.2.2.1 z15.2.2.2.1 z15.2.2.2.2) := hD
    refine W.eq (g2 := F0 m 154 ls [.int z16, .ref (g 91)]) rfl ?_
    obtain ⟨z17, hcz17, hF⟩ := dm_bind hF
    refine dm_callVw B [.int z16] (c_As_fork l G g Y t T Kz15  z16 z15.2.1 z15.2.2.1 z15.2.2.2.1 z15.2.2.2.2 z17 hY hk hcz17) k_693 k_695 ks_13 k_10 k_696 hd_As_fork rfl ⟨by decide, by decide⟩ 0 rfl rfl hP hD hS hl.1 (rest := []) rfl (Nat.le_of_ble_eq_true rfl) d_As_lay_154 ⟨(by show 0 + 2 + 4 ≤ 6; omega), (by show 0 + 105 + 210 ≤ 315; omega)⟩ (fun ov w' H locs hq hP hD hS => ?_)
    obtain ⟨Kz17, hY, hk, hxz17, rfl, rfl⟩ := hq
    have hext := hext.tr hxz17
    have hP : va_P G.1 dm_cl (aw G g Y t T Kz17 z17.1 z17.2.1 z17.2.2.1 z17.2.2.2) H := hP
    have hD : va_D A (aw G g Y t T Kz17 z17.1 z17.2.1 z17.2.2.1 z17.2.2.2) := hD
    refine W.eq (g2 := F0 m 157 ls []) rfl ?_
    refine lv_goto (tgt := 179) hx hb d_As_lay_157 (by decide) ?_
    have hF := Option.some.inj hF
    subst hF
    exact dm_retv B d_As_lay_179 (by show 0 + 2 + 4 ≤ 6; omega) (by show 0 + 105 + 210 ≤ 315; omega) hP hD hS ⟨Kz17, hY, hk, hext, rfl, rfl⟩
  rw [if_neg h4] at hF
  by_cases h5 : z1 = (5 : Int32)
  · rw [if_pos h5] at hF
    refine lv_tableIn (off := 156) (tgt := 160) hx hb d_As_lay_4 (by rw [h5]; decide) (by rw [h5]; decide) (by rw [h5]; rfl) (by decide) ?_
    refine lv_aload_n hx hb d_As_lay_160 rfl (lv_at hl 0 rfl) ?_
    refine lv_bipush (v := (13 : Int32)) hx hb d_As_lay_161 (by decide) ?_
    refine lv_iconst (v := (2 : Int32)) hx hb d_As_lay_163 (by decide) ?_
    refine lv_aload_n hx hb d_As_lay_164 rfl (lv_at hl 1 rfl) ?_
    obtain ⟨hrc, hF⟩ := dm_chk hF
    obtain ⟨z18, hcz18, hF⟩ := dm_bind hF
    obtain ⟨krz18, hkrz18⟩ := aw_ats (G := G) (g := g) (Y := Y) (t := t) (T := T) (K := K0) (v := v0) (f := f0) (u := u0) (la := la0) (i := ix) (Nat.lt_of_not_le hrc)
    refine dm_callVw B [] (c_St_c l G g Y t T K0 ix  v0 f0 u0 la0 z18 hY hk hcz18) k_685 k_686 k_687 k_16 k_688 hd_St_c rfl ⟨by decide, by decide⟩ krz18 hkrz18 rfl hP hD hS hl.1 (rest := [.int (2 : Int32), .int (13 : Int32), .ref (g 91)]) rfl (Nat.le_of_ble_eq_true rfl) d_As_lay_165 ⟨(by show 0 + 0 ≤ 6; omega), (by show 0 + 0 ≤ 315; omega)⟩ (fun ov w' H locs hq hP hD hS => ?_)
    obtain ⟨rfl, rfl⟩ := hq
    have hP : va_P G.1 dm_cl (aw G g Y t T K0 v0 f0 u0 la0) H := hP
    have hD : va_D A (aw G g Y t T K0 v0 f0 u0 la0) := hD
    refine W.eq (g2 := F0 m 168 ls [.int z18, .int (2 : Int32), .int (13 : Int32), .ref (g 91)]) rfl ?_
    obtain ⟨z19, hcz19, hF⟩ := dm_bind hF
    refine dm_callVw B [.int (13 : Int32), .int (2 : Int32), .int z18] (c_As_place l G g Y t T K0  (13 : Int32) (2 : Int32) z18 v0 f0 u0 la0 z19 hY hk hcz19) k_630 k_632 ks_9 k_10 k_633 hd_As_place rfl ⟨by decide, by decide⟩ 0 rfl rfl hP hD hS hl.1 (rest := []) rfl (Nat.le_of_ble_eq_true rfl) d_As_lay_168 ⟨(by show 0 + 2 ≤ 6; omega), (by show 0 + 105 ≤ 315; omega)⟩ (fun ov w' H locs hq hP hD hS => ?_)
    obtain ⟨Kz19, hY, hk, hxz19, rfl, rfl⟩ := hq
    have hext := hext.tr hxz19
    have hP : va_P G.1 dm_cl (aw G g Y t T Kz19 z19.2.1 z19.2.2.1 z19.2.2.2.1 z19.2.2.2.2) H := hP
    have hD : va_D A (aw G g Y t T Kz19 z19.2.1 z19.2.2.1 z19.2.2.2.1 z19.2.2.2.2) := hD
    refine W.eq (g2 := F0 m 171 ls [va_rf (Option.map Kz19.2.2.2 z19.1)]) rfl ?_
    refine lv_pop hx hb d_As_lay_171 (dm_rfc _) ?_
    refine lv_goto (tgt := 179) hx hb d_As_lay_172 (by decide) ?_
    have hF := Option.some.inj hF
    subst hF
    exact dm_retv B d_As_lay_179 (by show 0 + 2 ≤ 6; omega) (by show 0 + 105 ≤ 315; omega) hP hD hS ⟨Kz19, hY, hk, hext, rfl, rfl⟩
  rw [if_neg h5] at hF
  have e0 := lv_neT (a := 0) h0 (by decide)
  have e1 := lv_neT (a := 1) h1 (by decide)
  have e2 := lv_neT (a := 2) h2 (by decide)
  have e3 := lv_neT (a := 3) h3 (by decide)
  have e4 := lv_neT (a := 4) h4 (by decide)
  have e5 := lv_neT (a := 5) h5 (by decide)
  refine lv_tableOut (tgt := 175) hx hb d_As_lay_4 (by omega) (by decide) ?_
  refine lv_aload_n hx hb d_As_lay_175 rfl (lv_at hl 0 rfl) ?_
  obtain ⟨z20, hcz20, hF⟩ := dm_bind hF
  refine dm_callVw B [] (c_As_stop l G g Y t T K0   v0 f0 u0 la0 z20 hY hk hcz20) k_701 k_703 ks_15 k_10 k_704 hd_As_stop rfl ⟨by decide, by decide⟩ 0 rfl rfl hP hD hS hl.1 (rest := []) rfl (Nat.le_of_ble_eq_true rfl) d_As_lay_176 ⟨(by show 0 + 2 ≤ 6; omega), (by show 0 + 105 ≤ 315; omega)⟩ (fun ov w' H locs hq hP hD hS => ?_)
  obtain ⟨Kz20, hY, hk, hxz20, rfl, rfl⟩ := hq
  have hext := hext.tr hxz20
  have hP : va_P G.1 dm_cl (aw G g Y t T Kz20 z20.1 z20.2.1 z20.2.2.1 z20.2.2.2) H := hP
  have hD : va_D A (aw G g Y t T Kz20 z20.1 z20.2.1 z20.2.2.1 z20.2.2.2) := hD
  refine W.eq (g2 := F0 m 179 ls []) rfl ?_
  have hF := Option.some.inj hF
  subst hF
  exact dm_retv B d_As_lay_179 (by show 0 + 2 ≤ 6; omega) (by show 0 + 105 ≤ 315; omega) hP hD hS ⟨Kz20, hY, hk, hext, rfl, rfl⟩
abbrev b_As_assemble : ByteArray := prog_2_method_11_code
abbrev y_As_assemble : MethodName := { cls := "DelayMachine$Assembler", name := "assemble", desc := "()I" }
theorem d_As_assemble_0 : decode b_As_assemble 0 = .ok (.aload_n 0, 1) := by decide +kernel
theorem d_As_assemble_1 : decode b_As_assemble 1 = .ok (.iconst 0, 1) := by decide +kernel
theorem d_As_assemble_2 : decode b_As_assemble 2 = .ok (.putfield 41, 3) := by decide +kernel
theorem d_As_assemble_5 : decode b_As_assemble 5 = .ok (.aload_n 0, 1) := by decide +kernel
theorem d_As_assemble_6 : decode b_As_assemble 6 = .ok (.iconst 0, 1) := by decide +kernel
theorem d_As_assemble_7 : decode b_As_assemble 7 = .ok (.putfield 72, 3) := by decide +kernel
theorem d_As_assemble_10 : decode b_As_assemble 10 = .ok (.aload_n 0, 1) := by decide +kernel
theorem d_As_assemble_11 : decode b_As_assemble 11 = .ok (.aload_n 0, 1) := by decide +kernel
theorem d_As_assemble_12 : decode b_As_assemble 12 = .ok (.getfield 12, 3) := by decide +kernel
theorem d_As_assemble_15 : decode b_As_assemble 15 = .ok (.invokevirtual 126, 3) := by decide +kernel
theorem d_As_assemble_18 : decode b_As_assemble 18 = .ok (.ifCond .ne (7), 3) := by decide +kernel
theorem d_As_assemble_21 : decode b_As_assemble 21 = .ok (.iconst 1, 1) := by decide +kernel
theorem d_As_assemble_22 : decode b_As_assemble 22 = .ok (.goto (4), 3) := by decide +kernel
theorem d_As_assemble_25 : decode b_As_assemble 25 = .ok (.iconst 0, 1) := by decide +kernel
theorem d_As_assemble_26 : decode b_As_assemble 26 = .ok (.putfield 78, 3) := by decide +kernel
theorem d_As_assemble_29 : decode b_As_assemble 29 = .ok (.aload_n 0, 1) := by decide +kernel
theorem d_As_assemble_30 : decode b_As_assemble 30 = .ok (.aconst_null, 1) := by decide +kernel
theorem d_As_assemble_31 : decode b_As_assemble 31 = .ok (.putfield 64, 3) := by decide +kernel
theorem d_As_assemble_34 : decode b_As_assemble 34 = .ok (.iconst 0, 1) := by decide +kernel
theorem d_As_assemble_35 : decode b_As_assemble 35 = .ok (.istore_n 1, 1) := by decide +kernel
theorem d_As_assemble_36 : decode b_As_assemble 36 = .ok (.iload_n 1, 1) := by decide +kernel
theorem d_As_assemble_37 : decode b_As_assemble 37 = .ok (.bipush (96), 2) := by decide +kernel
theorem d_As_assemble_39 : decode b_As_assemble 39 = .ok (.if_icmp .ge (16), 3) := by decide +kernel
theorem d_As_assemble_42 : decode b_As_assemble 42 = .ok (.aload_n 0, 1) := by decide +kernel
theorem d_As_assemble_43 : decode b_As_assemble 43 = .ok (.getfield 21, 3) := by decide +kernel
theorem d_As_assemble_46 : decode b_As_assemble 46 = .ok (.iload_n 1, 1) := by decide +kernel
theorem d_As_assemble_47 : decode b_As_assemble 47 = .ok (.iconst 0, 1) := by decide +kernel
theorem d_As_assemble_48 : decode b_As_assemble 48 = .ok (.bastore, 1) := by decide +kernel
theorem d_As_assemble_49 : decode b_As_assemble 49 = .ok (.iinc 1 (1), 3) := by decide +kernel
theorem d_As_assemble_52 : decode b_As_assemble 52 = .ok (.goto (-16), 3) := by decide +kernel
theorem d_As_assemble_55 : decode b_As_assemble 55 = .ok (.iconst 0, 1) := by decide +kernel
theorem d_As_assemble_56 : decode b_As_assemble 56 = .ok (.istore_n 1, 1) := by decide +kernel
theorem d_As_assemble_57 : decode b_As_assemble 57 = .ok (.iload_n 1, 1) := by decide +kernel
theorem d_As_assemble_58 : decode b_As_assemble 58 = .ok (.bipush (16), 2) := by decide +kernel
theorem d_As_assemble_60 : decode b_As_assemble 60 = .ok (.if_icmp .ge (16), 3) := by decide +kernel
theorem d_As_assemble_63 : decode b_As_assemble 63 = .ok (.aload_n 0, 1) := by decide +kernel
theorem d_As_assemble_64 : decode b_As_assemble 64 = .ok (.getfield 25, 3) := by decide +kernel
theorem d_As_assemble_67 : decode b_As_assemble 67 = .ok (.iload_n 1, 1) := by decide +kernel
theorem d_As_assemble_68 : decode b_As_assemble 68 = .ok (.iconst (-1), 1) := by decide +kernel
theorem d_As_assemble_69 : decode b_As_assemble 69 = .ok (.iastore, 1) := by decide +kernel
theorem d_As_assemble_70 : decode b_As_assemble 70 = .ok (.iinc 1 (1), 3) := by decide +kernel
theorem d_As_assemble_73 : decode b_As_assemble 73 = .ok (.goto (-16), 3) := by decide +kernel
theorem d_As_assemble_76 : decode b_As_assemble 76 = .ok (.iconst 0, 1) := by decide +kernel
theorem d_As_assemble_77 : decode b_As_assemble 77 = .ok (.istore_n 1, 1) := by decide +kernel
theorem d_As_assemble_78 : decode b_As_assemble 78 = .ok (.iload_n 1, 1) := by decide +kernel
theorem d_As_assemble_79 : decode b_As_assemble 79 = .ok (.aload_n 0, 1) := by decide +kernel
theorem d_As_assemble_80 : decode b_As_assemble 80 = .ok (.getfield 12, 3) := by decide +kernel
theorem d_As_assemble_83 : decode b_As_assemble 83 = .ok (.invokevirtual 45, 3) := by decide +kernel
theorem d_As_assemble_86 : decode b_As_assemble 86 = .ok (.if_icmp .ge (81), 3) := by decide +kernel
theorem d_As_assemble_89 : decode b_As_assemble 89 = .ok (.aload_n 0, 1) := by decide +kernel
theorem d_As_assemble_90 : decode b_As_assemble 90 = .ok (.getfield 78, 3) := by decide +kernel
theorem d_As_assemble_93 : decode b_As_assemble 93 = .ok (.ifCond .eq (74), 3) := by decide +kernel
theorem d_As_assemble_96 : decode b_As_assemble 96 = .ok (.aload_n 0, 1) := by decide +kernel
theorem d_As_assemble_97 : decode b_As_assemble 97 = .ok (.getfield 41, 3) := by decide +kernel
theorem d_As_assemble_100 : decode b_As_assemble 100 = .ok (.istore_n 2, 1) := by decide +kernel
theorem d_As_assemble_101 : decode b_As_assemble 101 = .ok (.aload_n 0, 1) := by decide +kernel
theorem d_As_assemble_102 : decode b_As_assemble 102 = .ok (.aload_n 0, 1) := by decide +kernel
theorem d_As_assemble_103 : decode b_As_assemble 103 = .ok (.getfield 12, 3) := by decide +kernel
theorem d_As_assemble_106 : decode b_As_assemble 106 = .ok (.iload_n 1, 1) := by decide +kernel
theorem d_As_assemble_107 : decode b_As_assemble 107 = .ok (.invokevirtual 56, 3) := by decide +kernel
theorem d_As_assemble_110 : decode b_As_assemble 110 = .ok (.checkcast 103, 3) := by decide +kernel
theorem d_As_assemble_113 : decode b_As_assemble 113 = .ok (.invokevirtual 130, 3) := by decide +kernel
theorem d_As_assemble_116 : decode b_As_assemble 116 = .ok (.aload_n 0, 1) := by decide +kernel
theorem d_As_assemble_117 : decode b_As_assemble 117 = .ok (.getfield 78, 3) := by decide +kernel
theorem d_As_assemble_120 : decode b_As_assemble 120 = .ok (.ifCond .eq (41), 3) := by decide +kernel
theorem d_As_assemble_123 : decode b_As_assemble 123 = .ok (.aload_n 0, 1) := by decide +kernel
theorem d_As_assemble_124 : decode b_As_assemble 124 = .ok (.getfield 29, 3) := by decide +kernel
theorem d_As_assemble_127 : decode b_As_assemble 127 = .ok (.iload_n 1, 1) := by decide +kernel
theorem d_As_assemble_128 : decode b_As_assemble 128 = .ok (.bipush (32), 2) := by decide +kernel
theorem d_As_assemble_130 : decode b_As_assemble 130 = .ok (.aload_n 0, 1) := by decide +kernel
theorem d_As_assemble_131 : decode b_As_assemble 131 = .ok (.getfield 18, 3) := by decide +kernel
theorem d_As_assemble_134 : decode b_As_assemble 134 = .ok (.iload_n 2, 1) := by decide +kernel
theorem d_As_assemble_135 : decode b_As_assemble 135 = .ok (.invokevirtual 56, 3) := by decide +kernel
theorem d_As_assemble_138 : decode b_As_assemble 138 = .ok (.checkcast 49, 3) := by decide +kernel
theorem d_As_assemble_141 : decode b_As_assemble 141 = .ok (.getfield 134, 3) := by decide +kernel
theorem d_As_assemble_144 : decode b_As_assemble 144 = .ok (.imul, 1) := by decide +kernel
theorem d_As_assemble_145 : decode b_As_assemble 145 = .ok (.aload_n 0, 1) := by decide +kernel
theorem d_As_assemble_146 : decode b_As_assemble 146 = .ok (.getfield 18, 3) := by decide +kernel
theorem d_As_assemble_149 : decode b_As_assemble 149 = .ok (.iload_n 2, 1) := by decide +kernel
theorem d_As_assemble_150 : decode b_As_assemble 150 = .ok (.invokevirtual 56, 3) := by decide +kernel
theorem d_As_assemble_153 : decode b_As_assemble 153 = .ok (.checkcast 49, 3) := by decide +kernel
theorem d_As_assemble_156 : decode b_As_assemble 156 = .ok (.getfield 137, 3) := by decide +kernel
theorem d_As_assemble_159 : decode b_As_assemble 159 = .ok (.iadd, 1) := by decide +kernel
theorem d_As_assemble_160 : decode b_As_assemble 160 = .ok (.iastore, 1) := by decide +kernel
theorem d_As_assemble_161 : decode b_As_assemble 161 = .ok (.iinc 1 (1), 3) := by decide +kernel
theorem d_As_assemble_164 : decode b_As_assemble 164 = .ok (.goto (-86), 3) := by decide +kernel
theorem d_As_assemble_167 : decode b_As_assemble 167 = .ok (.aload_n 0, 1) := by decide +kernel
theorem d_As_assemble_168 : decode b_As_assemble 168 = .ok (.getfield 78, 3) := by decide +kernel
theorem d_As_assemble_171 : decode b_As_assemble 171 = .ok (.ifCond .eq (14), 3) := by decide +kernel
theorem d_As_assemble_174 : decode b_As_assemble 174 = .ok (.aload_n 0, 1) := by decide +kernel
theorem d_As_assemble_175 : decode b_As_assemble 175 = .ok (.getfield 64, 3) := by decide +kernel
theorem d_As_assemble_178 : decode b_As_assemble 178 = .ok (.ifnull (7), 3) := by decide +kernel
theorem d_As_assemble_181 : decode b_As_assemble 181 = .ok (.aload_n 0, 1) := by decide +kernel
theorem d_As_assemble_182 : decode b_As_assemble 182 = .ok (.invokevirtual 123, 3) := by decide +kernel
theorem d_As_assemble_185 : decode b_As_assemble 185 = .ok (.iconst 0, 1) := by decide +kernel
theorem d_As_assemble_186 : decode b_As_assemble 186 = .ok (.istore_n 1, 1) := by decide +kernel
theorem d_As_assemble_187 : decode b_As_assemble 187 = .ok (.iload_n 1, 1) := by decide +kernel
theorem d_As_assemble_188 : decode b_As_assemble 188 = .ok (.aload_n 0, 1) := by decide +kernel
theorem d_As_assemble_189 : decode b_As_assemble 189 = .ok (.getfield 41, 3) := by decide +kernel
theorem d_As_assemble_192 : decode b_As_assemble 192 = .ok (.if_icmp .ge (85), 3) := by decide +kernel
theorem d_As_assemble_195 : decode b_As_assemble 195 = .ok (.aload_n 0, 1) := by decide +kernel
theorem d_As_assemble_196 : decode b_As_assemble 196 = .ok (.getfield 78, 3) := by decide +kernel
theorem d_As_assemble_199 : decode b_As_assemble 199 = .ok (.ifCond .eq (78), 3) := by decide +kernel
theorem d_As_assemble_202 : decode b_As_assemble 202 = .ok (.aload_n 0, 1) := by decide +kernel
theorem d_As_assemble_203 : decode b_As_assemble 203 = .ok (.getfield 18, 3) := by decide +kernel
theorem d_As_assemble_206 : decode b_As_assemble 206 = .ok (.iload_n 1, 1) := by decide +kernel
theorem d_As_assemble_207 : decode b_As_assemble 207 = .ok (.invokevirtual 56, 3) := by decide +kernel
theorem d_As_assemble_210 : decode b_As_assemble 210 = .ok (.checkcast 49, 3) := by decide +kernel
theorem d_As_assemble_213 : decode b_As_assemble 213 = .ok (.astore_n 2, 1) := by decide +kernel
theorem d_As_assemble_214 : decode b_As_assemble 214 = .ok (.aload_n 2, 1) := by decide +kernel
theorem d_As_assemble_215 : decode b_As_assemble 215 = .ok (.getfield 92, 3) := by decide +kernel
theorem d_As_assemble_218 : decode b_As_assemble 218 = .ok (.aload_n 0, 1) := by decide +kernel
theorem d_As_assemble_219 : decode b_As_assemble 219 = .ok (.getfield 12, 3) := by decide +kernel
theorem d_As_assemble_222 : decode b_As_assemble 222 = .ok (.invokevirtual 45, 3) := by decide +kernel
theorem d_As_assemble_225 : decode b_As_assemble 225 = .ok (.if_icmp .lt (11), 3) := by decide +kernel
theorem d_As_assemble_228 : decode b_As_assemble 228 = .ok (.aload_n 0, 1) := by decide +kernel
theorem d_As_assemble_229 : decode b_As_assemble 229 = .ok (.iconst 0, 1) := by decide +kernel
theorem d_As_assemble_230 : decode b_As_assemble 230 = .ok (.putfield 78, 3) := by decide +kernel
theorem d_As_assemble_233 : decode b_As_assemble 233 = .ok (.goto (38), 3) := by decide +kernel
theorem d_As_assemble_236 : decode b_As_assemble 236 = .ok (.aload_n 2, 1) := by decide +kernel
theorem d_As_assemble_237 : decode b_As_assemble 237 = .ok (.getfield 92, 3) := by decide +kernel
theorem d_As_assemble_240 : decode b_As_assemble 240 = .ok (.ifCond .lt (31), 3) := by decide +kernel
theorem d_As_assemble_243 : decode b_As_assemble 243 = .ok (.aload_n 2, 1) := by decide +kernel
theorem d_As_assemble_244 : decode b_As_assemble 244 = .ok (.aload_n 0, 1) := by decide +kernel
theorem d_As_assemble_245 : decode b_As_assemble 245 = .ok (.getfield 29, 3) := by decide +kernel
theorem d_As_assemble_248 : decode b_As_assemble 248 = .ok (.aload_n 2, 1) := by decide +kernel
theorem d_As_assemble_249 : decode b_As_assemble 249 = .ok (.getfield 92, 3) := by decide +kernel
theorem d_As_assemble_252 : decode b_As_assemble 252 = .ok (.iaload, 1) := by decide +kernel
theorem d_As_assemble_253 : decode b_As_assemble 253 = .ok (.bipush (32), 2) := by decide +kernel
theorem d_As_assemble_255 : decode b_As_assemble 255 = .ok (.idiv, 1) := by decide +kernel
theorem d_As_assemble_256 : decode b_As_assemble 256 = .ok (.aload_n 0, 1) := by decide +kernel
theorem d_As_assemble_257 : decode b_As_assemble 257 = .ok (.getfield 29, 3) := by decide +kernel
theorem d_As_assemble_260 : decode b_As_assemble 260 = .ok (.aload_n 2, 1) := by decide +kernel
theorem d_As_assemble_261 : decode b_As_assemble 261 = .ok (.getfield 92, 3) := by decide +kernel
theorem d_As_assemble_264 : decode b_As_assemble 264 = .ok (.iaload, 1) := by decide +kernel
theorem d_As_assemble_265 : decode b_As_assemble 265 = .ok (.bipush (32), 2) := by decide +kernel
theorem d_As_assemble_267 : decode b_As_assemble 267 = .ok (.irem, 1) := by decide +kernel
theorem d_As_assemble_268 : decode b_As_assemble 268 = .ok (.invokevirtual 68, 3) := by decide +kernel
theorem d_As_assemble_271 : decode b_As_assemble 271 = .ok (.iinc 1 (1), 3) := by decide +kernel
theorem d_As_assemble_274 : decode b_As_assemble 274 = .ok (.goto (-87), 3) := by decide +kernel
theorem d_As_assemble_277 : decode b_As_assemble 277 = .ok (.aload_n 0, 1) := by decide +kernel
theorem d_As_assemble_278 : decode b_As_assemble 278 = .ok (.getfield 78, 3) := by decide +kernel
theorem d_As_assemble_281 : decode b_As_assemble 281 = .ok (.ifCond .eq (10), 3) := by decide +kernel
theorem d_As_assemble_284 : decode b_As_assemble 284 = .ok (.aload_n 0, 1) := by decide +kernel
theorem d_As_assemble_285 : decode b_As_assemble 285 = .ok (.getfield 41, 3) := by decide +kernel
theorem d_As_assemble_288 : decode b_As_assemble 288 = .ok (.goto (4), 3) := by decide +kernel
theorem d_As_assemble_291 : decode b_As_assemble 291 = .ok (.iconst (-1), 1) := by decide +kernel
theorem d_As_assemble_292 : decode b_As_assemble 292 = .ok (.ireturn, 1) := by decide +kernel
theorem hd_As_assemble : y_As_assemble.cls ≠ "java/lang/invoke/MethodHandle" ∧ y_As_assemble.cls ≠ "java/lang/invoke/VarHandle" ∧ (parseMethodDescriptor y_As_assemble.desc).map (fun d => d.parameters.length) = some 0 := by decide +kernel
abbrev rm_As_assemble : Room := { frames := 11, cells := 80, slots := 4200, locals := 343 }
def F_As_assemble_277 (t : Nat → Nat → Int32)    (v : Nat → Int32) (f : Nat → Nat → Int32) (u : Nat → Nat → Int32) (la : Nat → Option Nat) : Option (Int32 × (Nat → Int32) × (Nat → Nat → Int32) × (Nat → Nat → Int32) × (Nat → Option Nat)) := (if (v 9) = (0 : Int32) then (some ((-1 : Int32), v, f, u, la)) else (some ((v 2), v, f, u, la)))
def F_As_assemble_271 (t : Nat → Nat → Int32)  (k187 : Int32 → (Nat → Int32) → (Nat → Nat → Int32) → (Nat → Nat → Int32) → (Nat → Option Nat) → Option (Int32 × (Nat → Int32) × (Nat → Nat → Int32) × (Nat → Nat → Int32) × (Nat → Option Nat))) (l1 : Int32) (v : Nat → Int32) (f : Nat → Nat → Int32) (u : Nat → Nat → Int32) (la : Nat → Option Nat) : Option (Int32 × (Nat → Int32) × (Nat → Nat → Int32) × (Nat → Nat → Int32) × (Nat → Option Nat)) := (k187 (l1 + (1 : Int32)) v f u la)
def F_As_assemble_187 (t : Nat → Nat → Int32)   : Nat → Int32 → (Nat → Int32) → (Nat → Nat → Int32) → (Nat → Nat → Int32) → (Nat → Option Nat) → Option (Int32 × (Nat → Int32) × (Nat → Nat → Int32) × (Nat → Nat → Int32) × (Nat → Option Nat))
  | 0, _, _, _, _, _ => none
  | n + 1, l1, v, f, u, la => (if (v 2) ≤ l1 then (F_As_assemble_277 t v f u la) else (if (v 9) = (0 : Int32) then (F_As_assemble_277 t v f u la) else (Option.bind (F_AL_get_p t  l1 v f u la) (fun z1 => (if (v 20).toNatClampNeg ≤ z1 then none else (if (v 20).toNatClampNeg ≤ z1 then none else (Option.bind (F_AL_size_s t   v f u la) (fun z2 => (if (u z1 4) < z2 then (if (v 20).toNatClampNeg ≤ z1 then none else (if (u z1 4) < (0 : Int32) then (F_As_assemble_271 t (F_As_assemble_187 t n) l1 v f u la) else (if (v 20).toNatClampNeg ≤ z1 then none else (if (u z1 4) < 0 ∨ 12 ≤ (u z1 4).toNatClampNeg then none else (if (v 20).toNatClampNeg ≤ z1 then none else (if (u z1 4) < 0 ∨ 12 ≤ (u z1 4).toNatClampNeg then none else (if (v 20).toNatClampNeg ≤ z1 then none else (Option.bind (F_Pl_lead t z1 (((f 5) (u z1 4).toNatClampNeg) / (32 : Int32)) (((f 5) (u z1 4).toNatClampNeg) - ((f 5) (u z1 4).toNatClampNeg) / (32 : Int32) * (32 : Int32)) v f u la) (fun z3 => (F_As_assemble_271 t (F_As_assemble_187 t n) l1 z3.1 z3.2.1 z3.2.2.1 z3.2.2.2)))))))))) else (F_As_assemble_271 t (F_As_assemble_187 t n) l1 (va_up v 9 (0 : Int32)) f u la))))))))))
def F_As_assemble_185 (t : Nat → Nat → Int32)    (v : Nat → Int32) (f : Nat → Nat → Int32) (u : Nat → Nat → Int32) (la : Nat → Option Nat) : Option (Int32 × (Nat → Int32) × (Nat → Nat → Int32) × (Nat → Nat → Int32) × (Nat → Option Nat)) := (F_As_assemble_187 t 100 (0 : Int32) v f u la)
def F_As_assemble_167 (t : Nat → Nat → Int32)    (v : Nat → Int32) (f : Nat → Nat → Int32) (u : Nat → Nat → Int32) (la : Nat → Option Nat) : Option (Int32 × (Nat → Int32) × (Nat → Nat → Int32) × (Nat → Nat → Int32) × (Nat → Option Nat)) := (if (v 9) = (0 : Int32) then (F_As_assemble_185 t v f u la) else (dm_oc (la 0) (F_As_assemble_185 t v f u la) (fun iz1 => (Option.bind (F_As_stop t   v f u la) (fun z2 => (F_As_assemble_185 t z2.1 z2.2.1 z2.2.2.1 z2.2.2.2))))))
def F_As_assemble_161 (t : Nat → Nat → Int32)  (k78 : Int32 → (Nat → Int32) → (Nat → Nat → Int32) → (Nat → Nat → Int32) → (Nat → Option Nat) → Option (Int32 × (Nat → Int32) × (Nat → Nat → Int32) × (Nat → Nat → Int32) × (Nat → Option Nat))) (l1 : Int32) (v : Nat → Int32) (f : Nat → Nat → Int32) (u : Nat → Nat → Int32) (la : Nat → Option Nat) : Option (Int32 × (Nat → Int32) × (Nat → Nat → Int32) × (Nat → Nat → Int32) × (Nat → Option Nat)) := (k78 (l1 + (1 : Int32)) v f u la)
def F_As_assemble_78 (t : Nat → Nat → Int32)   : Nat → Int32 → (Nat → Int32) → (Nat → Nat → Int32) → (Nat → Nat → Int32) → (Nat → Option Nat) → Option (Int32 × (Nat → Int32) × (Nat → Nat → Int32) × (Nat → Nat → Int32) × (Nat → Option Nat))
  | 0, _, _, _, _, _ => none
  | n + 1, l1, v, f, u, la => (Option.bind (F_AL_size_s t   v f u la) (fun z1 => (if z1 ≤ l1 then (F_As_assemble_167 t v f u la) else (if (v 9) = (0 : Int32) then (F_As_assemble_167 t v f u la) else (Option.bind (F_AL_get_s t  l1 v f u la) (fun z2 => (if (v 21).toNatClampNeg ≤ z2 then none else (Option.bind (F_As_lay t z2  v f u la) (fun z3 => (if (z3.1 9) = (0 : Int32) then (F_As_assemble_161 t (F_As_assemble_78 t n) l1 z3.1 z3.2.1 z3.2.2.1 z3.2.2.2) else (Option.bind (F_AL_get_p t  (v 2) z3.1 z3.2.1 z3.2.2.1 z3.2.2.2) (fun z4 => (if (z3.1 20).toNatClampNeg ≤ z4 then none else (if (z3.1 20).toNatClampNeg ≤ z4 then none else (Option.bind (F_AL_get_p t  (v 2) z3.1 z3.2.1 z3.2.2.1 z3.2.2.2) (fun z5 => (if (z3.1 20).toNatClampNeg ≤ z5 then none else (if (z3.1 20).toNatClampNeg ≤ z5 then none else (if l1 < 0 ∨ 12 ≤ l1.toNatClampNeg then none else (F_As_assemble_161 t (F_As_assemble_78 t n) l1 z3.1 (va_up z3.2.1 5 (upd (z3.2.1 5) l1.toNatClampNeg (((32 : Int32) * (z3.2.2.1 z4 0)) + (z3.2.2.1 z5 1)))) z3.2.2.1 z3.2.2.2))))))))))))))))))))
def F_As_assemble_57 (t : Nat → Nat → Int32)   : Nat → Int32 → (Nat → Int32) → (Nat → Nat → Int32) → (Nat → Nat → Int32) → (Nat → Option Nat) → Option (Int32 × (Nat → Int32) × (Nat → Nat → Int32) × (Nat → Nat → Int32) × (Nat → Option Nat))
  | 0, _, _, _, _, _ => none
  | n + 1, l1, v, f, u, la => (if (16 : Int32) ≤ l1 then (F_As_assemble_78 t 13 (0 : Int32) v f u la) else (if l1 < 0 ∨ 16 ≤ l1.toNatClampNeg then none else (F_As_assemble_57 t n (l1 + (1 : Int32)) v (va_up f 4 (upd (f 4) l1.toNatClampNeg (-1 : Int32))) u la)))
def F_As_assemble_36 (t : Nat → Nat → Int32)   : Nat → Int32 → (Nat → Int32) → (Nat → Nat → Int32) → (Nat → Nat → Int32) → (Nat → Option Nat) → Option (Int32 × (Nat → Int32) × (Nat → Nat → Int32) × (Nat → Nat → Int32) × (Nat → Option Nat))
  | 0, _, _, _, _, _ => none
  | n + 1, l1, v, f, u, la => (if (96 : Int32) ≤ l1 then (F_As_assemble_57 t 100 (0 : Int32) v f u la) else (if l1 < 0 ∨ 96 ≤ l1.toNatClampNeg then none else (F_As_assemble_36 t n (l1 + (1 : Int32)) v (va_up f 3 (upd (f 3) l1.toNatClampNeg ((0 : Int32) &&& 1))) u la)))
def F_As_assemble_26 (t : Nat → Nat → Int32)   (s1 : Int32) (v : Nat → Int32) (f : Nat → Nat → Int32) (u : Nat → Nat → Int32) (la : Nat → Option Nat) : Option (Int32 × (Nat → Int32) × (Nat → Nat → Int32) × (Nat → Nat → Int32) × (Nat → Option Nat)) := (if s1 = 0 ∨ s1 = 1 then (F_As_assemble_36 t 100 (0 : Int32) (va_up v 9 s1) f u (va_up la 0 none)) else none)
def F_As_assemble (t : Nat → Nat → Int32)  (v0 : Nat → Int32) (f0 : Nat → Nat → Int32) (u0 : Nat → Nat → Int32) (la0 : Nat → Option Nat) : Option (Int32 × (Nat → Int32) × (Nat → Nat → Int32) × (Nat → Nat → Int32) × (Nat → Option Nat)) := (Option.bind (F_AL_isEmpty_s t   (va_up (va_up v0 2 (0 : Int32)) 8 (0 : Int32)) f0 u0 la0) (fun z1 => (if z1 = (0 : Int32) then (F_As_assemble_26 t (1 : Int32) (va_up (va_up v0 2 (0 : Int32)) 8 (0 : Int32)) f0 u0 la0) else (F_As_assemble_26 t (0 : Int32) (va_up (va_up v0 2 (0 : Int32)) 8 (0 : Int32)) f0 u0 la0))))
set_option maxHeartbeats 4000000 in
set_option maxRecDepth 100000 in
theorem c_As_assemble (l : Launch) (G : dm_G) (g : Nat → Nat) (Y : aK) (t : Nat → Nat → Int32) (T : va_W) (K0 : aK) (v0 : Nat → Int32) (f0 : Nat → Nat → Int32) (u0 : Nat → Nat → Int32) (la0 : Nat → Option Nat) (RES : Int32 × (Nat → Int32) × (Nat → Nat → Int32) × (Nat → Nat → Int32) × (Nat → Option Nat)) (hY : okA G Y (v0 21)) (hk : okA G K0 (v0 20)) (hF : F_As_assemble t v0 f0 u0 la0 = some RES) : dm_Ct l y_As_assemble b_As_assemble 3 (some .int) rm_As_assemble G (aw G g Y t T K0 v0 f0 u0 la0) [.ref (g 91)] (fun ov w' => ∃ K' : aK, okA G Y (RES.2.1 21) ∧ okA G K' (RES.2.1 20) ∧ extP K0 K' (v0 20) (RES.2.1 20) ∧ ov = some (.int RES.1) ∧ w' = (aw G g Y t T K' RES.2.1 RES.2.2.1 RES.2.2.2.1 RES.2.2.2.2)) := by
  refine dm_Ct.of (by decide +kernel) (Nat.le_of_ble_eq_true rfl) ?_
  intro p e s m below meth c A ls B hl hP hD hS
  have hx := B.1
  have hb := B.2.1
  have hl : lv_has ls 3 [(0, .ref (g 91))] := hl
  have hext : extP K0 K0 (v0 20) (v0 20) := extP.rf
  have K277 : ∀ (ls : Array Slot) (H : Heap) (locs : List Loc) (cc ss : Nat) (K : aK)  (v : Nat → Int32) (f : Nat → Nat → Int32) (u : Nat → Nat → Int32) (la : Nat → Option Nat), cc ≤ 80 → ss ≤ 4200 → okA G Y (v 21) → okA G K (v 20) → extP K0 K (v0 20) (v 20) → lv_has ls 3 [(0, .ref (g 91))] → va_P G.1 dm_cl (aw G g Y t T K v f u la) H → va_D A (aw G g Y t T K v f u la) → va_S A s.heap H locs → F_As_assemble_277 t  v f u la = some RES → W p l e rm_As_assemble s m ([.ref (g 91)] : List Value).toArray below meth c H locs cc ss (dm_Z below G s ([.ref (g 91)] : List Value).toArray A rm_As_assemble.cells rm_As_assemble.slots (fun ov w' => ∃ K' : aK, okA G Y (RES.2.1 21) ∧ okA G K' (RES.2.1 20) ∧ extP K0 K' (v0 20) (RES.2.1 20) ∧ ov = some (.int RES.1) ∧ w' = (aw G g Y t T K' RES.2.1 RES.2.2.1 RES.2.2.2.1 RES.2.2.2.2))) (F0 m 277 ls []) := by
    intro ls H locs cc ss K v f u la hcc hss hY hk hext hl hP hD hS hF
    have hF : (if (v 9) = (0 : Int32) then (some ((-1 : Int32), v, f, u, la)) else (some ((v 2), v, f, u, la))) = some RES := hF
    refine lv_aload_n hx hb d_As_assemble_277 rfl (lv_at hl 0 rfl) ?_
    refine aw_g_0_9 (x := (v 9)) B hP rfl k_297 d_As_assemble_278 ?_
    refine lv_if_eq (tgt := 291) hx hb d_As_assemble_281 (by decide) (fun (hh : (v 9) = (0 : Int32)) => ?_) (fun (hh : ¬ (v 9) = (0 : Int32)) => ?_)
    · rw [if_pos hh] at hF
      refine lv_iconst (v := (-1 : Int32)) hx hb d_As_assemble_291 (by decide) ?_
      have hF := Option.some.inj hF
      subst hF
      exact dm_ret B rfl d_As_assemble_292 (by show cc ≤ 80; omega) (by show ss ≤ 4200; omega) hP hD hS ⟨K, hY, hk, hext, rfl, rfl⟩
    · rw [if_neg hh] at hF
      refine lv_aload_n hx hb d_As_assemble_284 rfl (lv_at hl 0 rfl) ?_
      refine aw_g_0_2 (x := (v 2)) B hP rfl k_288 d_As_assemble_285 ?_
      refine lv_goto (tgt := 292) hx hb d_As_assemble_288 (by decide) ?_
      have hF := Option.some.inj hF
      subst hF
      exact dm_ret B rfl d_As_assemble_292 (by show cc ≤ 80; omega) (by show ss ≤ 4200; omega) hP hD hS ⟨K, hY, hk, hext, rfl, rfl⟩
  have K187 : ∀ (n187 : Nat) (ls : Array Slot) (H : Heap) (locs : List Loc) (cc ss : Nat) (K : aK) (l1 : Int32) (v : Nat → Int32) (f : Nat → Nat → Int32) (u : Nat → Nat → Int32) (la : Nat → Option Nat), cc ≤ 80 → ss ≤ 4200 → okA G Y (v 21) → okA G K (v 20) → extP K0 K (v0 20) (v 20) → lv_has ls 3 [(0, .ref (g 91)), (1, .int l1)] → va_P G.1 dm_cl (aw G g Y t T K v f u la) H → va_D A (aw G g Y t T K v f u la) → va_S A s.heap H locs → F_As_assemble_187 t n187 l1 v f u la = some RES → W p l e rm_As_assemble s m ([.ref (g 91)] : List Value).toArray below meth c H locs cc ss (dm_Z below G s ([.ref (g 91)] : List Value).toArray A rm_As_assemble.cells rm_As_assemble.slots (fun ov w' => ∃ K' : aK, okA G Y (RES.2.1 21) ∧ okA G K' (RES.2.1 20) ∧ extP K0 K' (v0 20) (RES.2.1 20) ∧ ov = some (.int RES.1) ∧ w' = (aw G g Y t T K' RES.2.1 RES.2.2.1 RES.2.2.2.1 RES.2.2.2.2))) (F0 m 187 ls []) := by
    intro n187
    induction n187 with
    | zero => intro ls H locs cc ss K l1 v f u la hcc hss hY hk hext hl hP hD hS hF; cases hF
    | succ n187 ih187 =>
      have K271 : ∀ (ls : Array Slot) (H : Heap) (locs : List Loc) (cc ss : Nat) (K : aK) (l1 : Int32) (v : Nat → Int32) (f : Nat → Nat → Int32) (u : Nat → Nat → Int32) (la : Nat → Option Nat), cc ≤ 80 → ss ≤ 4200 → okA G Y (v 21) → okA G K (v 20) → extP K0 K (v0 20) (v 20) → lv_has ls 3 [(0, .ref (g 91)), (1, .int l1)] → va_P G.1 dm_cl (aw G g Y t T K v f u la) H → va_D A (aw G g Y t T K v f u la) → va_S A s.heap H locs → F_As_assemble_271 t (F_As_assemble_187 t n187) l1 v f u la = some RES → W p l e rm_As_assemble s m ([.ref (g 91)] : List Value).toArray below meth c H locs cc ss (dm_Z below G s ([.ref (g 91)] : List Value).toArray A rm_As_assemble.cells rm_As_assemble.slots (fun ov w' => ∃ K' : aK, okA G Y (RES.2.1 21) ∧ okA G K' (RES.2.1 20) ∧ extP K0 K' (v0 20) (RES.2.1 20) ∧ ov = some (.int RES.1) ∧ w' = (aw G g Y t T K' RES.2.1 RES.2.2.1 RES.2.2.2.1 RES.2.2.2.2))) (F0 m 271 ls []) := by
        intro ls H locs cc ss K l1 v f u la hcc hss hY hk hext hl hP hD hS hF
        have hF : ((F_As_assemble_187 t n187) (l1 + (1 : Int32)) v f u la) = some RES := hF
        refine lv_iinc (k := 1) (v := (l1 + (1 : Int32))) (lv' := [(1, .int (l1 + (1 : Int32))), (0, .ref (g 91))]) hx hb d_As_assemble_271 hl rfl (congrArg (fun q => l1 + q) (by decide)) (Nat.le_of_ble_eq_true rfl) rfl (fun ls hl => ?_)
        have hl : lv_has ls 3 [(0, .ref (g 91)), (1, .int (l1 + (1 : Int32)))] := lv_sub hl [1, 0] rfl
        refine lv_goto (tgt := 187) hx hb d_As_assemble_274 (by decide) ?_
        exact ih187 ls _ _ (cc) (ss) K (l1 + (1 : Int32)) v f u la (by omega) (by omega) hY hk hext (lv_sub hl [0, 1] rfl) hP hD hS hF
      intro ls H locs cc ss K l1 v f u la hcc hss hY hk hext hl hP hD hS hF
      have hF : (if (v 2) ≤ l1 then (F_As_assemble_277 t v f u la) else (if (v 9) = (0 : Int32) then (F_As_assemble_277 t v f u la) else (Option.bind (F_AL_get_p t  l1 v f u la) (fun z1 => (if (v 20).toNatClampNeg ≤ z1 then none else (if (v 20).toNatClampNeg ≤ z1 then none else (Option.bind (F_AL_size_s t   v f u la) (fun z2 => (if (u z1 4) < z2 then (if (v 20).toNatClampNeg ≤ z1 then none else (if (u z1 4) < (0 : Int32) then (F_As_assemble_271 t (F_As_assemble_187 t n187) l1 v f u la) else (if (v 20).toNatClampNeg ≤ z1 then none else (if (u z1 4) < 0 ∨ 12 ≤ (u z1 4).toNatClampNeg then none else (if (v 20).toNatClampNeg ≤ z1 then none else (if (u z1 4) < 0 ∨ 12 ≤ (u z1 4).toNatClampNeg then none else (if (v 20).toNatClampNeg ≤ z1 then none else (Option.bind (F_Pl_lead t z1 (((f 5) (u z1 4).toNatClampNeg) / (32 : Int32)) (((f 5) (u z1 4).toNatClampNeg) - ((f 5) (u z1 4).toNatClampNeg) / (32 : Int32) * (32 : Int32)) v f u la) (fun z3 => (F_As_assemble_271 t (F_As_assemble_187 t n187) l1 z3.1 z3.2.1 z3.2.2.1 z3.2.2.2)))))))))) else (F_As_assemble_271 t (F_As_assemble_187 t n187) l1 (va_up v 9 (0 : Int32)) f u la)))))))))) = some RES := hF
      refine lv_iload_n hx hb d_As_assemble_187 rfl (lv_at hl 1 rfl) ?_
      refine lv_aload_n hx hb d_As_assemble_188 rfl (lv_at hl 0 rfl) ?_
      refine aw_g_0_2 (x := (v 2)) B hP rfl k_288 d_As_assemble_189 ?_
      refine lv_icmp_ge (tgt := 277) hx hb d_As_assemble_192 (by decide) (fun (hh : (v 2) ≤ l1) => ?_) (fun (hh : ¬ (v 2) ≤ l1) => ?_)
      · rw [if_pos hh] at hF
        exact K277 ls _ _ (cc) (ss) K v f u la (by omega) (by omega) hY hk hext (lv_sub hl [0] rfl) hP hD hS hF
      · rw [if_neg hh] at hF
        refine lv_aload_n hx hb d_As_assemble_195 rfl (lv_at hl 0 rfl) ?_
        refine aw_g_0_9 (x := (v 9)) B hP rfl k_297 d_As_assemble_196 ?_
        refine lv_if_eq (tgt := 277) hx hb d_As_assemble_199 (by decide) (fun (hh : (v 9) = (0 : Int32)) => ?_) (fun (hh : ¬ (v 9) = (0 : Int32)) => ?_)
        · rw [if_pos hh] at hF
          exact K277 ls _ _ (cc) (ss) K v f u la (by omega) (by omega) hY hk hext (lv_sub hl [0] rfl) hP hD hS hF
        · rw [if_neg hh] at hF
          refine lv_aload_n hx hb d_As_assemble_202 rfl (lv_at hl 0 rfl) ?_
          refine aw_g_0_1 B hP k_287 d_As_assemble_203 ?_
          refine lv_iload_n hx hb d_As_assemble_206 rfl (lv_at hl 1 rfl) ?_
          obtain ⟨z1, hcz1, hF⟩ := dm_bind hF
          refine dm_callVw B [.int l1] (c_AL_get_p l G g Y t T K  l1 v f u la z1 hY hk hcz1) k_603 k_604 k_605 k_13 k_606 hd_AL_get_s rfl ⟨by decide, by decide⟩ 7 rfl rfl hP hD hS hl.1 (rest := []) rfl (Nat.le_of_ble_eq_true rfl) d_As_assemble_207 ⟨(by show cc + 0 ≤ 80; omega), (by show ss + 0 ≤ 4200; omega)⟩ (fun ov w' H locs hq hP hD hS => ?_)
          obtain ⟨rfl, rfl⟩ := hq
          have hP : va_P G.1 dm_cl (aw G g Y t T K v f u la) H := hP
          have hD : va_D A (aw G g Y t T K v f u la) := hD
          refine W.eq (g2 := F0 m 210 ls [.ref (K.2.2.2 z1)]) rfl ?_
          obtain ⟨hi, hF⟩ := dm_chk hF
          refine aw_rcp B hP hi k_646 d_As_assemble_210 ?_
          refine lv_astore_n (lv' := [(2, .ref (K.2.2.2 z1)), (0, .ref (g 91)), (1, .int l1)]) hx hb d_As_assemble_213 rfl hl (Nat.le_of_ble_eq_true rfl) rfl (fun ls hl => ?_)
          have hl : lv_has ls 3 [(0, .ref (g 91)), (1, .int l1), (2, .ref (K.2.2.2 z1))] := lv_sub hl [1, 2, 0] rfl
          refine lv_aload_n hx hb d_As_assemble_214 rfl (lv_at hl 2 rfl) ?_
          obtain ⟨hi, hF⟩ := dm_chk hF
          refine aw_gln_4 (i := z1) (x := (u z1 4)) B hP hi rfl k_660 d_As_assemble_215 ?_
          refine lv_aload_n hx hb d_As_assemble_218 rfl (lv_at hl 0 rfl) ?_
          refine aw_g_0_0 B hP k_285 d_As_assemble_219 ?_
          obtain ⟨z2, hcz2, hF⟩ := dm_bind hF
          refine dm_callVw B [] (c_AL_size_s l G g Y t T K   v f u la z2 hY hk hcz2) k_602 k_493 k_494 k_13 k_495 hd_AL_size_s rfl ⟨by decide, by decide⟩ 6 rfl rfl hP hD hS hl.1 (rest := [.int (u z1 4)]) rfl (Nat.le_of_ble_eq_true rfl) d_As_assemble_222 ⟨(by show cc + 0 ≤ 80; omega), (by show ss + 0 ≤ 4200; omega)⟩ (fun ov w' H locs hq hP hD hS => ?_)
          obtain ⟨rfl, rfl⟩ := hq
          have hP : va_P G.1 dm_cl (aw G g Y t T K v f u la) H := hP
          have hD : va_D A (aw G g Y t T K v f u la) := hD
          refine W.eq (g2 := F0 m 225 ls [.int z2, .int (u z1 4)]) rfl ?_
          refine lv_icmp_lt (tgt := 236) hx hb d_As_assemble_225 (by decide) (fun (hh : (u z1 4) < z2) => ?_) (fun (hh : ¬ (u z1 4) < z2) => ?_)
          · rw [if_pos hh] at hF
            refine lv_aload_n hx hb d_As_assemble_236 rfl (lv_at hl 2 rfl) ?_
            obtain ⟨hi, hF⟩ := dm_chk hF
            refine aw_gln_4 (i := z1) (x := (u z1 4)) B hP hi rfl k_660 d_As_assemble_237 ?_
            refine lv_if_lt (tgt := 271) hx hb d_As_assemble_240 (by decide) (fun (hh : (u z1 4) < (0 : Int32)) => ?_) (fun (hh : ¬ (u z1 4) < (0 : Int32)) => ?_)
            · rw [if_pos hh] at hF
              exact K271 ls _ _ (cc) (ss) K l1 v f u la (by omega) (by omega) hY hk hext (lv_sub hl [0, 1] rfl) hP hD hS hF
            · rw [if_neg hh] at hF
              refine lv_aload_n hx hb d_As_assemble_243 rfl (lv_at hl 2 rfl) ?_
              refine lv_aload_n hx hb d_As_assemble_244 rfl (lv_at hl 0 rfl) ?_
              refine aw_g_0_5 B hP k_291 d_As_assemble_245 ?_
              refine lv_aload_n hx hb d_As_assemble_248 rfl (lv_at hl 2 rfl) ?_
              obtain ⟨hi, hF⟩ := dm_chk hF
              refine aw_gln_4 (i := z1) (x := (u z1 4)) B hP hi rfl k_660 d_As_assemble_249 ?_
              obtain ⟨hi, hF⟩ := dm_chk hF
              refine aw_a_3 (F := (f 5)) B hP rfl hi d_As_assemble_252 ?_
              refine lv_bipush (v := (32 : Int32)) hx hb d_As_assemble_253 (by decide) ?_
              refine lv_idiv hx hb d_As_assemble_255 (by decide) ?_
              refine lv_aload_n hx hb d_As_assemble_256 rfl (lv_at hl 0 rfl) ?_
              refine aw_g_0_5 B hP k_291 d_As_assemble_257 ?_
              refine lv_aload_n hx hb d_As_assemble_260 rfl (lv_at hl 2 rfl) ?_
              obtain ⟨hi, hF⟩ := dm_chk hF
              refine aw_gln_4 (i := z1) (x := (u z1 4)) B hP hi rfl k_660 d_As_assemble_261 ?_
              obtain ⟨hi, hF⟩ := dm_chk hF
              refine aw_a_3 (F := (f 5)) B hP rfl hi d_As_assemble_264 ?_
              refine lv_bipush (v := (32 : Int32)) hx hb d_As_assemble_265 (by decide) ?_
              refine lv_irem hx hb d_As_assemble_267 (by decide) ?_
              obtain ⟨hrc, hF⟩ := dm_chk hF
              obtain ⟨z3, hcz3, hF⟩ := dm_bind hF
              refine dm_callVw B [.int (((f 5) (u z1 4).toNatClampNeg) / (32 : Int32)), .int (((f 5) (u z1 4).toNatClampNeg) - ((f 5) (u z1 4).toNatClampNeg) / (32 : Int32) * (32 : Int32))] (c_Pl_lead l G g Y t T K z1 (((f 5) (u z1 4).toNatClampNeg) / (32 : Int32)) (((f 5) (u z1 4).toNatClampNeg) - ((f 5) (u z1 4).toNatClampNeg) / (32 : Int32) * (32 : Int32)) v f u la z3 hY hk hcz3) k_677 k_678 k_679 k_23 k_680 hd_Pl_lead rfl ⟨by decide, by decide⟩ (z1 + 8) (aw_atp (Nat.lt_of_not_le hrc)) rfl hP hD hS hl.1 (rest := []) rfl (Nat.le_of_ble_eq_true rfl) d_As_assemble_268 ⟨(by show cc + 0 ≤ 80; omega), (by show ss + 0 ≤ 4200; omega)⟩ (fun ov w' H locs hq hP hD hS => ?_)
              obtain ⟨hY, hk, hxz3, rfl, rfl⟩ := hq
              have hext := hext.tr hxz3
              have hP : va_P G.1 dm_cl (aw G g Y t T K z3.1 z3.2.1 z3.2.2.1 z3.2.2.2) H := hP
              have hD : va_D A (aw G g Y t T K z3.1 z3.2.1 z3.2.2.1 z3.2.2.2) := hD
              refine W.eq (g2 := F0 m 271 ls []) rfl ?_
              exact K271 ls _ _ (cc) (ss) K l1 z3.1 z3.2.1 z3.2.2.1 z3.2.2.2 (by omega) (by omega) hY hk hext (lv_sub hl [0, 1] rfl) hP hD hS hF
          · rw [if_neg hh] at hF
            refine lv_aload_n hx hb d_As_assemble_228 rfl (lv_at hl 0 rfl) ?_
            refine lv_iconst (v := (0 : Int32)) hx hb d_As_assemble_229 (by decide) ?_
            refine aw_p_0_9 (x := (0 : Int32)) B hP hD hS (by decide) k_297 d_As_assemble_230 (fun H locs hP hD hS => ?_)
            refine lv_goto (tgt := 271) hx hb d_As_assemble_233 (by decide) ?_
            exact K271 ls _ _ (cc) (ss) K l1 (va_up v 9 (0 : Int32)) f u la (by omega) (by omega) hY hk hext (lv_sub hl [0, 1] rfl) hP hD hS hF
  have K185 : ∀ (ls : Array Slot) (H : Heap) (locs : List Loc) (cc ss : Nat) (K : aK)  (v : Nat → Int32) (f : Nat → Nat → Int32) (u : Nat → Nat → Int32) (la : Nat → Option Nat), cc ≤ 80 → ss ≤ 4200 → okA G Y (v 21) → okA G K (v 20) → extP K0 K (v0 20) (v 20) → lv_has ls 3 [(0, .ref (g 91))] → va_P G.1 dm_cl (aw G g Y t T K v f u la) H → va_D A (aw G g Y t T K v f u la) → va_S A s.heap H locs → F_As_assemble_185 t  v f u la = some RES → W p l e rm_As_assemble s m ([.ref (g 91)] : List Value).toArray below meth c H locs cc ss (dm_Z below G s ([.ref (g 91)] : List Value).toArray A rm_As_assemble.cells rm_As_assemble.slots (fun ov w' => ∃ K' : aK, okA G Y (RES.2.1 21) ∧ okA G K' (RES.2.1 20) ∧ extP K0 K' (v0 20) (RES.2.1 20) ∧ ov = some (.int RES.1) ∧ w' = (aw G g Y t T K' RES.2.1 RES.2.2.1 RES.2.2.2.1 RES.2.2.2.2))) (F0 m 185 ls []) := by
    intro ls H locs cc ss K v f u la hcc hss hY hk hext hl hP hD hS hF
    have hF : (F_As_assemble_187 t 100 (0 : Int32) v f u la) = some RES := hF
    refine lv_iconst (v := (0 : Int32)) hx hb d_As_assemble_185 (by decide) ?_
    refine lv_istore_n (lv' := [(1, .int (0 : Int32)), (0, .ref (g 91))]) hx hb d_As_assemble_186 rfl hl (Nat.le_of_ble_eq_true rfl) rfl (fun ls hl => ?_)
    have hl : lv_has ls 3 [(0, .ref (g 91)), (1, .int (0 : Int32))] := lv_sub hl [1, 0] rfl
    exact K187 100 ls _ _ (cc) (ss) K (0 : Int32) v f u la (by omega) (by omega) hY hk hext (lv_sub hl [0, 1] rfl) hP hD hS hF
  have K167 : ∀ (ls : Array Slot) (H : Heap) (locs : List Loc) (cc ss : Nat) (K : aK)  (v : Nat → Int32) (f : Nat → Nat → Int32) (u : Nat → Nat → Int32) (la : Nat → Option Nat), cc ≤ 78 → ss ≤ 4095 → okA G Y (v 21) → okA G K (v 20) → extP K0 K (v0 20) (v 20) → lv_has ls 3 [(0, .ref (g 91))] → va_P G.1 dm_cl (aw G g Y t T K v f u la) H → va_D A (aw G g Y t T K v f u la) → va_S A s.heap H locs → F_As_assemble_167 t  v f u la = some RES → W p l e rm_As_assemble s m ([.ref (g 91)] : List Value).toArray below meth c H locs cc ss (dm_Z below G s ([.ref (g 91)] : List Value).toArray A rm_As_assemble.cells rm_As_assemble.slots (fun ov w' => ∃ K' : aK, okA G Y (RES.2.1 21) ∧ okA G K' (RES.2.1 20) ∧ extP K0 K' (v0 20) (RES.2.1 20) ∧ ov = some (.int RES.1) ∧ w' = (aw G g Y t T K' RES.2.1 RES.2.2.1 RES.2.2.2.1 RES.2.2.2.2))) (F0 m 167 ls []) := by
    intro ls H locs cc ss K v f u la hcc hss hY hk hext hl hP hD hS hF
    have hF : (if (v 9) = (0 : Int32) then (F_As_assemble_185 t v f u la) else (dm_oc (la 0) (F_As_assemble_185 t v f u la) (fun iz1 => (Option.bind (F_As_stop t   v f u la) (fun z2 => (F_As_assemble_185 t z2.1 z2.2.1 z2.2.2.1 z2.2.2.2)))))) = some RES := hF
    refine lv_aload_n hx hb d_As_assemble_167 rfl (lv_at hl 0 rfl) ?_
    refine aw_g_0_9 (x := (v 9)) B hP rfl k_297 d_As_assemble_168 ?_
    refine lv_if_eq (tgt := 185) hx hb d_As_assemble_171 (by decide) (fun (hh : (v 9) = (0 : Int32)) => ?_) (fun (hh : ¬ (v 9) = (0 : Int32)) => ?_)
    · rw [if_pos hh] at hF
      exact K185 ls _ _ (cc) (ss) K v f u la (by omega) (by omega) hY hk hext (lv_sub hl [0] rfl) hP hD hS hF
    · rw [if_neg hh] at hF
      refine lv_aload_n hx hb d_As_assemble_174 rfl (lv_at hl 0 rfl) ?_
      refine aw_g_0_10 B hP k_298 d_As_assemble_175 ?_
      refine dm_osp (o := (la 0)) (fun hoz1 => ?_) (fun iz1 hoz1 => ?_)
      · rw [dm_ocn hoz1] at hF
        refine W.eq (g2 := F0 m 178 ls [.null]) (by rw [hoz1]; rfl) ?_
        refine lv_ifnullN (tgt := 185) hx hb d_As_assemble_178 (by decide) ?_
        exact K185 ls _ _ (cc) (ss) K v f u la (by omega) (by omega) hY hk hext (lv_sub hl [0] rfl) hP hD hS hF
      · rw [dm_ocs hoz1] at hF
        refine W.eq (g2 := F0 m 178 ls [.ref (K.2.2.2 iz1)]) (by rw [hoz1]; rfl) ?_
        refine lv_ifnull hx hb d_As_assemble_178 ?_
        refine lv_aload_n hx hb d_As_assemble_181 rfl (lv_at hl 0 rfl) ?_
        obtain ⟨z2, hcz2, hF⟩ := dm_bind hF
        refine dm_callVw B [] (c_As_stop l G g Y t T K   v f u la z2 hY hk hcz2) k_701 k_703 ks_15 k_10 k_704 hd_As_stop rfl ⟨by decide, by decide⟩ 0 rfl rfl hP hD hS hl.1 (rest := []) rfl (Nat.le_of_ble_eq_true rfl) d_As_assemble_182 ⟨(by show cc + 2 ≤ 80; omega), (by show ss + 105 ≤ 4200; omega)⟩ (fun ov w' H locs hq hP hD hS => ?_)
        obtain ⟨Kz2, hY, hk, hxz2, rfl, rfl⟩ := hq
        have hext := hext.tr hxz2
        have hP : va_P G.1 dm_cl (aw G g Y t T Kz2 z2.1 z2.2.1 z2.2.2.1 z2.2.2.2) H := hP
        have hD : va_D A (aw G g Y t T Kz2 z2.1 z2.2.1 z2.2.2.1 z2.2.2.2) := hD
        refine W.eq (g2 := F0 m 185 ls []) rfl ?_
        exact K185 ls _ _ (cc + 2) (ss + 105) Kz2 z2.1 z2.2.1 z2.2.2.1 z2.2.2.2 (by omega) (by omega) hY hk hext (lv_sub hl [0] rfl) hP hD hS hF
  have K78 : ∀ (n78 : Nat) (ls : Array Slot) (H : Heap) (locs : List Loc) (cc ss : Nat) (K : aK) (l1 : Int32) (v : Nat → Int32) (f : Nat → Nat → Int32) (u : Nat → Nat → Int32) (la : Nat → Option Nat), cc + 6 * n78 ≤ 78 → ss + 315 * n78 ≤ 4095 → okA G Y (v 21) → okA G K (v 20) → extP K0 K (v0 20) (v 20) → lv_has ls 3 [(0, .ref (g 91)), (1, .int l1)] → va_P G.1 dm_cl (aw G g Y t T K v f u la) H → va_D A (aw G g Y t T K v f u la) → va_S A s.heap H locs → F_As_assemble_78 t n78 l1 v f u la = some RES → W p l e rm_As_assemble s m ([.ref (g 91)] : List Value).toArray below meth c H locs cc ss (dm_Z below G s ([.ref (g 91)] : List Value).toArray A rm_As_assemble.cells rm_As_assemble.slots (fun ov w' => ∃ K' : aK, okA G Y (RES.2.1 21) ∧ okA G K' (RES.2.1 20) ∧ extP K0 K' (v0 20) (RES.2.1 20) ∧ ov = some (.int RES.1) ∧ w' = (aw G g Y t T K' RES.2.1 RES.2.2.1 RES.2.2.2.1 RES.2.2.2.2))) (F0 m 78 ls []) := by
    intro n78
    induction n78 with
    | zero => intro ls H locs cc ss K l1 v f u la hcc hss hY hk hext hl hP hD hS hF; cases hF
    | succ n78 ih78 =>
      have K161 : ∀ (ls : Array Slot) (H : Heap) (locs : List Loc) (cc ss : Nat) (K : aK) (l1 : Int32) (v : Nat → Int32) (f : Nat → Nat → Int32) (u : Nat → Nat → Int32) (la : Nat → Option Nat), cc + 6 * n78 ≤ 78 → ss + 315 * n78 ≤ 4095 → okA G Y (v 21) → okA G K (v 20) → extP K0 K (v0 20) (v 20) → lv_has ls 3 [(0, .ref (g 91)), (1, .int l1)] → va_P G.1 dm_cl (aw G g Y t T K v f u la) H → va_D A (aw G g Y t T K v f u la) → va_S A s.heap H locs → F_As_assemble_161 t (F_As_assemble_78 t n78) l1 v f u la = some RES → W p l e rm_As_assemble s m ([.ref (g 91)] : List Value).toArray below meth c H locs cc ss (dm_Z below G s ([.ref (g 91)] : List Value).toArray A rm_As_assemble.cells rm_As_assemble.slots (fun ov w' => ∃ K' : aK, okA G Y (RES.2.1 21) ∧ okA G K' (RES.2.1 20) ∧ extP K0 K' (v0 20) (RES.2.1 20) ∧ ov = some (.int RES.1) ∧ w' = (aw G g Y t T K' RES.2.1 RES.2.2.1 RES.2.2.2.1 RES.2.2.2.2))) (F0 m 161 ls []) := by
        intro ls H locs cc ss K l1 v f u la hcc hss hY hk hext hl hP hD hS hF
        have hF : ((F_As_assemble_78 t n78) (l1 + (1 : Int32)) v f u la) = some RES := hF
        refine lv_iinc (k := 1) (v := (l1 + (1 : Int32))) (lv' := [(1, .int (l1 + (1 : Int32))), (0, .ref (g 91))]) hx hb d_As_assemble_161 hl rfl (congrArg (fun q => l1 + q) (by decide)) (Nat.le_of_ble_eq_true rfl) rfl (fun ls hl => ?_)
        have hl : lv_has ls 3 [(0, .ref (g 91)), (1, .int (l1 + (1 : Int32)))] := lv_sub hl [1, 0] rfl
        refine lv_goto (tgt := 78) hx hb d_As_assemble_164 (by decide) ?_
        exact ih78 ls _ _ (cc) (ss) K (l1 + (1 : Int32)) v f u la (by omega) (by omega) hY hk hext (lv_sub hl [0, 1] rfl) hP hD hS hF
      intro ls H locs cc ss K l1 v f u la hcc hss hY hk hext hl hP hD hS hF
      have hF : (Option.bind (F_AL_size_s t   v f u la) (fun z1 => (if z1 ≤ l1 then (F_As_assemble_167 t v f u la) else (if (v 9) = (0 : Int32) then (F_As_assemble_167 t v f u la) else (Option.bind (F_AL_get_s t  l1 v f u la) (fun z2 => (if (v 21).toNatClampNeg ≤ z2 then none else (Option.bind (F_As_lay t z2  v f u la) (fun z3 => (if (z3.1 9) = (0 : Int32) then (F_As_assemble_161 t (F_As_assemble_78 t n78) l1 z3.1 z3.2.1 z3.2.2.1 z3.2.2.2) else (Option.bind (F_AL_get_p t  (v 2) z3.1 z3.2.1 z3.2.2.1 z3.2.2.2) (fun z4 => (if (z3.1 20).toNatClampNeg ≤ z4 then none else (if (z3.1 20).toNatClampNeg ≤ z4 then none else (Option.bind (F_AL_get_p t  (v 2) z3.1 z3.2.1 z3.2.2.1 z3.2.2.2) (fun z5 => (if (z3.1 20).toNatClampNeg ≤ z5 then none else (if (z3.1 20).toNatClampNeg ≤ z5 then none else (if l1 < 0 ∨ 12 ≤ l1.toNatClampNeg then none else (F_As_assemble_161 t (F_As_assemble_78 t n78) l1 z3.1 (va_up z3.2.1 5 (upd (z3.2.1 5) l1.toNatClampNeg (((32 : Int32) * (z3.2.2.1 z4 0)) + (z3.2.2.1 z5 1)))) z3.2.2.1 z3.2.2.2)))))))))))))))))))) = some RES := hF
      refine lv_iload_n hx hb d_As_assemble_78 rfl (lv_at hl 1 rfl) ?_
      refine lv_aload_n hx hb d_As_assemble_79 rfl (lv_at hl 0 rfl) ?_
      refine aw_g_0_0 B hP k_285 d_As_assemble_80 ?_
      obtain ⟨z1, hcz1, hF⟩ := dm_bind hF
      refine dm_callVw B [] (c_AL_size_s l G g Y t T K   v f u la z1 hY hk hcz1) k_602 k_493 k_494 k_13 k_495 hd_AL_size_s rfl ⟨by decide, by decide⟩ 6 rfl rfl hP hD hS hl.1 (rest := [.int l1]) rfl (Nat.le_of_ble_eq_true rfl) d_As_assemble_83 ⟨(by show cc + 0 ≤ 80; omega), (by show ss + 0 ≤ 4200; omega)⟩ (fun ov w' H locs hq hP hD hS => ?_)
      obtain ⟨rfl, rfl⟩ := hq
      have hP : va_P G.1 dm_cl (aw G g Y t T K v f u la) H := hP
      have hD : va_D A (aw G g Y t T K v f u la) := hD
      refine W.eq (g2 := F0 m 86 ls [.int z1, .int l1]) rfl ?_
      refine lv_icmp_ge (tgt := 167) hx hb d_As_assemble_86 (by decide) (fun (hh : z1 ≤ l1) => ?_) (fun (hh : ¬ z1 ≤ l1) => ?_)
      · rw [if_pos hh] at hF
        exact K167 ls _ _ (cc) (ss) K v f u la (by omega) (by omega) hY hk hext (lv_sub hl [0] rfl) hP hD hS hF
      · rw [if_neg hh] at hF
        refine lv_aload_n hx hb d_As_assemble_89 rfl (lv_at hl 0 rfl) ?_
        refine aw_g_0_9 (x := (v 9)) B hP rfl k_297 d_As_assemble_90 ?_
        refine lv_if_eq (tgt := 167) hx hb d_As_assemble_93 (by decide) (fun (hh : (v 9) = (0 : Int32)) => ?_) (fun (hh : ¬ (v 9) = (0 : Int32)) => ?_)
        · rw [if_pos hh] at hF
          exact K167 ls _ _ (cc) (ss) K v f u la (by omega) (by omega) hY hk hext (lv_sub hl [0] rfl) hP hD hS hF
        · rw [if_neg hh] at hF
          refine lv_aload_n hx hb d_As_assemble_96 rfl (lv_at hl 0 rfl) ?_
          refine aw_g_0_2 (x := (v 2)) B hP rfl k_288 d_As_assemble_97 ?_
          refine lv_istore_n (lv' := [(2, .int (v 2)), (0, .ref (g 91)), (1, .int l1)]) hx hb d_As_assemble_100 rfl hl (Nat.le_of_ble_eq_true rfl) rfl (fun ls hl => ?_)
          have hl : lv_has ls 3 [(0, .ref (g 91)), (1, .int l1), (2, .int (v 2))] := lv_sub hl [1, 2, 0] rfl
          refine lv_aload_n hx hb d_As_assemble_101 rfl (lv_at hl 0 rfl) ?_
          refine lv_aload_n hx hb d_As_assemble_102 rfl (lv_at hl 0 rfl) ?_
          refine aw_g_0_0 B hP k_285 d_As_assemble_103 ?_
          refine lv_iload_n hx hb d_As_assemble_106 rfl (lv_at hl 1 rfl) ?_
          obtain ⟨z2, hcz2, hF⟩ := dm_bind hF
          refine dm_callVw B [.int l1] (c_AL_get_s l G g Y t T K  l1 v f u la z2 hY hk hcz2) k_603 k_604 k_605 k_13 k_606 hd_AL_get_s rfl ⟨by decide, by decide⟩ 6 rfl rfl hP hD hS hl.1 (rest := [.ref (g 91)]) rfl (Nat.le_of_ble_eq_true rfl) d_As_assemble_107 ⟨(by show cc + 0 ≤ 80; omega), (by show ss + 0 ≤ 4200; omega)⟩ (fun ov w' H locs hq hP hD hS => ?_)
          obtain ⟨rfl, rfl⟩ := hq
          have hP : va_P G.1 dm_cl (aw G g Y t T K v f u la) H := hP
          have hD : va_D A (aw G g Y t T K v f u la) := hD
          refine W.eq (g2 := F0 m 110 ls [.ref (Y.2.2.2 z2), .ref (g 91)]) rfl ?_
          obtain ⟨hi, hF⟩ := dm_chk hF
          refine aw_rcs B hP hi k_617 d_As_assemble_110 ?_
          obtain ⟨z3, hcz3, hF⟩ := dm_bind hF
          refine dm_callVw B [.ref (Y.2.2.2 z2)] (c_As_lay l G g Y t T K z2  v f u la z3 hY hk hcz3) k_618 k_620 ks_8 k_10 k_621 hd_As_lay rfl ⟨by decide, by decide⟩ 0 rfl rfl hP hD hS hl.1 (rest := []) rfl (Nat.le_of_ble_eq_true rfl) d_As_assemble_113 ⟨(by show cc + 6 ≤ 80; omega), (by show ss + 315 ≤ 4200; omega)⟩ (fun ov w' H locs hq hP hD hS => ?_)
          obtain ⟨Kz3, hY, hk, hxz3, rfl, rfl⟩ := hq
          have hext := hext.tr hxz3
          have hP : va_P G.1 dm_cl (aw G g Y t T Kz3 z3.1 z3.2.1 z3.2.2.1 z3.2.2.2) H := hP
          have hD : va_D A (aw G g Y t T Kz3 z3.1 z3.2.1 z3.2.2.1 z3.2.2.2) := hD
          refine W.eq (g2 := F0 m 116 ls []) rfl ?_
          refine lv_aload_n hx hb d_As_assemble_116 rfl (lv_at hl 0 rfl) ?_
          refine aw_g_0_9 (x := (z3.1 9)) B hP rfl k_297 d_As_assemble_117 ?_
          refine lv_if_eq (tgt := 161) hx hb d_As_assemble_120 (by decide) (fun (hh : (z3.1 9) = (0 : Int32)) => ?_) (fun (hh : ¬ (z3.1 9) = (0 : Int32)) => ?_)
          · rw [if_pos hh] at hF
            exact K161 ls _ _ (cc + 6) (ss + 315) Kz3 l1 z3.1 z3.2.1 z3.2.2.1 z3.2.2.2 (by omega) (by omega) hY hk hext (lv_sub hl [0, 1] rfl) hP hD hS hF
          · rw [if_neg hh] at hF
            refine lv_aload_n hx hb d_As_assemble_123 rfl (lv_at hl 0 rfl) ?_
            refine aw_g_0_5 B hP k_291 d_As_assemble_124 ?_
            refine lv_iload_n hx hb d_As_assemble_127 rfl (lv_at hl 1 rfl) ?_
            refine lv_bipush (v := (32 : Int32)) hx hb d_As_assemble_128 (by decide) ?_
            refine lv_aload_n hx hb d_As_assemble_130 rfl (lv_at hl 0 rfl) ?_
            refine aw_g_0_1 B hP k_287 d_As_assemble_131 ?_
            refine lv_iload_n hx hb d_As_assemble_134 rfl (lv_at hl 2 rfl) ?_
            obtain ⟨z4, hcz4, hF⟩ := dm_bind hF
            refine dm_callVw B [.int (v 2)] (c_AL_get_p l G g Y t T Kz3  (v 2) z3.1 z3.2.1 z3.2.2.1 z3.2.2.2 z4 hY hk hcz4) k_603 k_604 k_605 k_13 k_606 hd_AL_get_s rfl ⟨by decide, by decide⟩ 7 rfl rfl hP hD hS hl.1 (rest := [.int (32 : Int32), .int l1, .ref (g 105)]) rfl (Nat.le_of_ble_eq_true rfl) d_As_assemble_135 ⟨(by show cc + 6 + 0 ≤ 80; omega), (by show ss + 315 + 0 ≤ 4200; omega)⟩ (fun ov w' H locs hq hP hD hS => ?_)
            obtain ⟨rfl, rfl⟩ := hq
            have hP : va_P G.1 dm_cl (aw G g Y t T Kz3 z3.1 z3.2.1 z3.2.2.1 z3.2.2.2) H := hP
            have hD : va_D A (aw G g Y t T Kz3 z3.1 z3.2.1 z3.2.2.1 z3.2.2.2) := hD
            refine W.eq (g2 := F0 m 138 ls [.ref (Kz3.2.2.2 z4), .int (32 : Int32), .int l1, .ref (g 105)]) rfl ?_
            obtain ⟨hi, hF⟩ := dm_chk hF
            refine aw_rcp B hP hi k_646 d_As_assemble_138 ?_
            obtain ⟨hi, hF⟩ := dm_chk hF
            refine aw_gln_0 (i := z4) (x := (z3.2.2.1 z4 0)) B hP hi rfl k_653 d_As_assemble_141 ?_
            refine lv_imul hx hb d_As_assemble_144 ?_
            refine lv_aload_n hx hb d_As_assemble_145 rfl (lv_at hl 0 rfl) ?_
            refine aw_g_0_1 B hP k_287 d_As_assemble_146 ?_
            refine lv_iload_n hx hb d_As_assemble_149 rfl (lv_at hl 2 rfl) ?_
            obtain ⟨z5, hcz5, hF⟩ := dm_bind hF
            refine dm_callVw B [.int (v 2)] (c_AL_get_p l G g Y t T Kz3  (v 2) z3.1 z3.2.1 z3.2.2.1 z3.2.2.2 z5 hY hk hcz5) k_603 k_604 k_605 k_13 k_606 hd_AL_get_s rfl ⟨by decide, by decide⟩ 7 rfl rfl hP hD hS hl.1 (rest := [.int ((32 : Int32) * (z3.2.2.1 z4 0)), .int l1, .ref (g 105)]) rfl (Nat.le_of_ble_eq_true rfl) d_As_assemble_150 ⟨(by show cc + 6 + 0 ≤ 80; omega), (by show ss + 315 + 0 ≤ 4200; omega)⟩ (fun ov w' H locs hq hP hD hS => ?_)
            obtain ⟨rfl, rfl⟩ := hq
            have hP : va_P G.1 dm_cl (aw G g Y t T Kz3 z3.1 z3.2.1 z3.2.2.1 z3.2.2.2) H := hP
            have hD : va_D A (aw G g Y t T Kz3 z3.1 z3.2.1 z3.2.2.1 z3.2.2.2) := hD
            refine W.eq (g2 := F0 m 153 ls [.ref (Kz3.2.2.2 z5), .int ((32 : Int32) * (z3.2.2.1 z4 0)), .int l1, .ref (g 105)]) rfl ?_
            obtain ⟨hi, hF⟩ := dm_chk hF
            refine aw_rcp B hP hi k_646 d_As_assemble_153 ?_
            obtain ⟨hi, hF⟩ := dm_chk hF
            refine aw_gln_1 (i := z5) (x := (z3.2.2.1 z5 1)) B hP hi rfl k_655 d_As_assemble_156 ?_
            refine lv_iadd hx hb d_As_assemble_159 ?_
            obtain ⟨hi, hF⟩ := dm_chk hF
            refine aw_s_3 (F := (z3.2.1 5)) B hP hD hS rfl hi d_As_assemble_160 (fun H locs hP hD hS => ?_)
            exact K161 ls _ _ (cc + 6) (ss + 315) Kz3 l1 z3.1 (va_up z3.2.1 5 (upd (z3.2.1 5) l1.toNatClampNeg (((32 : Int32) * (z3.2.2.1 z4 0)) + (z3.2.2.1 z5 1)))) z3.2.2.1 z3.2.2.2 (by omega) (by omega) hY hk hext (lv_sub hl [0, 1] rfl) hP hD hS hF
  have K57 : ∀ (n57 : Nat) (ls : Array Slot) (H : Heap) (locs : List Loc) (cc ss : Nat) (K : aK) (l1 : Int32) (v : Nat → Int32) (f : Nat → Nat → Int32) (u : Nat → Nat → Int32) (la : Nat → Option Nat), cc ≤ 0 → ss ≤ 0 → okA G Y (v 21) → okA G K (v 20) → extP K0 K (v0 20) (v 20) → lv_has ls 3 [(0, .ref (g 91)), (1, .int l1)] → va_P G.1 dm_cl (aw G g Y t T K v f u la) H → va_D A (aw G g Y t T K v f u la) → va_S A s.heap H locs → F_As_assemble_57 t n57 l1 v f u la = some RES → W p l e rm_As_assemble s m ([.ref (g 91)] : List Value).toArray below meth c H locs cc ss (dm_Z below G s ([.ref (g 91)] : List Value).toArray A rm_As_assemble.cells rm_As_assemble.slots (fun ov w' => ∃ K' : aK, okA G Y (RES.2.1 21) ∧ okA G K' (RES.2.1 20) ∧ extP K0 K' (v0 20) (RES.2.1 20) ∧ ov = some (.int RES.1) ∧ w' = (aw G g Y t T K' RES.2.1 RES.2.2.1 RES.2.2.2.1 RES.2.2.2.2))) (F0 m 57 ls []) := by
    intro n57
    induction n57 with
    | zero => intro ls H locs cc ss K l1 v f u la hcc hss hY hk hext hl hP hD hS hF; cases hF
    | succ n57 ih57 =>
      intro ls H locs cc ss K l1 v f u la hcc hss hY hk hext hl hP hD hS hF
      have hF : (if (16 : Int32) ≤ l1 then (F_As_assemble_78 t 13 (0 : Int32) v f u la) else (if l1 < 0 ∨ 16 ≤ l1.toNatClampNeg then none else (F_As_assemble_57 t n57 (l1 + (1 : Int32)) v (va_up f 4 (upd (f 4) l1.toNatClampNeg (-1 : Int32))) u la))) = some RES := hF
      refine lv_iload_n hx hb d_As_assemble_57 rfl (lv_at hl 1 rfl) ?_
      refine lv_bipush (v := (16 : Int32)) hx hb d_As_assemble_58 (by decide) ?_
      refine lv_icmp_ge (tgt := 76) hx hb d_As_assemble_60 (by decide) (fun (hh : (16 : Int32) ≤ l1) => ?_) (fun (hh : ¬ (16 : Int32) ≤ l1) => ?_)
      · rw [if_pos hh] at hF
        refine lv_iconst (v := (0 : Int32)) hx hb d_As_assemble_76 (by decide) ?_
        refine lv_istore_n (lv' := [(1, .int (0 : Int32)), (0, .ref (g 91))]) hx hb d_As_assemble_77 rfl hl (Nat.le_of_ble_eq_true rfl) rfl (fun ls hl => ?_)
        have hl : lv_has ls 3 [(0, .ref (g 91)), (1, .int (0 : Int32))] := lv_sub hl [1, 0] rfl
        exact K78 13 ls _ _ (cc) (ss) K (0 : Int32) v f u la (by omega) (by omega) hY hk hext (lv_sub hl [0, 1] rfl) hP hD hS hF
      · rw [if_neg hh] at hF
        refine lv_aload_n hx hb d_As_assemble_63 rfl (lv_at hl 0 rfl) ?_
        refine aw_g_0_4 B hP k_290 d_As_assemble_64 ?_
        refine lv_iload_n hx hb d_As_assemble_67 rfl (lv_at hl 1 rfl) ?_
        refine lv_iconst (v := (-1 : Int32)) hx hb d_As_assemble_68 (by decide) ?_
        obtain ⟨hi, hF⟩ := dm_chk hF
        refine aw_s_2 (F := (f 4)) B hP hD hS rfl hi d_As_assemble_69 (fun H locs hP hD hS => ?_)
        refine lv_iinc (k := 1) (v := (l1 + (1 : Int32))) (lv' := [(1, .int (l1 + (1 : Int32))), (0, .ref (g 91))]) hx hb d_As_assemble_70 hl rfl (congrArg (fun q => l1 + q) (by decide)) (Nat.le_of_ble_eq_true rfl) rfl (fun ls hl => ?_)
        have hl : lv_has ls 3 [(0, .ref (g 91)), (1, .int (l1 + (1 : Int32)))] := lv_sub hl [1, 0] rfl
        refine lv_goto (tgt := 57) hx hb d_As_assemble_73 (by decide) ?_
        exact ih57 ls _ _ (cc) (ss) K (l1 + (1 : Int32)) v (va_up f 4 (upd (f 4) l1.toNatClampNeg (-1 : Int32))) u la (by omega) (by omega) hY hk hext (lv_sub hl [0, 1] rfl) hP hD hS hF
  have K36 : ∀ (n36 : Nat) (ls : Array Slot) (H : Heap) (locs : List Loc) (cc ss : Nat) (K : aK) (l1 : Int32) (v : Nat → Int32) (f : Nat → Nat → Int32) (u : Nat → Nat → Int32) (la : Nat → Option Nat), cc ≤ 0 → ss ≤ 0 → okA G Y (v 21) → okA G K (v 20) → extP K0 K (v0 20) (v 20) → lv_has ls 3 [(0, .ref (g 91)), (1, .int l1)] → va_P G.1 dm_cl (aw G g Y t T K v f u la) H → va_D A (aw G g Y t T K v f u la) → va_S A s.heap H locs → F_As_assemble_36 t n36 l1 v f u la = some RES → W p l e rm_As_assemble s m ([.ref (g 91)] : List Value).toArray below meth c H locs cc ss (dm_Z below G s ([.ref (g 91)] : List Value).toArray A rm_As_assemble.cells rm_As_assemble.slots (fun ov w' => ∃ K' : aK, okA G Y (RES.2.1 21) ∧ okA G K' (RES.2.1 20) ∧ extP K0 K' (v0 20) (RES.2.1 20) ∧ ov = some (.int RES.1) ∧ w' = (aw G g Y t T K' RES.2.1 RES.2.2.1 RES.2.2.2.1 RES.2.2.2.2))) (F0 m 36 ls []) := by
    intro n36
    induction n36 with
    | zero => intro ls H locs cc ss K l1 v f u la hcc hss hY hk hext hl hP hD hS hF; cases hF
    | succ n36 ih36 =>
      intro ls H locs cc ss K l1 v f u la hcc hss hY hk hext hl hP hD hS hF
      have hF : (if (96 : Int32) ≤ l1 then (F_As_assemble_57 t 100 (0 : Int32) v f u la) else (if l1 < 0 ∨ 96 ≤ l1.toNatClampNeg then none else (F_As_assemble_36 t n36 (l1 + (1 : Int32)) v (va_up f 3 (upd (f 3) l1.toNatClampNeg ((0 : Int32) &&& 1))) u la))) = some RES := hF
      refine lv_iload_n hx hb d_As_assemble_36 rfl (lv_at hl 1 rfl) ?_
      refine lv_bipush (v := (96 : Int32)) hx hb d_As_assemble_37 (by decide) ?_
      refine lv_icmp_ge (tgt := 55) hx hb d_As_assemble_39 (by decide) (fun (hh : (96 : Int32) ≤ l1) => ?_) (fun (hh : ¬ (96 : Int32) ≤ l1) => ?_)
      · rw [if_pos hh] at hF
        refine lv_iconst (v := (0 : Int32)) hx hb d_As_assemble_55 (by decide) ?_
        refine lv_istore_n (lv' := [(1, .int (0 : Int32)), (0, .ref (g 91))]) hx hb d_As_assemble_56 rfl hl (Nat.le_of_ble_eq_true rfl) rfl (fun ls hl => ?_)
        have hl : lv_has ls 3 [(0, .ref (g 91)), (1, .int (0 : Int32))] := lv_sub hl [1, 0] rfl
        exact K57 100 ls _ _ (cc) (ss) K (0 : Int32) v f u la (by omega) (by omega) hY hk hext (lv_sub hl [0, 1] rfl) hP hD hS hF
      · rw [if_neg hh] at hF
        refine lv_aload_n hx hb d_As_assemble_42 rfl (lv_at hl 0 rfl) ?_
        refine aw_g_0_3 B hP k_289 d_As_assemble_43 ?_
        refine lv_iload_n hx hb d_As_assemble_46 rfl (lv_at hl 1 rfl) ?_
        refine lv_iconst (v := (0 : Int32)) hx hb d_As_assemble_47 (by decide) ?_
        obtain ⟨hi, hF⟩ := dm_chk hF
        refine aw_s_1 (F := (f 3)) B hP hD hS rfl hi d_As_assemble_48 (fun H locs hP hD hS => ?_)
        refine lv_iinc (k := 1) (v := (l1 + (1 : Int32))) (lv' := [(1, .int (l1 + (1 : Int32))), (0, .ref (g 91))]) hx hb d_As_assemble_49 hl rfl (congrArg (fun q => l1 + q) (by decide)) (Nat.le_of_ble_eq_true rfl) rfl (fun ls hl => ?_)
        have hl : lv_has ls 3 [(0, .ref (g 91)), (1, .int (l1 + (1 : Int32)))] := lv_sub hl [1, 0] rfl
        refine lv_goto (tgt := 36) hx hb d_As_assemble_52 (by decide) ?_
        exact ih36 ls _ _ (cc) (ss) K (l1 + (1 : Int32)) v (va_up f 3 (upd (f 3) l1.toNatClampNeg ((0 : Int32) &&& 1))) u la (by omega) (by omega) hY hk hext (lv_sub hl [0, 1] rfl) hP hD hS hF
  have K26 : ∀ (ls : Array Slot) (H : Heap) (locs : List Loc) (cc ss : Nat) (K : aK) (s1 : Int32) (v : Nat → Int32) (f : Nat → Nat → Int32) (u : Nat → Nat → Int32) (la : Nat → Option Nat), cc ≤ 0 → ss ≤ 0 → okA G Y (v 21) → okA G K (v 20) → extP K0 K (v0 20) (v 20) → lv_has ls 3 [(0, .ref (g 91))] → va_P G.1 dm_cl (aw G g Y t T K v f u la) H → va_D A (aw G g Y t T K v f u la) → va_S A s.heap H locs → F_As_assemble_26 t s1 v f u la = some RES → W p l e rm_As_assemble s m ([.ref (g 91)] : List Value).toArray below meth c H locs cc ss (dm_Z below G s ([.ref (g 91)] : List Value).toArray A rm_As_assemble.cells rm_As_assemble.slots (fun ov w' => ∃ K' : aK, okA G Y (RES.2.1 21) ∧ okA G K' (RES.2.1 20) ∧ extP K0 K' (v0 20) (RES.2.1 20) ∧ ov = some (.int RES.1) ∧ w' = (aw G g Y t T K' RES.2.1 RES.2.2.1 RES.2.2.2.1 RES.2.2.2.2))) (F0 m 26 ls [.int s1, .ref (g 91)]) := by
    intro ls H locs cc ss K s1 v f u la hcc hss hY hk hext hl hP hD hS hF
    have hF : (if s1 = 0 ∨ s1 = 1 then (F_As_assemble_36 t 100 (0 : Int32) (va_up v 9 s1) f u (va_up la 0 none)) else none) = some RES := hF
    obtain ⟨hz, hF⟩ := dm_ck1 hF
    refine aw_p_0_9 (x := s1) B hP hD hS hz k_297 d_As_assemble_26 (fun H locs hP hD hS => ?_)
    refine lv_aload_n hx hb d_As_assemble_29 rfl (lv_at hl 0 rfl) ?_
    refine lv_null hx hb d_As_assemble_30 ?_
    refine aw_pz_0_10 B hP hD hS k_298 d_As_assemble_31 (fun H locs hP hD hS => ?_)
    refine lv_iconst (v := (0 : Int32)) hx hb d_As_assemble_34 (by decide) ?_
    refine lv_istore_n (lv' := [(1, .int (0 : Int32)), (0, .ref (g 91))]) hx hb d_As_assemble_35 rfl hl (Nat.le_of_ble_eq_true rfl) rfl (fun ls hl => ?_)
    have hl : lv_has ls 3 [(0, .ref (g 91)), (1, .int (0 : Int32))] := lv_sub hl [1, 0] rfl
    exact K36 100 ls _ _ (cc) (ss) K (0 : Int32) (va_up v 9 s1) f u (va_up la 0 none) (by omega) (by omega) hY hk hext (lv_sub hl [0, 1] rfl) hP hD hS hF
  have hF : (Option.bind (F_AL_isEmpty_s t   (va_up (va_up v0 2 (0 : Int32)) 8 (0 : Int32)) f0 u0 la0) (fun z1 => (if z1 = (0 : Int32) then (F_As_assemble_26 t (1 : Int32) (va_up (va_up v0 2 (0 : Int32)) 8 (0 : Int32)) f0 u0 la0) else (F_As_assemble_26 t (0 : Int32) (va_up (va_up v0 2 (0 : Int32)) 8 (0 : Int32)) f0 u0 la0)))) = some RES := hF
  refine lv_aload_n hx hb d_As_assemble_0 rfl (lv_at hl 0 rfl) ?_
  refine lv_iconst (v := (0 : Int32)) hx hb d_As_assemble_1 (by decide) ?_
  refine aw_p_0_2 (x := (0 : Int32)) B hP hD hS k_288 d_As_assemble_2 (fun H locs hP hD hS => ?_)
  refine lv_aload_n hx hb d_As_assemble_5 rfl (lv_at hl 0 rfl) ?_
  refine lv_iconst (v := (0 : Int32)) hx hb d_As_assemble_6 (by decide) ?_
  refine aw_p_0_8 (x := (0 : Int32)) B hP hD hS k_296 d_As_assemble_7 (fun H locs hP hD hS => ?_)
  refine lv_aload_n hx hb d_As_assemble_10 rfl (lv_at hl 0 rfl) ?_
  refine lv_aload_n hx hb d_As_assemble_11 rfl (lv_at hl 0 rfl) ?_
  refine aw_g_0_0 B hP k_285 d_As_assemble_12 ?_
  obtain ⟨z1, hcz1, hF⟩ := dm_bind hF
  refine dm_callVw B [] (c_AL_isEmpty_s l G g Y t T K0   (va_up (va_up v0 2 (0 : Int32)) 8 (0 : Int32)) f0 u0 la0 z1 hY hk hcz1) k_598 k_599 k_600 k_13 k_601 hd_AL_isEmpty_s rfl ⟨by decide, by decide⟩ 6 rfl rfl hP hD hS hl.1 (rest := [.ref (g 91)]) rfl (Nat.le_of_ble_eq_true rfl) d_As_assemble_15 ⟨(by show 0 + 0 ≤ 80; omega), (by show 0 + 0 ≤ 4200; omega)⟩ (fun ov w' H locs hq hP hD hS => ?_)
  obtain ⟨rfl, rfl⟩ := hq
  have hP : va_P G.1 dm_cl (aw G g Y t T K0 (va_up (va_up v0 2 (0 : Int32)) 8 (0 : Int32)) f0 u0 la0) H := hP
  have hD : va_D A (aw G g Y t T K0 (va_up (va_up v0 2 (0 : Int32)) 8 (0 : Int32)) f0 u0 la0) := hD
  refine W.eq (g2 := F0 m 18 ls [.int z1, .ref (g 91)]) rfl ?_
  refine lv_if_ne (tgt := 25) hx hb d_As_assemble_18 (by decide) (fun (hh : ¬ z1 = (0 : Int32)) => ?_) (fun (hh : z1 = (0 : Int32)) => ?_)
  · rw [if_neg hh] at hF
    refine lv_iconst (v := (0 : Int32)) hx hb d_As_assemble_25 (by decide) ?_
    exact K26 ls _ _ (0) (0) K0 (0 : Int32) (va_up (va_up v0 2 (0 : Int32)) 8 (0 : Int32)) f0 u0 la0 (by omega) (by omega) hY hk hext (lv_sub hl [0] rfl) hP hD hS hF
  · rw [if_pos hh] at hF
    refine lv_iconst (v := (1 : Int32)) hx hb d_As_assemble_21 (by decide) ?_
    refine lv_goto (tgt := 26) hx hb d_As_assemble_22 (by decide) ?_
    exact K26 ls _ _ (0) (0) K0 (1 : Int32) (va_up (va_up v0 2 (0 : Int32)) 8 (0 : Int32)) f0 u0 la0 (by omega) (by omega) hY hk hext (lv_sub hl [0] rfl) hP hD hS hF
