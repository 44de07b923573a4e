section aw_dm
variable {p : Program} {l : Launch} {e : Env} {R : Room} {s : State} {m : MethodId} {args : Array Value} {below : List Frame} {meth : Method} {c : Code} {H : Heap} {locs : List Loc} {cells slots : Nat} {Q : State → Prop}
variable {cc : ByteArray} {nL : Nat} {ret0 : Option FieldType} {own nm : String} {G : dm_G} {A : Nat → Prop} {pc : Nat} {ls : Array Slot} {rest : List Value} {index : Nat}
variable {g h : Nat → Nat} {mv : Nat → Int32} {mf : Nat → Nat → Int32} {mi : Nat → Nat} {Y : aK} {t : Nat → Nat → Int32} {T : va_W} {K : aK} {v : Nat → Int32} {f : Nat → Nat → Int32} {u : Nat → Nat → Int32} {la : Nat → Option Nat}
theorem aw_gd_0 (B : dm_B p s m args meth c cc nL ret0 own nm G A) (hP : va_P G.1 dm_cl (aw G g Y t (mw G g h mv mf mi) K v f u la) H) (hl : Cond.fieldLink own index "DelayMachine" "machine" "LDelayMachine$Machine;" ∈ dm_gt) (hdg : decode cc pc = .ok (.getfield index, 3)) (kk : W p l e R s m args below meth c H locs cells slots Q (F0 m (pc + 3) ls (.ref (g 0) :: rest))) : W p l e R s m args below meth c H locs cells slots Q (F0 m pc ls (.ref (g 90) :: rest)) := dm_get (v := .ref (g 0)) (ci := 0) B hP ((awp G g Y t K v f u la).length + 50) (aw_tl rfl) rfl in_DM 0 (by decide) hl rfl hdg kk
theorem aw_gd_1 (B : dm_B p s m args meth c cc nL ret0 own nm G A) (hP : va_P G.1 dm_cl (aw G g Y t (mw G g h mv mf mi) K v f u la) H) (hl : Cond.fieldLink own index "DelayMachine" "assembler" "LDelayMachine$Assembler;" ∈ dm_gt) (hdg : decode cc pc = .ok (.getfield index, 3)) (kk : W p l e R s m args below meth c H locs cells slots Q (F0 m (pc + 3) ls (.ref (g 91) :: rest))) : W p l e R s m args below meth c H locs cells slots Q (F0 m pc ls (.ref (g 90) :: rest)) := dm_get (v := .ref (g 91)) (ci := 0) B hP ((awp G g Y t K v f u la).length + 50) (aw_tl rfl) rfl in_DM 1 (by decide) hl rfl hdg kk
theorem aw_gm_9 (B : dm_B p s m args meth c cc nL ret0 own nm G A) (hP : va_P G.1 dm_cl (aw G g Y t (mw G g h mv mf mi) K v f u la) H) (hl : Cond.fieldLinkNest own index "DelayMachine$Machine" "going" "Z" "DelayMachine" ∈ dm_nw) (hdg : decode cc pc = .ok (.getfield index, 3)) (kk : W p l e R s m args below meth c H locs cells slots Q (F0 m (pc + 3) ls (.int (mv 9) :: rest))) : W p l e R s m args below meth c H locs cells slots Q (F0 m pc ls (.ref (g 0) :: rest)) := dm_getN (v := .int (mv 9)) (ci := 1) B hP ((awp G g Y t K v f u la).length + 0) (aw_tl rfl) rfl in_Ma 9 (by decide) hl rfl hdg kk
theorem aw_gm_0 (B : dm_B p s m args meth c cc nL ret0 own nm G A) (hP : va_P G.1 dm_cl (aw G g Y t (mw G g h mv mf mi) K v f u la) H) (hl : Cond.fieldLinkNest own index "DelayMachine$Machine" "orders" "[I" "DelayMachine" ∈ dm_nw) (hdg : decode cc pc = .ok (.getfield index, 3)) (kk : W p l e R s m args below meth c H locs cells slots Q (F0 m (pc + 3) ls (.ref (g 1) :: rest))) : W p l e R s m args below meth c H locs cells slots Q (F0 m pc ls (.ref (g 0) :: rest)) := dm_getN (v := .ref (g 1)) (ci := 1) B hP ((awp G g Y t K v f u la).length + 0) (aw_tl rfl) rfl in_Ma 0 (by decide) hl rfl hdg kk
end aw_dm
/-- the statements' list taken out of the assembler's world -/
def awy (G : dm_G) (g : Nat → Nat) (Y : aK) (t : Nat → Nat → Int32) (T : va_W) (K : aK) (M : Nat) (v : Nat → Int32) (f : Nat → Nat → Int32) (u : Nat → Nat → Int32) (la : Nat → Option Nat) (x : va_W) : va_W :=
  (g 91, .inr (9, [.ref (g 100), .ref (g 101), .int (v 2), .ref (g 103), .ref (g 104), .ref (g 105), .ref (g 106), .ref (g 107), .int (v 8), .int (v 9), va_rf ((la 0).map K.2.2.2)])) :: (g 103, .inl (G.2.1 2, 96, .inl (f 3))) :: (g 104, .inl (G.2.1 0, 16, .inl (f 4))) :: (g 105, .inl (G.2.1 0, 12, .inl (f 5))) :: (g 106, .inl (G.2.1 0, 16, .inl (f 6))) :: (g 107, .inl (G.2.1 0, 12, .inl (f 7))) :: alo (g 101) K (v 20) ::
    (plw (v 20).toNatClampNeg K.2.2.2 u ++ (arw G K (v 20).toNatClampNeg ++ (stw M Y.2.2.2 t ++ (T ++ x))))
theorem awy_p1 {G : dm_G} {g : Nat → Nat} {Y : aK} {t : Nat → Nat → Int32} {T : va_W} {K : aK} {M : Nat} {v : Nat → Int32} {f : Nat → Nat → Int32} {u : Nat → Nat → Int32} {la : Nat → Option Nat} {x : va_W} (hz : v 21 = nI M) (hM : M < 2 ^ 31) : (aw G g Y t T K v f u la ++ x).Perm (alv G (g 100) Y M (awy G g Y t T K M v f u la x)) := by
  have e : aw G g Y t T K v f u la = (g 91, .inr (9, [.ref (g 100), .ref (g 101), .int (v 2), .ref (g 103), .ref (g 104), .ref (g 105), .ref (g 106), .ref (g 107), .int (v 8), .int (v 9), va_rf ((la 0).map K.2.2.2)])) :: (g 103, .inl (G.2.1 2, 96, .inl (f 3))) :: (g 104, .inl (G.2.1 0, 16, .inl (f 4))) :: (g 105, .inl (G.2.1 0, 12, .inl (f 5))) :: (g 106, .inl (G.2.1 0, 16, .inl (f 6))) :: (g 107, .inl (G.2.1 0, 12, .inl (f 7))) :: alo (g 100) Y (nI M) :: alo (g 101) K (v 20) ::
    (plw (v 20).toNatClampNeg K.2.2.2 u ++ (arw G K (v 20).toNatClampNeg ++ (arw G Y M ++ (stw M Y.2.2.2 t ++ T)))) := by
    unfold aw
    rw [hz, nI_clamp hM]
  rw [e]
  refine dm_cnt (fun _ a => ?_)
  simp only [alv, awy, List.cons_append, List.append_assoc, List.count_cons, List.count_append]
  omega
theorem stw_push {n q : Nat} {S : Nat → Nat} {t : Nat → Nat → Int32} {x : Nat → Int32} : stw (n + 1) (va_up S n q) (va_up t n x) = stw n S t ++ [(q, stc x)] := by
  unfold stw
  rw [List.range_succ, List.map_append]
  congr 1
  · apply List.map_congr_left
    intro i hi
    have : i ≠ n := by have := List.mem_range.mp hi; omega
    rw [va_up_ne _ _ this, va_up_ne _ _ this]
  · simp [va_up]
theorem awy_p2 {G : dm_G} {g : Nat → Nat} {Y Y' : aK} {t : Nat → Nat → Int32} {T : va_W} {K : aK} {M q : Nat} {v : Nat → Int32} {f : Nat → Nat → Int32} {u : Nat → Nat → Int32} {la : Nat → Option Nat} {y : Nat → Int32} (hP : Y'.2.2.2 = va_up Y.2.2.2 M q) (hM : M + 1 < 2 ^ 31) : (alv G (g 100) Y' (M + 1) (awy G g Y t T K M v f u la [(q, stc y)])).Perm (aw G g Y' (va_up t M y) T K (va_up v 21 (nI (M + 1))) f u la) := by
  have e1 : stw (M + 1) Y'.2.2.2 (va_up t M y) = stw M Y.2.2.2 t ++ [(q, stc y)] := by rw [hP]; exact stw_push
  have e : aw G g Y' (va_up t M y) T K (va_up v 21 (nI (M + 1))) f u la = (g 91, .inr (9, [.ref (g 100), .ref (g 101), .int (v 2), .ref (g 103), .ref (g 104), .ref (g 105), .ref (g 106), .ref (g 107), .int (v 8), .int (v 9), va_rf ((la 0).map K.2.2.2)])) :: (g 103, .inl (G.2.1 2, 96, .inl (f 3))) :: (g 104, .inl (G.2.1 0, 16, .inl (f 4))) :: (g 105, .inl (G.2.1 0, 12, .inl (f 5))) :: (g 106, .inl (G.2.1 0, 16, .inl (f 6))) :: (g 107, .inl (G.2.1 0, 12, .inl (f 7))) :: alo (g 100) Y' (nI (M + 1)) :: alo (g 101) K (v 20) ::
    (plw (v 20).toNatClampNeg K.2.2.2 u ++ (arw G K (v 20).toNatClampNeg ++ (arw G Y' (M + 1) ++ ((stw M Y.2.2.2 t ++ [(q, stc y)]) ++ T)))) := by
    have e3 : (nI (M + 1)).toNatClampNeg = M + 1 := nI_clamp hM
    rw [← e1]
    show aw G g Y' (va_up t M y) T K (va_up v 21 (nI (M + 1))) f u la = _
    unfold aw
    rw [show (va_up v 21 (nI (M + 1))) 21 = nI (M + 1) from rfl, e3]
    rfl
  rw [e]
  refine dm_cnt (fun _ a => ?_)
  simp only [alv, awy, List.cons_append, List.append_assoc, List.count_cons, List.count_append, List.count_nil]
  omega
theorem awy_p3 {G : dm_G} {g : Nat → Nat} {Y Y' : aK} {t : Nat → Nat → Int32} {T : va_W} {K : aK} {M : Nat} {v : Nat → Int32} {f : Nat → Nat → Int32} {u : Nat → Nat → Int32} {la : Nat → Option Nat} : (alv G (g 100) Y' 0 (awy G g Y t T K M v f u la [])).Perm (aw G g Y' t T K (va_up v 21 0) f u la ++ stw M Y.2.2.2 t) := by
  have e : aw G g Y' t T K (va_up v 21 0) f u la = (g 91, .inr (9, [.ref (g 100), .ref (g 101), .int (v 2), .ref (g 103), .ref (g 104), .ref (g 105), .ref (g 106), .ref (g 107), .int (v 8), .int (v 9), va_rf ((la 0).map K.2.2.2)])) :: (g 103, .inl (G.2.1 2, 96, .inl (f 3))) :: (g 104, .inl (G.2.1 0, 16, .inl (f 4))) :: (g 105, .inl (G.2.1 0, 12, .inl (f 5))) :: (g 106, .inl (G.2.1 0, 16, .inl (f 6))) :: (g 107, .inl (G.2.1 0, 12, .inl (f 7))) :: alo (g 100) Y' (nI 0) :: alo (g 101) K (v 20) ::
    (plw (v 20).toNatClampNeg K.2.2.2 u ++ (arw G K (v 20).toNatClampNeg ++ (arw G Y' 0 ++ T))) := rfl
  rw [e]
  refine dm_cnt (fun _ a => ?_)
  simp only [alv, awy, List.cons_append, List.append_assoc, List.count_cons, List.count_append, List.count_nil]
  omega
theorem awy_el {G : dm_G} {g : Nat → Nat} {Y : aK} {t : Nat → Nat → Int32} {T : va_W} {K : aK} {M : Nat} {v : Nat → Int32} {f : Nat → Nat → Int32} {u : Nat → Nat → Int32} {la : Nat → Option Nat} {x : va_W} : elT 11 Y M (awy G g Y t T K M v f u la x) := by
  intro j hj
  obtain ⟨k, hk⟩ := List.getElem?_of_mem (show (Y.2.2.2 j, stc (t j)) ∈ awy G g Y t T K M v f u la x by
    have h : (Y.2.2.2 j, stc (t j)) ∈ stw M Y.2.2.2 t := List.mem_map.mpr ⟨j, List.mem_range.mpr hj, rfl⟩
    unfold awy
    simp only [List.mem_cons, List.mem_append]
    simp only [h, true_or, or_true])
  exact ⟨k, _, hk⟩
/-- a statement's five numbers -/
def stf (x1 x2 x3 x4 x5 : Int32) : Nat → Int32 := fun k => if k = 0 then x1 else if k = 1 then x2 else if k = 2 then x3 else if k = 3 then x4 else x5


abbrev b_DM_placed : ByteArray := prog_1_method_16_code
abbrev y_DM_placed : MethodName := { cls := "DelayMachine", name := "placed", desc := "(I)I" }
theorem d_DM_placed_0 : decode b_DM_placed 0 = .ok (.iload_n 1, 1) := by decide +kernel
theorem d_DM_placed_1 : decode b_DM_placed 1 = .ok (.bipush (12), 2) := by decide +kernel
theorem d_DM_placed_3 : decode b_DM_placed 3 = .ok (.invokestatic 27, 3) := by decide +kernel
theorem d_DM_placed_6 : decode b_DM_placed 6 = .ok (.ifCond .eq (15), 3) := by decide +kernel
theorem d_DM_placed_9 : decode b_DM_placed 9 = .ok (.aload_n 0, 1) := by decide +kernel
theorem d_DM_placed_10 : decode b_DM_placed 10 = .ok (.getfield 23, 3) := by decide +kernel
theorem d_DM_placed_13 : decode b_DM_placed 13 = .ok (.getfield 139, 3) := by decide +kernel
theorem d_DM_placed_16 : decode b_DM_placed 16 = .ok (.iload_n 1, 1) := by decide +kernel
theorem d_DM_placed_17 : decode b_DM_placed 17 = .ok (.iaload, 1) := by decide +kernel
theorem d_DM_placed_18 : decode b_DM_placed 18 = .ok (.goto (4), 3) := by decide +kernel
theorem d_DM_placed_21 : decode b_DM_placed 21 = .ok (.iconst (-1), 1) := by decide +kernel
theorem d_DM_placed_22 : decode b_DM_placed 22 = .ok (.ireturn, 1) := by decide +kernel
theorem hd_DM_placed : y_DM_placed.cls ≠ "java/lang/invoke/MethodHandle" ∧ y_DM_placed.cls ≠ "java/lang/invoke/VarHandle" ∧ (parseMethodDescriptor y_DM_placed.desc).map (fun d => d.parameters.length) = some 1 := by decide +kernel
abbrev rm_DM_placed : Room := { frames := 1, cells := 0, slots := 0, locals := 21 }
def F_DM_placed (t : Nat → Nat → Int32) (x1 : Int32) (v : Nat → Int32) (f : Nat → Nat → Int32) (u : Nat → Nat → Int32) (la : Nat → Option Nat)  : Option (Int32) := (Option.bind (F_DM_within x1 (12 : Int32)) (fun z1 => (if z1 = (0 : Int32) then (some (-1 : Int32)) else (if x1 < 0 ∨ 12 ≤ x1.toNatClampNeg then none else (some ((f 7) x1.toNatClampNeg))))))
set_option maxHeartbeats 4000000 in
set_option maxRecDepth 100000 in
theorem c_DM_placed (l : Launch) (G : dm_G) (g : Nat → Nat) (Y : aK) (t : Nat → Nat → Int32) (h : Nat → Nat) (mv : Nat → Int32) (mf : Nat → Nat → Int32) (mi : Nat → Nat) (K : aK) (x1 : Int32) (v : Nat → Int32) (f : Nat → Nat → Int32) (u : Nat → Nat → Int32) (la : Nat → Option Nat) (RES : Int32) (hY : okA G Y (v 21)) (hk : okA G K (v 20)) (hF : F_DM_placed t x1 v f u la = some RES) : dm_Ct l y_DM_placed b_DM_placed 2 (some .int) rm_DM_placed G (aw G g Y t (mw G g h mv mf mi) K v f u la) [.ref (g 90), .int x1] (fun ov w' => ov = some (.int RES) ∧ w' = (aw G g Y t (mw G g h mv mf mi) K v f u la)) := by
  refine dm_Ct.of (by decide +kernel) (Nat.le_of_ble_eq_true rfl) ?_
  intro p e s m below meth c A ls B hl hP hD hS
  have hx := B.1
  have hb := B.2.1
  have hl : lv_has ls 2 [(0, .ref (g 90)), (1, .int x1)] := hl
  have hF : (Option.bind (F_DM_within x1 (12 : Int32)) (fun z1 => (if z1 = (0 : Int32) then (some (-1 : Int32)) else (if x1 < 0 ∨ 12 ≤ x1.toNatClampNeg then none else (some ((f 7) x1.toNatClampNeg)))))) = some RES := hF
  refine lv_iload_n hx hb d_DM_placed_0 rfl (lv_at hl 1 rfl) ?_
  refine lv_bipush (v := (12 : Int32)) hx hb d_DM_placed_1 (by decide) ?_
  obtain ⟨z1, hcz1, hF⟩ := dm_bind hF
  refine dm_callSw B [.int x1, .int (12 : Int32)] (c_DM_within l G (aw G g Y t (mw G g h mv mf mi) K v f u la) x1 (12 : Int32) z1 hcz1) k_334 k_335 k_1 k_336 hd_DM_within rfl ⟨by decide, by decide⟩ hP hD hS hl.1 (rest := []) rfl (Nat.le_of_ble_eq_true rfl) d_DM_placed_3 ⟨by decide, by decide⟩ (fun ov w' H locs hq hP hD hS => ?_)
  obtain ⟨rfl, rfl⟩ := hq
  have hP : va_P G.1 dm_cl (aw G g Y t (mw G g h mv mf mi) K v f u la) H := hP
  have hD : va_D A (aw G g Y t (mw G g h mv mf mi) K v f u la) := hD
  refine W.eq (g2 := F0 m 6 ls [.int z1]) rfl ?_
  refine lv_if_eq (tgt := 21) hx hb d_DM_placed_6 (by decide) (fun (hh : z1 = (0 : Int32)) => ?_) (fun (hh : ¬ z1 = (0 : Int32)) => ?_)
  · rw [if_pos hh] at hF
    refine lv_iconst (v := (-1 : Int32)) hx hb d_DM_placed_21 (by decide) ?_
    have hF := Option.some.inj hF
    subst hF
    exact dm_ret B rfl d_DM_placed_22 (by show 0 ≤ 0; omega) (by show 0 ≤ 0; omega) hP hD hS ⟨rfl, rfl⟩
  · rw [if_neg hh] at hF
    refine lv_aload_n hx hb d_DM_placed_9 rfl (lv_at hl 0 rfl) ?_
    refine aw_gd_1 B hP k_324 d_DM_placed_10 ?_
    refine aw_gn_0_7 B hP k_295 d_DM_placed_13 ?_
    refine lv_iload_n hx hb d_DM_placed_16 rfl (lv_at hl 1 rfl) ?_
    obtain ⟨hi, hF⟩ := dm_chk hF
    refine aw_a_5 (F := (f 7)) B hP rfl hi d_DM_placed_17 ?_
    refine lv_goto (tgt := 22) hx hb d_DM_placed_18 (by decide) ?_
    have hF := Option.some.inj hF
    subst hF
    exact dm_ret B rfl d_DM_placed_22 (by show 0 ≤ 0; omega) (by show 0 ≤ 0; omega) hP hD hS ⟨rfl, rfl⟩

abbrev b_DM_variable : ByteArray := prog_1_method_17_code
abbrev y_DM_variable : MethodName := { cls := "DelayMachine", name := "variable", desc := "(I)I" }
theorem d_DM_variable_0 : decode b_DM_variable 0 = .ok (.iload_n 1, 1) := by decide +kernel
theorem d_DM_variable_1 : decode b_DM_variable 1 = .ok (.bipush (16), 2) := by decide +kernel
theorem d_DM_variable_3 : decode b_DM_variable 3 = .ok (.invokestatic 27, 3) := by decide +kernel
theorem d_DM_variable_6 : decode b_DM_variable 6 = .ok (.ifCond .eq (15), 3) := by decide +kernel
theorem d_DM_variable_9 : decode b_DM_variable 9 = .ok (.aload_n 0, 1) := by decide +kernel
theorem d_DM_variable_10 : decode b_DM_variable 10 = .ok (.getfield 23, 3) := by decide +kernel
theorem d_DM_variable_13 : decode b_DM_variable 13 = .ok (.getfield 142, 3) := by decide +kernel
theorem d_DM_variable_16 : decode b_DM_variable 16 = .ok (.iload_n 1, 1) := by decide +kernel
theorem d_DM_variable_17 : decode b_DM_variable 17 = .ok (.iaload, 1) := by decide +kernel
theorem d_DM_variable_18 : decode b_DM_variable 18 = .ok (.goto (4), 3) := by decide +kernel
theorem d_DM_variable_21 : decode b_DM_variable 21 = .ok (.iconst (-1), 1) := by decide +kernel
theorem d_DM_variable_22 : decode b_DM_variable 22 = .ok (.ireturn, 1) := by decide +kernel
theorem hd_DM_variable : y_DM_variable.cls ≠ "java/lang/invoke/MethodHandle" ∧ y_DM_variable.cls ≠ "java/lang/invoke/VarHandle" ∧ (parseMethodDescriptor y_DM_variable.desc).map (fun d => d.parameters.length) = some 1 := by decide +kernel
abbrev rm_DM_variable : Room := { frames := 1, cells := 0, slots := 0, locals := 21 }
def F_DM_variable (t : Nat → Nat → Int32) (x1 : Int32) (v : Nat → Int32) (f : Nat → Nat → Int32) (u : Nat → Nat → Int32) (la : Nat → Option Nat)  : Option (Int32) := (Option.bind (F_DM_within x1 (16 : Int32)) (fun z1 => (if z1 = (0 : Int32) then (some (-1 : Int32)) else (if x1 < 0 ∨ 16 ≤ x1.toNatClampNeg then none else (some ((f 6) x1.toNatClampNeg))))))
set_option maxHeartbeats 4000000 in
set_option maxRecDepth 100000 in
theorem c_DM_variable (l : Launch) (G : dm_G) (g : Nat → Nat) (Y : aK) (t : Nat → Nat → Int32) (h : Nat → Nat) (mv : Nat → Int32) (mf : Nat → Nat → Int32) (mi : Nat → Nat) (K : aK) (x1 : Int32) (v : Nat → Int32) (f : Nat → Nat → Int32) (u : Nat → Nat → Int32) (la : Nat → Option Nat) (RES : Int32) (hY : okA G Y (v 21)) (hk : okA G K (v 20)) (hF : F_DM_variable t x1 v f u la = some RES) : dm_Ct l y_DM_variable b_DM_variable 2 (some .int) rm_DM_variable G (aw G g Y t (mw G g h mv mf mi) K v f u la) [.ref (g 90), .int x1] (fun ov w' => ov = some (.int RES) ∧ w' = (aw G g Y t (mw G g h mv mf mi) K v f u la)) := by
  refine dm_Ct.of (by decide +kernel) (Nat.le_of_ble_eq_true rfl) ?_
  intro p e s m below meth c A ls B hl hP hD hS
  have hx := B.1
  have hb := B.2.1
  have hl : lv_has ls 2 [(0, .ref (g 90)), (1, .int x1)] := hl
  have hF : (Option.bind (F_DM_within x1 (16 : Int32)) (fun z1 => (if z1 = (0 : Int32) then (some (-1 : Int32)) else (if x1 < 0 ∨ 16 ≤ x1.toNatClampNeg then none else (some ((f 6) x1.toNatClampNeg)))))) = some RES := hF
  refine lv_iload_n hx hb d_DM_variable_0 rfl (lv_at hl 1 rfl) ?_
  refine lv_bipush (v := (16 : Int32)) hx hb d_DM_variable_1 (by decide) ?_
  obtain ⟨z1, hcz1, hF⟩ := dm_bind hF
  refine dm_callSw B [.int x1, .int (16 : Int32)] (c_DM_within l G (aw G g Y t (mw G g h mv mf mi) K v f u la) x1 (16 : Int32) z1 hcz1) k_334 k_335 k_1 k_336 hd_DM_within rfl ⟨by decide, by decide⟩ hP hD hS hl.1 (rest := []) rfl (Nat.le_of_ble_eq_true rfl) d_DM_variable_3 ⟨by decide, by decide⟩ (fun ov w' H locs hq hP hD hS => ?_)
  obtain ⟨rfl, rfl⟩ := hq
  have hP : va_P G.1 dm_cl (aw G g Y t (mw G g h mv mf mi) K v f u la) H := hP
  have hD : va_D A (aw G g Y t (mw G g h mv mf mi) K v f u la) := hD
  refine W.eq (g2 := F0 m 6 ls [.int z1]) rfl ?_
  refine lv_if_eq (tgt := 21) hx hb d_DM_variable_6 (by decide) (fun (hh : z1 = (0 : Int32)) => ?_) (fun (hh : ¬ z1 = (0 : Int32)) => ?_)
  · rw [if_pos hh] at hF
    refine lv_iconst (v := (-1 : Int32)) hx hb d_DM_variable_21 (by decide) ?_
    have hF := Option.some.inj hF
    subst hF
    exact dm_ret B rfl d_DM_variable_22 (by show 0 ≤ 0; omega) (by show 0 ≤ 0; omega) hP hD hS ⟨rfl, rfl⟩
  · rw [if_neg hh] at hF
    refine lv_aload_n hx hb d_DM_variable_9 rfl (lv_at hl 0 rfl) ?_
    refine aw_gd_1 B hP k_324 d_DM_variable_10 ?_
    refine aw_gn_0_6 B hP k_293 d_DM_variable_13 ?_
    refine lv_iload_n hx hb d_DM_variable_16 rfl (lv_at hl 1 rfl) ?_
    obtain ⟨hi, hF⟩ := dm_chk hF
    refine aw_a_4 (F := (f 6)) B hP rfl hi d_DM_variable_17 ?_
    refine lv_goto (tgt := 22) hx hb d_DM_variable_18 (by decide) ?_
    have hF := Option.some.inj hF
    subst hF
    exact dm_ret B rfl d_DM_variable_22 (by show 0 ≤ 0; omega) (by show 0 ≤ 0; omega) hP hD hS ⟨rfl, rfl⟩

abbrev b_DM_statement : ByteArray := prog_1_method_13_code
abbrev y_DM_statement : MethodName := { cls := "DelayMachine", name := "statement", desc := "(IIIII)I" }
theorem d_DM_statement_0 : decode b_DM_statement 0 = .ok (.iload_n 1, 1) := by decide +kernel
theorem d_DM_statement_1 : decode b_DM_statement 1 = .ok (.bipush (7), 2) := by decide +kernel
theorem d_DM_statement_3 : decode b_DM_statement 3 = .ok (.invokestatic 27, 3) := by decide +kernel
theorem d_DM_statement_6 : decode b_DM_statement 6 = .ok (.ifCond .eq (50), 3) := by decide +kernel
theorem d_DM_statement_9 : decode b_DM_statement 9 = .ok (.iload_n 2, 1) := by decide +kernel
theorem d_DM_statement_10 : decode b_DM_statement 10 = .ok (.bipush (16), 2) := by decide +kernel
theorem d_DM_statement_12 : decode b_DM_statement 12 = .ok (.invokestatic 27, 3) := by decide +kernel
theorem d_DM_statement_15 : decode b_DM_statement 15 = .ok (.ifCond .eq (41), 3) := by decide +kernel
theorem d_DM_statement_18 : decode b_DM_statement 18 = .ok (.iload_n 3, 1) := by decide +kernel
theorem d_DM_statement_19 : decode b_DM_statement 19 = .ok (.bipush (16), 2) := by decide +kernel
theorem d_DM_statement_21 : decode b_DM_statement 21 = .ok (.invokestatic 27, 3) := by decide +kernel
theorem d_DM_statement_24 : decode b_DM_statement 24 = .ok (.ifCond .eq (32), 3) := by decide +kernel
theorem d_DM_statement_27 : decode b_DM_statement 27 = .ok (.iload 4, 2) := by decide +kernel
theorem d_DM_statement_29 : decode b_DM_statement 29 = .ok (.bipush (16), 2) := by decide +kernel
theorem d_DM_statement_31 : decode b_DM_statement 31 = .ok (.invokestatic 27, 3) := by decide +kernel
theorem d_DM_statement_34 : decode b_DM_statement 34 = .ok (.ifCond .eq (22), 3) := by decide +kernel
theorem d_DM_statement_37 : decode b_DM_statement 37 = .ok (.iload_n 1, 1) := by decide +kernel
theorem d_DM_statement_38 : decode b_DM_statement 38 = .ok (.iconst 4, 1) := by decide +kernel
theorem d_DM_statement_39 : decode b_DM_statement 39 = .ok (.if_icmp .ne (13), 3) := by decide +kernel
theorem d_DM_statement_42 : decode b_DM_statement 42 = .ok (.iload 5, 2) := by decide +kernel
theorem d_DM_statement_44 : decode b_DM_statement 44 = .ok (.bipush (12), 2) := by decide +kernel
theorem d_DM_statement_46 : decode b_DM_statement 46 = .ok (.invokestatic 27, 3) := by decide +kernel
theorem d_DM_statement_49 : decode b_DM_statement 49 = .ok (.ifCond .eq (7), 3) := by decide +kernel
theorem d_DM_statement_52 : decode b_DM_statement 52 = .ok (.iconst 1, 1) := by decide +kernel
theorem d_DM_statement_53 : decode b_DM_statement 53 = .ok (.goto (4), 3) := by decide +kernel
theorem d_DM_statement_56 : decode b_DM_statement 56 = .ok (.iconst 0, 1) := by decide +kernel
theorem d_DM_statement_57 : decode b_DM_statement 57 = .ok (.istore 6, 2) := by decide +kernel
theorem d_DM_statement_59 : decode b_DM_statement 59 = .ok (.iload 6, 2) := by decide +kernel
theorem d_DM_statement_61 : decode b_DM_statement 61 = .ok (.ifCond .eq (18), 3) := by decide +kernel
theorem d_DM_statement_64 : decode b_DM_statement 64 = .ok (.aload_n 0, 1) := by decide +kernel
theorem d_DM_statement_65 : decode b_DM_statement 65 = .ok (.getfield 23, 3) := by decide +kernel
theorem d_DM_statement_68 : decode b_DM_statement 68 = .ok (.getfield 111, 3) := by decide +kernel
theorem d_DM_statement_71 : decode b_DM_statement 71 = .ok (.invokevirtual 115, 3) := by decide +kernel
theorem d_DM_statement_74 : decode b_DM_statement 74 = .ok (.bipush (12), 2) := by decide +kernel
theorem d_DM_statement_76 : decode b_DM_statement 76 = .ok (.if_icmp .ne (5), 3) := by decide +kernel
theorem d_DM_statement_79 : decode b_DM_statement 79 = .ok (.iconst (-1), 1) := by decide +kernel
theorem d_DM_statement_80 : decode b_DM_statement 80 = .ok (.ireturn, 1) := by decide +kernel
theorem d_DM_statement_81 : decode b_DM_statement 81 = .ok (.aload_n 0, 1) := by decide +kernel
theorem d_DM_statement_82 : decode b_DM_statement 82 = .ok (.getfield 23, 3) := by decide +kernel
theorem d_DM_statement_85 : decode b_DM_statement 85 = .ok (.getfield 111, 3) := by decide +kernel
theorem d_DM_statement_88 : decode b_DM_statement 88 = .ok (.new 121, 3) := by decide +kernel
theorem d_DM_statement_91 : decode b_DM_statement 91 = .ok (.dup, 1) := by decide +kernel
theorem d_DM_statement_92 : decode b_DM_statement 92 = .ok (.iload_n 1, 1) := by decide +kernel
theorem d_DM_statement_93 : decode b_DM_statement 93 = .ok (.iload_n 2, 1) := by decide +kernel
theorem d_DM_statement_94 : decode b_DM_statement 94 = .ok (.iload_n 3, 1) := by decide +kernel
theorem d_DM_statement_95 : decode b_DM_statement 95 = .ok (.iload 4, 2) := by decide +kernel
theorem d_DM_statement_97 : decode b_DM_statement 97 = .ok (.iload 5, 2) := by decide +kernel
theorem d_DM_statement_99 : decode b_DM_statement 99 = .ok (.invokespecial 123, 3) := by decide +kernel
theorem d_DM_statement_102 : decode b_DM_statement 102 = .ok (.invokevirtual 126, 3) := by decide +kernel
theorem d_DM_statement_105 : decode b_DM_statement 105 = .ok (.pop, 1) := by decide +kernel
theorem d_DM_statement_106 : decode b_DM_statement 106 = .ok (.aload_n 0, 1) := by decide +kernel
theorem d_DM_statement_107 : decode b_DM_statement 107 = .ok (.getfield 23, 3) := by decide +kernel
theorem d_DM_statement_110 : decode b_DM_statement 110 = .ok (.getfield 111, 3) := by decide +kernel
theorem d_DM_statement_113 : decode b_DM_statement 113 = .ok (.invokevirtual 115, 3) := by decide +kernel
theorem d_DM_statement_116 : decode b_DM_statement 116 = .ok (.iconst 1, 1) := by decide +kernel
theorem d_DM_statement_117 : decode b_DM_statement 117 = .ok (.isub, 1) := by decide +kernel
theorem d_DM_statement_118 : decode b_DM_statement 118 = .ok (.ireturn, 1) := by decide +kernel
theorem hd_DM_statement : y_DM_statement.cls ≠ "java/lang/invoke/MethodHandle" ∧ y_DM_statement.cls ≠ "java/lang/invoke/VarHandle" ∧ (parseMethodDescriptor y_DM_statement.desc).map (fun d => d.parameters.length) = some 5 := by decide +kernel

set_option maxHeartbeats 4000000 in
set_option maxRecDepth 100000 in
theorem dm_stail {p : Program} {l : Launch} {e : Env} {R : Room} {s : State} {m : MethodId} {args : Array Value} {below : List Frame} {meth : Method} {c : Code} {H : Heap} {locs : List Loc} {nm : String} {G : dm_G} {A : Nat → Prop} {ls : Array Slot} {g h : Nat → Nat} {mv : Nat → Int32} {mf : Nat → Nat → Int32} {mi : Nat → Nat} {Y : aK} {t : Nat → Nat → Int32} {K : aK} {v : Nat → Int32} {f : Nat → Nat → Int32} {u : Nat → Nat → Int32} {la : Nat → Option Nat} {x1 x2 x3 x4 x5 : Int32}
    (B : dm_B p s m args meth c b_DM_statement 7 (some .int) "DelayMachine" nm G A) (hl : lv_has ls 7 [(0, .ref (g 90)), (1, .int x1), (2, .int x2), (3, .int x3), (4, .int x4), (5, .int x5)]) (hY : okA G Y (v 21)) (hk : okA G K (v 20)) (hi : ¬ 12 ≤ (v 21).toNatClampNeg) (hP : va_P G.1 dm_cl (aw G g Y t (mw G g h mv mf mi) K v f u la) H) (hD : va_D A (aw G g Y t (mw G g h mv mf mi) K v f u la)) (hS : va_S A s.heap H locs) (hc : 2 ≤ R.cells) (hs : 105 ≤ R.slots) (hfr : 7 ≤ R.frames) (hlo : 251 ≤ R.locals) :
    W p l e R s m args below meth c H locs 0 0 (dm_Z below G s args A 2 105 (fun ov w' => ∃ Y' : aK, okA G Y' ((va_up v 21 (v 21 + 1)) 21) ∧ okA G K ((va_up v 21 (v 21 + 1)) 20) ∧ ov = some (.int (v 21 + 1 - 1)) ∧ w' = (aw G g Y' (va_up t (v 21).toNatClampNeg (stf x1 x2 x3 x4 x5)) (mw G g h mv mf mi) K (va_up v 21 (v 21 + 1)) f u la))) (F0 m 81 ls []) := by
  have hx := B.1
  have hb := B.2.1
  have hK := B.2.2.2.2.2.2.2.2.1
  obtain ⟨hL, hz⟩ := hY
  generalize hNe : (v 21).toNatClampNeg = M at hL hz hi
  have hM : M < 12 := by omega
  refine lv_aload_n hx hb d_DM_statement_81 rfl (lv_at hl 0 rfl) ?_
  refine aw_gd_1 B hP k_324 d_DM_statement_82 ?_
  refine aw_gn_0_0 B hP k_286 d_DM_statement_85 ?_
  refine dm_new (ci := 11) (fs := [.int 0, .int 0, .int 0, .int 0, .int 0]) B rfl in_St t_St t_St_ok k_496 k_497 k_16 hP hD hS (by decide +kernel) (by omega) (by omega) d_DM_statement_88 (fun q H hP hD hS => ?_)
  refine lv_dup hx hb d_DM_statement_91 rfl ?_
  refine lv_iload_n hx hb d_DM_statement_92 rfl (lv_at hl 1 rfl) ?_
  refine lv_iload_n hx hb d_DM_statement_93 rfl (lv_at hl 2 rfl) ?_
  refine lv_iload_n hx hb d_DM_statement_94 rfl (lv_at hl 3 rfl) ?_
  refine lv_iload hx hb d_DM_statement_95 (lv_at hl 4 rfl) ?_
  refine lv_iload hx hb d_DM_statement_97 (lv_at hl 5 rfl) ?_
  refine dm_callINp (wr := (aw G g Y t (mw G g h mv mf mi) K v f u la)) B [.int x1, .int x2, .int x3, .int x4, .int x5] (c_St_init l G q x1 x2 x3 x4 x5) k_498 k_499 k_16 k_500 rfl hd_St_init rfl ⟨by show rm_St_init.frames + 1 ≤ R.frames; show 2 + 1 ≤ R.frames; omega, by show 8 + (6 + 11) + rm_St_init.locals ≤ R.locals; have : rm_St_init.locals ≤ 100 := (by decide); omega⟩ hP hD hS (List.Perm.refl _) hl.1 (rest := [.ref q, .ref (g 100)]) rfl (Nat.le_of_ble_eq_true rfl) d_DM_statement_99 ⟨by show 0 + 1 + 0 ≤ R.cells; omega, by show 0 + 5 + 0 ≤ R.slots; omega⟩ (fun ov w' H locs hq hP hD hS => ?_)
  obtain ⟨rfl, rfl⟩ := hq
  refine W.eq (g2 := F0 m 102 ls [.ref q, .ref (g 100)]) rfl ?_
  have hP : va_P G.1 dm_cl ((aw G g Y t (mw G g h mv mf mi) K v f u la) ++ [(q, stc (stf x1 x2 x3 x4 x5))]) H := hP
  have hD : va_D A ((aw G g Y t (mw G g h mv mf mi) K v f u la) ++ [(q, stc (stf x1 x2 x3 x4 x5))]) := hD
  have hP := dm_pP (awy_p1 hz (by omega)) hP
  have hD := dm_pD (awy_p1 hz (by omega)) hD
  refine dm_callVw B [.ref q] (c_add1 l G (g 100) M 11 q Y R_St F_St 5 _ hL (by omega) rfl k_1033 awy_el ?_) k_521 k_522 k_523 k_13 k_524 hd_add1 rfl ⟨by show 6 + 1 ≤ R.frames; omega, by show 8 + (2 + 11) + 230 ≤ R.locals; omega⟩ 0 rfl rfl hP hD hS hl.1 (rest := []) rfl (Nat.le_of_ble_eq_true rfl) d_DM_statement_102 ⟨by show 0 + 1 + 0 + 1 ≤ R.cells; omega, by show 0 + 5 + 0 + 100 ≤ R.slots; omega⟩ (fun ov w' H locs hq hP hD hS => ?_)
  · obtain ⟨k, hk⟩ := List.getElem?_of_mem (show (q, stc (stf x1 x2 x3 x4 x5)) ∈ awy G g Y t (mw G g h mv mf mi) K M v f u la [(q, stc (stf x1 x2 x3 x4 x5))] by
      unfold awy
      simp only [List.mem_cons, List.mem_append, List.not_mem_nil, or_false, or_true])
    exact ⟨k, _, hk⟩
  obtain ⟨Y1, hYP, hok1, rfl, rfl⟩ := hq
  refine W.eq (g2 := F0 m 105 ls [.int 1]) rfl ?_
  refine lv_pop hx hb d_DM_statement_105 rfl ?_
  have hP := dm_pP (awy_p2 hYP (by omega)) hP
  have hD := dm_pD (awy_p2 hYP (by omega)) hD
  have e21 : v 21 + 1 = nI (M + 1) := by rw [hz, nI_1]
  have hM1 : (nI (M + 1)).toNatClampNeg = M + 1 := nI_clamp (by omega)
  have hY1 : okA G Y1 ((va_up v 21 (v 21 + 1)) 21) := ⟨by show okL G Y1 (v 21 + 1).toNatClampNeg; rw [e21, hM1]; exact hok1, by show v 21 + 1 = nI (v 21 + 1).toNatClampNeg; rw [e21, hM1]⟩
  have hP : va_P G.1 dm_cl (aw G g Y1 (va_up t M (stf x1 x2 x3 x4 x5)) (mw G g h mv mf mi) K (va_up v 21 (v 21 + 1)) f u la) H := by rw [e21]; exact hP
  have hD : va_D A (aw G g Y1 (va_up t M (stf x1 x2 x3 x4 x5)) (mw G g h mv mf mi) K (va_up v 21 (v 21 + 1)) f u la) := by rw [e21]; exact hD
  refine lv_aload_n hx hb d_DM_statement_106 rfl (lv_at hl 0 rfl) ?_
  refine aw_gd_1 B hP k_324 d_DM_statement_107 ?_
  refine aw_gn_0_0 B hP k_286 d_DM_statement_110 ?_
  refine dm_callVw B [] (c_AL_size_s l G g Y1 _ _ K _ _ _ _ _ hY1 hk rfl) k_492 k_493 k_494 k_13 k_495 hd_AL_size_s rfl ⟨by show 0 + 1 ≤ R.frames; omega, by show 8 + (1 + 11) + 0 ≤ R.locals; omega⟩ 6 rfl rfl hP hD hS hl.1 (rest := []) rfl (Nat.le_of_ble_eq_true rfl) d_DM_statement_113 ⟨by show 0 + 1 + 0 + 1 + 0 ≤ R.cells; omega, by show 0 + 5 + 0 + 100 + 0 ≤ R.slots; omega⟩ (fun ov w' H locs hq hP hD hS => ?_)
  obtain ⟨rfl, rfl⟩ := hq
  refine W.eq (g2 := F0 m 116 ls [.int (v 21 + 1)]) rfl ?_
  refine lv_iconst (v := (1 : Int32)) hx hb d_DM_statement_116 (by decide) ?_
  refine lv_isub hx hb d_DM_statement_117 ?_
  exact dm_ret B rfl d_DM_statement_118 (by decide) (by decide) hP hD hS ⟨Y1, hY1, hk, rfl, rfl⟩

abbrev rm_DM_statement : Room := { frames := 7, cells := 2, slots := 105, locals := 251 }
def F_DM_statement_79 (t : Nat → Nat → Int32) (x1 x2 x3 x4 x5 : Int32) (v : Nat → Int32) (f : Nat → Nat → Int32) (u : Nat → Nat → Int32) (la : Nat → Option Nat)    : Option (Int32 × (Nat → Nat → Int32) × (Nat → Int32)) := (some ((-1 : Int32), t, v))
def F_DM_statement_57 (t : Nat → Nat → Int32) (x1 x2 x3 x4 x5 : Int32) (v : Nat → Int32) (f : Nat → Nat → Int32) (u : Nat → Nat → Int32) (la : Nat → Option Nat)  (s0 : Int32)  : Option (Int32 × (Nat → Nat → Int32) × (Nat → Int32)) := (if s0 = (0 : Int32) then (F_DM_statement_79 t x1 x2 x3 x4 x5 v f u la) else (Option.bind (F_AL_size_s t   v f u la) (fun z1 => (if z1 = (12 : Int32) then (F_DM_statement_79 t x1 x2 x3 x4 x5 v f u la) else (if 12 ≤ (v 21).toNatClampNeg then none else (some ((v 21 + 1 - 1), (va_up t (v 21).toNatClampNeg (stf x1 x2 x3 x4 x5)), (va_up v 21 (v 21 + 1)))))))))
def F_DM_statement_52 (t : Nat → Nat → Int32) (x1 x2 x3 x4 x5 : Int32) (v : Nat → Int32) (f : Nat → Nat → Int32) (u : Nat → Nat → Int32) (la : Nat → Option Nat)    : Option (Int32 × (Nat → Nat → Int32) × (Nat → Int32)) := (F_DM_statement_57 t x1 x2 x3 x4 x5 v f u la (1 : Int32))
def F_DM_statement_56 (t : Nat → Nat → Int32) (x1 x2 x3 x4 x5 : Int32) (v : Nat → Int32) (f : Nat → Nat → Int32) (u : Nat → Nat → Int32) (la : Nat → Option Nat)    : Option (Int32 × (Nat → Nat → Int32) × (Nat → Int32)) := (F_DM_statement_57 t x1 x2 x3 x4 x5 v f u la (0 : Int32))
def F_DM_statement (t : Nat → Nat → Int32) (x1 x2 x3 x4 x5 : Int32) (v : Nat → Int32) (f : Nat → Nat → Int32) (u : Nat → Nat → Int32) (la : Nat → Option Nat)  : Option (Int32 × (Nat → Nat → Int32) × (Nat → Int32)) := (Option.bind (F_DM_within x1 (7 : Int32)) (fun z1 => (if z1 = (0 : Int32) then (F_DM_statement_56 t x1 x2 x3 x4 x5 v f u la) else (Option.bind (F_DM_within x2 (16 : Int32)) (fun z2 => (if z2 = (0 : Int32) then (F_DM_statement_56 t x1 x2 x3 x4 x5 v f u la) else (Option.bind (F_DM_within x3 (16 : Int32)) (fun z3 => (if z3 = (0 : Int32) then (F_DM_statement_56 t x1 x2 x3 x4 x5 v f u la) else (Option.bind (F_DM_within x4 (16 : Int32)) (fun z4 => (if z4 = (0 : Int32) then (F_DM_statement_56 t x1 x2 x3 x4 x5 v f u la) else (if x1 = (4 : Int32) then (Option.bind (F_DM_within x5 (12 : Int32)) (fun z5 => (if z5 = (0 : Int32) then (F_DM_statement_56 t x1 x2 x3 x4 x5 v f u la) else (F_DM_statement_52 t x1 x2 x3 x4 x5 v f u la)))) else (F_DM_statement_52 t x1 x2 x3 x4 x5 v f u la))))))))))))))
set_option maxHeartbeats 4000000 in
set_option maxRecDepth 100000 in
theorem c_DM_statement (l : Launch) (G : dm_G) (g : Nat → Nat) (Y : aK) (t : Nat → Nat → Int32) (h : Nat → Nat) (mv : Nat → Int32) (mf : Nat → Nat → Int32) (mi : Nat → Nat) (K : aK) (x1 x2 x3 x4 x5 : Int32) (v : Nat → Int32) (f : Nat → Nat → Int32) (u : Nat → Nat → Int32) (la : Nat → Option Nat) (RES : Int32 × (Nat → Nat → Int32) × (Nat → Int32)) (hY : okA G Y (v 21)) (hk : okA G K (v 20)) (hF : F_DM_statement t x1 x2 x3 x4 x5 v f u la = some RES) : dm_Ct l y_DM_statement b_DM_statement 7 (some .int) rm_DM_statement G (aw G g Y t (mw G g h mv mf mi) K v f u la) [.ref (g 90), .int x1, .int x2, .int x3, .int x4, .int x5] (fun ov w' => ∃ Y' : aK, okA G Y' (RES.2.2 21) ∧ okA G K (RES.2.2 20) ∧ ov = some (.int RES.1) ∧ w' = (aw G g Y' RES.2.1 (mw G g h mv mf mi) K RES.2.2 f u la)) := by
  refine dm_Ct.of (by decide +kernel) (Nat.le_of_ble_eq_true rfl) ?_
  intro p e s m below meth c A ls B hl hP hD hS
  have hx := B.1
  have hb := B.2.1
  have hl : lv_has ls 7 [(0, .ref (g 90)), (1, .int x1), (2, .int x2), (3, .int x3), (4, .int x4), (5, .int x5)] := hl
  have K79 : ∀ (ls : Array Slot) (H : Heap) (locs : List Loc)  , lv_has ls 7 [] → va_P G.1 dm_cl (aw G g Y t (mw G g h mv mf mi) K v f u la) H → va_D A (aw G g Y t (mw G g h mv mf mi) K v f u la) → va_S A s.heap H locs → F_DM_statement_79 t x1 x2 x3 x4 x5 v f u la   = some RES → W p l e rm_DM_statement s m ([.ref (g 90), .int x1, .int x2, .int x3, .int x4, .int x5] : List Value).toArray below meth c H locs 0 0 (dm_Z below G s ([.ref (g 90), .int x1, .int x2, .int x3, .int x4, .int x5] : List Value).toArray A rm_DM_statement.cells rm_DM_statement.slots (fun ov w' => ∃ Y' : aK, okA G Y' (RES.2.2 21) ∧ okA G K (RES.2.2 20) ∧ ov = some (.int RES.1) ∧ w' = (aw G g Y' RES.2.1 (mw G g h mv mf mi) K RES.2.2 f u la))) (F0 m 79 ls []) := by
    intro ls H locs  hl hP hD hS hF
    have hF : (some ((-1 : Int32), t, v)) = some RES := hF
    refine lv_iconst (v := (-1 : Int32)) hx hb d_DM_statement_79 (by decide) ?_
    have hF := Option.some.inj hF
    subst hF
    exact dm_ret B rfl d_DM_statement_80 (by decide) (by decide) hP hD hS ⟨Y, hY, hk, rfl, rfl⟩
  have K57 : ∀ (ls : Array Slot) (H : Heap) (locs : List Loc) (s0 : Int32) , lv_has ls 7 [(0, .ref (g 90)), (1, .int x1), (2, .int x2), (3, .int x3), (4, .int x4), (5, .int x5)] → va_P G.1 dm_cl (aw G g Y t (mw G g h mv mf mi) K v f u la) H → va_D A (aw G g Y t (mw G g h mv mf mi) K v f u la) → va_S A s.heap H locs → F_DM_statement_57 t x1 x2 x3 x4 x5 v f u la s0  = some RES → W p l e rm_DM_statement s m ([.ref (g 90), .int x1, .int x2, .int x3, .int x4, .int x5] : List Value).toArray below meth c H locs 0 0 (dm_Z below G s ([.ref (g 90), .int x1, .int x2, .int x3, .int x4, .int x5] : List Value).toArray A rm_DM_statement.cells rm_DM_statement.slots (fun ov w' => ∃ Y' : aK, okA G Y' (RES.2.2 21) ∧ okA G K (RES.2.2 20) ∧ ov = some (.int RES.1) ∧ w' = (aw G g Y' RES.2.1 (mw G g h mv mf mi) K RES.2.2 f u la))) (F0 m 57 ls [.int s0]) := by
    intro ls H locs s0 hl hP hD hS hF
    have hF : (if s0 = (0 : Int32) then (F_DM_statement_79 t x1 x2 x3 x4 x5 v f u la) else (Option.bind (F_AL_size_s t   v f u la) (fun z1 => (if z1 = (12 : Int32) then (F_DM_statement_79 t x1 x2 x3 x4 x5 v f u la) else (if 12 ≤ (v 21).toNatClampNeg then none else (some ((v 21 + 1 - 1), (va_up t (v 21).toNatClampNeg (stf x1 x2 x3 x4 x5)), (va_up v 21 (v 21 + 1))))))))) = some RES := hF
    refine lv_istore (lv' := [(6, .int s0), (0, .ref (g 90)), (1, .int x1), (2, .int x2), (3, .int x3), (4, .int x4), (5, .int x5)]) hx hb d_DM_statement_57 hl (Nat.le_of_ble_eq_true rfl) rfl (fun ls hl => ?_)
    have hl : lv_has ls 7 [(0, .ref (g 90)), (1, .int x1), (2, .int x2), (3, .int x3), (4, .int x4), (5, .int x5), (6, .int s0)] := lv_sub hl [1, 2, 3, 4, 5, 6, 0] rfl
    refine lv_iload hx hb d_DM_statement_59 (lv_at hl 6 rfl) ?_
    refine lv_if_eq (tgt := 79) hx hb d_DM_statement_61 (by decide) (fun (hh : s0 = (0 : Int32)) => ?_) (fun (hh : ¬ s0 = (0 : Int32)) => ?_)
    · rw [if_pos hh] at hF
      exact K79 ls _ _  (lv_sub hl [] rfl) hP hD hS hF
    · rw [if_neg hh] at hF
      refine lv_aload_n hx hb d_DM_statement_64 rfl (lv_at hl 0 rfl) ?_
      refine aw_gd_1 B hP k_324 d_DM_statement_65 ?_
      refine aw_gn_0_0 B hP k_286 d_DM_statement_68 ?_
      obtain ⟨z1, hcz1, hF⟩ := dm_bind hF
      refine dm_callVw B [] (c_AL_size_s l G g Y t (mw G g h mv mf mi) K   v f u la z1 hY hk hcz1) k_492 k_493 k_494 k_13 k_495 hd_AL_size_s rfl ⟨by decide, by decide⟩ 6 rfl rfl hP hD hS hl.1 (rest := []) rfl (Nat.le_of_ble_eq_true rfl) d_DM_statement_71 ⟨(by show 0 + 0 ≤ 2; omega), (by show 0 + 0 ≤ 105; omega)⟩ (fun ov w' H locs hq hP hD hS => ?_)
      obtain ⟨rfl, rfl⟩ := hq
      have hP : va_P G.1 dm_cl (aw G g Y t (mw G g h mv mf mi) K v f u la) H := hP
      have hD : va_D A (aw G g Y t (mw G g h mv mf mi) K v f u la) := hD
      refine W.eq (g2 := F0 m 74 ls [.int z1]) rfl ?_
      refine lv_bipush (v := (12 : Int32)) hx hb d_DM_statement_74 (by decide) ?_
      refine lv_icmp_ne (tgt := 81) hx hb d_DM_statement_76 (by decide) (fun (hh : ¬ z1 = (12 : Int32)) => ?_) (fun (hh : z1 = (12 : Int32)) => ?_)
      · rw [if_neg hh] at hF
        obtain ⟨hi, hF⟩ := dm_chk hF
        have hF := Option.some.inj hF
        subst hF
        exact dm_stail (R := rm_DM_statement) B (lv_sub hl [0, 1, 2, 3, 4, 5] rfl) hY hk hi hP hD hS (by decide) (by decide) (by decide) (by decide)
      · rw [if_pos hh] at hF
        exact K79 ls _ _  (lv_sub hl [] rfl) hP hD hS hF
  have K52 : ∀ (ls : Array Slot) (H : Heap) (locs : List Loc)  , lv_has ls 7 [(0, .ref (g 90)), (1, .int x1), (2, .int x2), (3, .int x3), (4, .int x4), (5, .int x5)] → va_P G.1 dm_cl (aw G g Y t (mw G g h mv mf mi) K v f u la) H → va_D A (aw G g Y t (mw G g h mv mf mi) K v f u la) → va_S A s.heap H locs → F_DM_statement_52 t x1 x2 x3 x4 x5 v f u la   = some RES → W p l e rm_DM_statement s m ([.ref (g 90), .int x1, .int x2, .int x3, .int x4, .int x5] : List Value).toArray below meth c H locs 0 0 (dm_Z below G s ([.ref (g 90), .int x1, .int x2, .int x3, .int x4, .int x5] : List Value).toArray A rm_DM_statement.cells rm_DM_statement.slots (fun ov w' => ∃ Y' : aK, okA G Y' (RES.2.2 21) ∧ okA G K (RES.2.2 20) ∧ ov = some (.int RES.1) ∧ w' = (aw G g Y' RES.2.1 (mw G g h mv mf mi) K RES.2.2 f u la))) (F0 m 52 ls []) := by
    intro ls H locs  hl hP hD hS hF
    have hF : (F_DM_statement_57 t x1 x2 x3 x4 x5 v f u la (1 : Int32)) = some RES := hF
    refine lv_iconst (v := (1 : Int32)) hx hb d_DM_statement_52 (by decide) ?_
    refine lv_goto (tgt := 57) hx hb d_DM_statement_53 (by decide) ?_
    exact K57 ls _ _ (1 : Int32) (lv_sub hl [0, 1, 2, 3, 4, 5] rfl) hP hD hS hF
  have K56 : ∀ (ls : Array Slot) (H : Heap) (locs : List Loc)  , lv_has ls 7 [(0, .ref (g 90)), (1, .int x1), (2, .int x2), (3, .int x3), (4, .int x4), (5, .int x5)] → va_P G.1 dm_cl (aw G g Y t (mw G g h mv mf mi) K v f u la) H → va_D A (aw G g Y t (mw G g h mv mf mi) K v f u la) → va_S A s.heap H locs → F_DM_statement_56 t x1 x2 x3 x4 x5 v f u la   = some RES → W p l e rm_DM_statement s m ([.ref (g 90), .int x1, .int x2, .int x3, .int x4, .int x5] : List Value).toArray below meth c H locs 0 0 (dm_Z below G s ([.ref (g 90), .int x1, .int x2, .int x3, .int x4, .int x5] : List Value).toArray A rm_DM_statement.cells rm_DM_statement.slots (fun ov w' => ∃ Y' : aK, okA G Y' (RES.2.2 21) ∧ okA G K (RES.2.2 20) ∧ ov = some (.int RES.1) ∧ w' = (aw G g Y' RES.2.1 (mw G g h mv mf mi) K RES.2.2 f u la))) (F0 m 56 ls []) := by
    intro ls H locs  hl hP hD hS hF
    have hF : (F_DM_statement_57 t x1 x2 x3 x4 x5 v f u la (0 : Int32)) = some RES := hF
    refine lv_iconst (v := (0 : Int32)) hx hb d_DM_statement_56 (by decide) ?_
    exact K57 ls _ _ (0 : Int32) (lv_sub hl [0, 1, 2, 3, 4, 5] rfl) hP hD hS hF
  have hF : (Option.bind (F_DM_within x1 (7 : Int32)) (fun z1 => (if z1 = (0 : Int32) then (F_DM_statement_56 t x1 x2 x3 x4 x5 v f u la) else (Option.bind (F_DM_within x2 (16 : Int32)) (fun z2 => (if z2 = (0 : Int32) then (F_DM_statement_56 t x1 x2 x3 x4 x5 v f u la) else (Option.bind (F_DM_within x3 (16 : Int32)) (fun z3 => (if z3 = (0 : Int32) then (F_DM_statement_56 t x1 x2 x3 x4 x5 v f u la) else (Option.bind (F_DM_within x4 (16 : Int32)) (fun z4 => (if z4 = (0 : Int32) then (F_DM_statement_56 t x1 x2 x3 x4 x5 v f u la) else (if x1 = (4 : Int32) then (Option.bind (F_DM_within x5 (12 : Int32)) (fun z5 => (if z5 = (0 : Int32) then (F_DM_statement_56 t x1 x2 x3 x4 x5 v f u la) else (F_DM_statement_52 t x1 x2 x3 x4 x5 v f u la)))) else (F_DM_statement_52 t x1 x2 x3 x4 x5 v f u la)))))))))))))) = some RES := hF
  refine lv_iload_n hx hb d_DM_statement_0 rfl (lv_at hl 1 rfl) ?_
  refine lv_bipush (v := (7 : Int32)) hx hb d_DM_statement_1 (by decide) ?_
  obtain ⟨z1, hcz1, hF⟩ := dm_bind hF
  refine dm_callSw B [.int x1, .int (7 : Int32)] (c_DM_within l G (aw G g Y t (mw G g h mv mf mi) K v f u la) x1 (7 : Int32) z1 hcz1) k_334 k_335 k_1 k_336 hd_DM_within rfl ⟨by decide, by decide⟩ hP hD hS hl.1 (rest := []) rfl (Nat.le_of_ble_eq_true rfl) d_DM_statement_3 ⟨by decide, by decide⟩ (fun ov w' H locs hq hP hD hS => ?_)
  obtain ⟨rfl, rfl⟩ := hq
  have hP : va_P G.1 dm_cl (aw G g Y t (mw G g h mv mf mi) K v f u la) H := hP
  have hD : va_D A (aw G g Y t (mw G g h mv mf mi) K v f u la) := hD
  refine W.eq (g2 := F0 m 6 ls [.int z1]) rfl ?_
  refine lv_if_eq (tgt := 56) hx hb d_DM_statement_6 (by decide) (fun (hh : z1 = (0 : Int32)) => ?_) (fun (hh : ¬ z1 = (0 : Int32)) => ?_)
  · rw [if_pos hh] at hF
    exact K56 ls _ _  (lv_sub hl [0, 1, 2, 3, 4, 5] rfl) hP hD hS hF
  · rw [if_neg hh] at hF
    refine lv_iload_n hx hb d_DM_statement_9 rfl (lv_at hl 2 rfl) ?_
    refine lv_bipush (v := (16 : Int32)) hx hb d_DM_statement_10 (by decide) ?_
    obtain ⟨z2, hcz2, hF⟩ := dm_bind hF
    refine dm_callSw B [.int x2, .int (16 : Int32)] (c_DM_within l G (aw G g Y t (mw G g h mv mf mi) K v f u la) x2 (16 : Int32) z2 hcz2) k_334 k_335 k_1 k_336 hd_DM_within rfl ⟨by decide, by decide⟩ hP hD hS hl.1 (rest := []) rfl (Nat.le_of_ble_eq_true rfl) d_DM_statement_12 ⟨by decide, by decide⟩ (fun ov w' H locs hq hP hD hS => ?_)
    obtain ⟨rfl, rfl⟩ := hq
    have hP : va_P G.1 dm_cl (aw G g Y t (mw G g h mv mf mi) K v f u la) H := hP
    have hD : va_D A (aw G g Y t (mw G g h mv mf mi) K v f u la) := hD
    refine W.eq (g2 := F0 m 15 ls [.int z2]) rfl ?_
    refine lv_if_eq (tgt := 56) hx hb d_DM_statement_15 (by decide) (fun (hh : z2 = (0 : Int32)) => ?_) (fun (hh : ¬ z2 = (0 : Int32)) => ?_)
    · rw [if_pos hh] at hF
      exact K56 ls _ _  (lv_sub hl [0, 1, 2, 3, 4, 5] rfl) hP hD hS hF
    · rw [if_neg hh] at hF
      refine lv_iload_n hx hb d_DM_statement_18 rfl (lv_at hl 3 rfl) ?_
      refine lv_bipush (v := (16 : Int32)) hx hb d_DM_statement_19 (by decide) ?_
      obtain ⟨z3, hcz3, hF⟩ := dm_bind hF
      refine dm_callSw B [.int x3, .int (16 : Int32)] (c_DM_within l G (aw G g Y t (mw G g h mv mf mi) K v f u la) x3 (16 : Int32) z3 hcz3) k_334 k_335 k_1 k_336 hd_DM_within rfl ⟨by decide, by decide⟩ hP hD hS hl.1 (rest := []) rfl (Nat.le_of_ble_eq_true rfl) d_DM_statement_21 ⟨by decide, by decide⟩ (fun ov w' H locs hq hP hD hS => ?_)
      obtain ⟨rfl, rfl⟩ := hq
      have hP : va_P G.1 dm_cl (aw G g Y t (mw G g h mv mf mi) K v f u la) H := hP
      have hD : va_D A (aw G g Y t (mw G g h mv mf mi) K v f u la) := hD
      refine W.eq (g2 := F0 m 24 ls [.int z3]) rfl ?_
      refine lv_if_eq (tgt := 56) hx hb d_DM_statement_24 (by decide) (fun (hh : z3 = (0 : Int32)) => ?_) (fun (hh : ¬ z3 = (0 : Int32)) => ?_)
      · rw [if_pos hh] at hF
        exact K56 ls _ _  (lv_sub hl [0, 1, 2, 3, 4, 5] rfl) hP hD hS hF
      · rw [if_neg hh] at hF
        refine lv_iload hx hb d_DM_statement_27 (lv_at hl 4 rfl) ?_
        refine lv_bipush (v := (16 : Int32)) hx hb d_DM_statement_29 (by decide) ?_
        obtain ⟨z4, hcz4, hF⟩ := dm_bind hF
        refine dm_callSw B [.int x4, .int (16 : Int32)] (c_DM_within l G (aw G g Y t (mw G g h mv mf mi) K v f u la) x4 (16 : Int32) z4 hcz4) k_334 k_335 k_1 k_336 hd_DM_within rfl ⟨by decide, by decide⟩ hP hD hS hl.1 (rest := []) rfl (Nat.le_of_ble_eq_true rfl) d_DM_statement_31 ⟨by decide, by decide⟩ (fun ov w' H locs hq hP hD hS => ?_)
        obtain ⟨rfl, rfl⟩ := hq
        have hP : va_P G.1 dm_cl (aw G g Y t (mw G g h mv mf mi) K v f u la) H := hP
        have hD : va_D A (aw G g Y t (mw G g h mv mf mi) K v f u la) := hD
        refine W.eq (g2 := F0 m 34 ls [.int z4]) rfl ?_
        refine lv_if_eq (tgt := 56) hx hb d_DM_statement_34 (by decide) (fun (hh : z4 = (0 : Int32)) => ?_) (fun (hh : ¬ z4 = (0 : Int32)) => ?_)
        · rw [if_pos hh] at hF
          exact K56 ls _ _  (lv_sub hl [0, 1, 2, 3, 4, 5] rfl) hP hD hS hF
        · rw [if_neg hh] at hF
          refine lv_iload_n hx hb d_DM_statement_37 rfl (lv_at hl 1 rfl) ?_
          refine lv_iconst (v := (4 : Int32)) hx hb d_DM_statement_38 (by decide) ?_
          refine lv_icmp_ne (tgt := 52) hx hb d_DM_statement_39 (by decide) (fun (hh : ¬ x1 = (4 : Int32)) => ?_) (fun (hh : x1 = (4 : Int32)) => ?_)
          · rw [if_neg hh] at hF
            exact K52 ls _ _  (lv_sub hl [0, 1, 2, 3, 4, 5] rfl) hP hD hS hF
          · rw [if_pos hh] at hF
            refine lv_iload hx hb d_DM_statement_42 (lv_at hl 5 rfl) ?_
            refine lv_bipush (v := (12 : Int32)) hx hb d_DM_statement_44 (by decide) ?_
            obtain ⟨z5, hcz5, hF⟩ := dm_bind hF
            refine dm_callSw B [.int x5, .int (12 : Int32)] (c_DM_within l G (aw G g Y t (mw G g h mv mf mi) K v f u la) x5 (12 : Int32) z5 hcz5) k_334 k_335 k_1 k_336 hd_DM_within rfl ⟨by decide, by decide⟩ hP hD hS hl.1 (rest := []) rfl (Nat.le_of_ble_eq_true rfl) d_DM_statement_46 ⟨by decide, by decide⟩ (fun ov w' H locs hq hP hD hS => ?_)
            obtain ⟨rfl, rfl⟩ := hq
            have hP : va_P G.1 dm_cl (aw G g Y t (mw G g h mv mf mi) K v f u la) H := hP
            have hD : va_D A (aw G g Y t (mw G g h mv mf mi) K v f u la) := hD
            refine W.eq (g2 := F0 m 49 ls [.int z5]) rfl ?_
            refine lv_if_eq (tgt := 56) hx hb d_DM_statement_49 (by decide) (fun (hh : z5 = (0 : Int32)) => ?_) (fun (hh : ¬ z5 = (0 : Int32)) => ?_)
            · rw [if_pos hh] at hF
              exact K56 ls _ _  (lv_sub hl [0, 1, 2, 3, 4, 5] rfl) hP hD hS hF
            · rw [if_neg hh] at hF
              exact K52 ls _ _  (lv_sub hl [0, 1, 2, 3, 4, 5] rfl) hP hD hS hF

abbrev b_DM_clear : ByteArray := prog_1_method_14_code
abbrev y_DM_clear : MethodName := { cls := "DelayMachine", name := "clear", desc := "()V" }
theorem d_DM_clear_0 : decode b_DM_clear 0 = .ok (.aload_n 0, 1) := by decide +kernel
theorem d_DM_clear_1 : decode b_DM_clear 1 = .ok (.getfield 23, 3) := by decide +kernel
theorem d_DM_clear_4 : decode b_DM_clear 4 = .ok (.getfield 111, 3) := by decide +kernel
theorem d_DM_clear_7 : decode b_DM_clear 7 = .ok (.invokevirtual 129, 3) := by decide +kernel
theorem d_DM_clear_10 : decode b_DM_clear 10 = .ok (.return_, 1) := by decide +kernel
theorem hd_DM_clear : y_DM_clear.cls ≠ "java/lang/invoke/MethodHandle" ∧ y_DM_clear.cls ≠ "java/lang/invoke/VarHandle" ∧ (parseMethodDescriptor y_DM_clear.desc).map (fun d => d.parameters.length) = some 0 := by decide +kernel
abbrev rm_DM_clear : Room := { frames := 1, cells := 0, slots := 0, locals := 23 }

set_option maxHeartbeats 4000000 in
set_option maxRecDepth 100000 in
theorem c_DM_clear (l : Launch) (G : dm_G) (g : Nat → Nat) (Y : aK) (t : Nat → Nat → Int32) (h : Nat → Nat) (mv : Nat → Int32) (mf : Nat → Nat → Int32) (mi : Nat → Nat) (K : aK) (v : Nat → Int32) (f : Nat → Nat → Int32) (u : Nat → Nat → Int32) (la : Nat → Option Nat) (hY : okA G Y (v 21)) : dm_Ct l y_DM_clear b_DM_clear 1 none rm_DM_clear G (aw G g Y t (mw G g h mv mf mi) K v f u la) [.ref (g 90)] (fun ov w' => ∃ Y' : aK, okA G Y' 0 ∧ ov = none ∧ w' = (aw G g Y' t (mw G g h mv mf mi) K (va_up v 21 0) f u la)) := by
  refine dm_Ct.of (by decide +kernel) (Nat.le_of_ble_eq_true rfl) ?_
  intro p e s m below meth c A ls B hl hP hD hS
  have hx := B.1
  have hb := B.2.1
  have hl : lv_has ls 1 [(0, .ref (g 90))] := hl
  obtain ⟨hL, hz⟩ := hY
  generalize hNe : (v 21).toNatClampNeg = M at hL hz
  have hM := hL.1
  refine lv_aload_n hx hb d_DM_clear_0 rfl (lv_at hl 0 rfl) ?_
  refine aw_gd_1 B hP k_324 d_DM_clear_1 ?_
  refine aw_gn_0_0 B hP k_286 d_DM_clear_4 ?_
  have hp := awy_p1 (G := G) (g := g) (Y := Y) (t := t) (T := (mw G g h mv mf mi)) (K := K) (f := f) (u := u) (la := la) (x := []) hz (by omega)
  rw [List.append_nil] at hp
  have hP := dm_pP hp hP
  have hD := dm_pD hp hD
  refine dm_callVw B [] (c_clear l G (g 100) M Y _ hL) k_586 k_587 k_588 k_13 k_589 hd_clear rfl ⟨by decide, by decide⟩ 0 rfl rfl hP hD hS hl.1 (rest := []) rfl (Nat.le_of_ble_eq_true rfl) d_DM_clear_7 ⟨by decide, by decide⟩ (fun ov w' H locs hq hP hD hS => ?_)
  obtain ⟨Y1, hYP, hok1, rfl, rfl⟩ := hq
  refine W.eq (g2 := F0 m 10 ls []) rfl ?_
  have hP := dm_dP awy_p3 hP
  have hD := dm_dD awy_p3 hD
  exact dm_retv B d_DM_clear_10 (by decide) (by decide) hP hD hS ⟨Y1, ⟨hok1, by decide⟩, rfl, rfl⟩

abbrev b_DM_assemble : ByteArray := prog_1_method_15_code
abbrev y_DM_assemble : MethodName := { cls := "DelayMachine", name := "assemble", desc := "()I" }
theorem d_DM_assemble_0 : decode b_DM_assemble 0 = .ok (.aload_n 0, 1) := by decide +kernel
theorem d_DM_assemble_1 : decode b_DM_assemble 1 = .ok (.getfield 14, 3) := by decide +kernel
theorem d_DM_assemble_4 : decode b_DM_assemble 4 = .ok (.getfield 67, 3) := by decide +kernel
theorem d_DM_assemble_7 : decode b_DM_assemble 7 = .ok (.ifCond .eq (5), 3) := by decide +kernel
theorem d_DM_assemble_10 : decode b_DM_assemble 10 = .ok (.iconst (-1), 1) := by decide +kernel
theorem d_DM_assemble_11 : decode b_DM_assemble 11 = .ok (.ireturn, 1) := by decide +kernel
theorem d_DM_assemble_12 : decode b_DM_assemble 12 = .ok (.aload_n 0, 1) := by decide +kernel
theorem d_DM_assemble_13 : decode b_DM_assemble 13 = .ok (.getfield 23, 3) := by decide +kernel
theorem d_DM_assemble_16 : decode b_DM_assemble 16 = .ok (.invokevirtual 132, 3) := by decide +kernel
theorem d_DM_assemble_19 : decode b_DM_assemble 19 = .ok (.istore_n 1, 1) := by decide +kernel
theorem d_DM_assemble_20 : decode b_DM_assemble 20 = .ok (.iload_n 1, 1) := by decide +kernel
theorem d_DM_assemble_21 : decode b_DM_assemble 21 = .ok (.ifCond .lt (17), 3) := by decide +kernel
theorem d_DM_assemble_24 : decode b_DM_assemble 24 = .ok (.aload_n 0, 1) := by decide +kernel
theorem d_DM_assemble_25 : decode b_DM_assemble 25 = .ok (.getfield 23, 3) := by decide +kernel
theorem d_DM_assemble_28 : decode b_DM_assemble 28 = .ok (.aload_n 0, 1) := by decide +kernel
theorem d_DM_assemble_29 : decode b_DM_assemble 29 = .ok (.getfield 14, 3) := by decide +kernel
theorem d_DM_assemble_32 : decode b_DM_assemble 32 = .ok (.getfield 32, 3) := by decide +kernel
theorem d_DM_assemble_35 : decode b_DM_assemble 35 = .ok (.invokevirtual 135, 3) := by decide +kernel
theorem d_DM_assemble_38 : decode b_DM_assemble 38 = .ok (.iload_n 1, 1) := by decide +kernel
theorem d_DM_assemble_39 : decode b_DM_assemble 39 = .ok (.ireturn, 1) := by decide +kernel
theorem hd_DM_assemble : y_DM_assemble.cls ≠ "java/lang/invoke/MethodHandle" ∧ y_DM_assemble.cls ≠ "java/lang/invoke/VarHandle" ∧ (parseMethodDescriptor y_DM_assemble.desc).map (fun d => d.parameters.length) = some 0 := by decide +kernel
abbrev rm_DM_assemble : Room := { frames := 12, cells := 80, slots := 4200, locals := 365 }

/-- DelayMachine.assemble as a function: the answer, the orders, the assembler -/
def F_DM_assemble (t : Nat → Nat → Int32) (mv : Nat → Int32) (mf : Nat → Nat → Int32) (v : Nat → Int32) (f : Nat → Nat → Int32) (u : Nat → Nat → Int32) (la : Nat → Option Nat) : Option (Int32 × (Nat → Nat → Int32) × (Nat → Int32) × (Nat → Nat → Int32) × (Nat → Nat → Int32) × (Nat → Option Nat)) :=
  if mv 9 = 0 then (F_As_assemble t v f u la).bind (fun z => if z.1 < 0 then some (z.1, mf, z.2) else (F_As_keep t z.2.1 z.2.2.1 z.2.2.2.1 z.2.2.2.2 (fun _ => mf 0)).bind (fun r => some (z.1, va_up mf 0 (r.2.2.2.2 0), (r.1, r.2.1, r.2.2.1, r.2.2.2.1)))) else some (-1, mf, (v, f, u, la))
theorem mw_o {G : dm_G} {g h : Nat → Nat} {mv : Nat → Int32} {mf : Nat → Nat → Int32} {mi : Nat → Nat} : ∃ X : va_W, ∀ od : Nat → Int32, (mw G g h mv (va_up mf 0 od) mi).Perm ((g 1, .inl (G.2.1 0, 64, .inl od)) :: X) := by
  refine ⟨(mw G g h mv mf mi).eraseIdx 1, fun od => ?_⟩
  exact List.Perm.swap _ _ _
theorem aw_tp {G : dm_G} {g : Nat → Nat} {Y : aK} {t : Nat → Nat → Int32} {T T' : va_W} {K : aK} {v : Nat → Int32} {f : Nat → Nat → Int32} {u : Nat → Nat → Int32} {la : Nat → Option Nat} (hp : T.Perm T') : (aw G g Y t T K v f u la).Perm (aw G g Y t T' K v f u la) := by
  rw [aw_pre, aw_pre]
  exact hp.append_left _
theorem mf_self (mf : Nat → Nat → Int32) : va_up mf 0 (mf 0) = mf := by
  funext k
  unfold va_up
  by_cases hk : k = 0
  · subst hk; simp
  · simp [hk]

set_option maxHeartbeats 4000000 in
set_option maxRecDepth 100000 in
theorem c_DM_assemble (l : Launch) (G : dm_G) (g : Nat → Nat) (Y : aK) (t : Nat → Nat → Int32) (h : Nat → Nat) (mv : Nat → Int32) (mf : Nat → Nat → Int32) (mi : Nat → Nat) (K : aK) (v : Nat → Int32) (f : Nat → Nat → Int32) (u : Nat → Nat → Int32) (la : Nat → Option Nat) (RES : Int32 × (Nat → Nat → Int32) × (Nat → Int32) × (Nat → Nat → Int32) × (Nat → Nat → Int32) × (Nat → Option Nat)) (hY : okA G Y (v 21)) (hk : okA G K (v 20)) (hF : F_DM_assemble t mv mf v f u la = some RES) : dm_Ct l y_DM_assemble b_DM_assemble 2 (some .int) rm_DM_assemble G (aw G g Y t (mw G g h mv mf mi) K v f u la) [.ref (g 90)] (fun ov w' => ∃ K' : aK, okA G Y (RES.2.2.1 21) ∧ okA G K' (RES.2.2.1 20) ∧ ov = some (.int RES.1) ∧ w' = (aw G g Y t (mw G g h mv RES.2.1 mi) K' RES.2.2.1 RES.2.2.2.1 RES.2.2.2.2.1 RES.2.2.2.2.2)) := by
  refine dm_Ct.of (by decide +kernel) (Nat.le_of_ble_eq_true rfl) ?_
  intro p e s m below meth c A ls B hl hP hD hS
  have hx := B.1
  have hb := B.2.1
  have hl : lv_has ls 2 [(0, .ref (g 90))] := hl
  unfold F_DM_assemble at hF
  refine lv_aload_n hx hb d_DM_assemble_0 rfl (lv_at hl 0 rfl) ?_
  refine aw_gd_0 B hP k_323 d_DM_assemble_1 ?_
  refine aw_gm_9 B hP k_134 d_DM_assemble_4 ?_
  refine lv_if_eq (tgt := 12) hx hb d_DM_assemble_7 (by decide) (fun (hh : mv 9 = 0) => ?_) (fun (hh : ¬ mv 9 = 0) => ?_)
  · rw [if_pos hh] at hF
    obtain ⟨z, hc1, hF⟩ := dm_bind hF
    refine lv_aload_n hx hb d_DM_assemble_12 rfl (lv_at hl 0 rfl) ?_
    refine aw_gd_1 B hP k_324 d_DM_assemble_13 ?_
    refine dm_callVw B [] (c_As_assemble l G g Y t (mw G g h mv mf mi) K v f u la z hY hk hc1) k_594 k_595 k_596 k_10 k_597 hd_As_assemble rfl ⟨by decide, by decide⟩ 0 rfl rfl hP hD hS hl.1 (rest := []) rfl (Nat.le_of_ble_eq_true rfl) d_DM_assemble_16 ⟨by decide, by decide⟩ (fun ov w' H locs hq hP hD hS => ?_)
    obtain ⟨K1, hY, hk, -, rfl, rfl⟩ := hq
    refine W.eq (g2 := F0 m 19 ls [.int z.1]) rfl ?_
    refine lv_istore_n (lv' := [(1, .int z.1), (0, .ref (g 90))]) hx hb d_DM_assemble_19 rfl hl (Nat.le_of_ble_eq_true rfl) rfl (fun ls hl => ?_)
    refine lv_iload_n hx hb d_DM_assemble_20 rfl (lv_at hl 0 rfl) ?_
    refine lv_if_lt (tgt := 38) hx hb d_DM_assemble_21 (by decide) (fun (hh : z.1 < 0) => ?_) (fun (hh : ¬ z.1 < 0) => ?_)
    · rw [if_pos hh] at hF
      have hF := Option.some.inj hF
      subst hF
      refine lv_iload_n hx hb d_DM_assemble_38 rfl (lv_at hl 0 rfl) ?_
      exact dm_ret B rfl d_DM_assemble_39 (by decide) (by decide) hP hD hS ⟨K1, hY, hk, rfl, rfl⟩
    · rw [if_neg hh] at hF
      obtain ⟨r, hc2, hF⟩ := dm_bind hF
      have hF := Option.some.inj hF
      subst hF
      refine lv_aload_n hx hb d_DM_assemble_24 rfl (lv_at hl 1 rfl) ?_
      refine aw_gd_1 B hP k_324 d_DM_assemble_25 ?_
      refine lv_aload_n hx hb d_DM_assemble_28 rfl (lv_at hl 1 rfl) ?_
      refine aw_gd_0 B hP k_323 d_DM_assemble_29 ?_
      refine aw_gm_0 B hP k_114 d_DM_assemble_32 ?_
      obtain ⟨X, hX⟩ := mw_o (G := G) (g := g) (h := h) (mv := mv) (mf := mf) (mi := mi)
      have hp0 := hX (mf 0)
      rw [mf_self] at hp0
      have hP := dm_pP (aw_tp hp0) hP
      have hD := dm_pD (aw_tp hp0) hD
      refine dm_callVw B [.ref (g 1)] (c_As_keep l G g Y t X K1 (g 1) z.2.1 z.2.2.1 z.2.2.2.1 z.2.2.2.2 (fun _ => mf 0) r hY hk hc2) k_706 k_707 k_708 k_10 k_709 hd_As_keep rfl ⟨by decide, by decide⟩ 0 rfl rfl hP hD hS hl.1 (rest := []) rfl (Nat.le_of_ble_eq_true rfl) d_DM_assemble_35 ⟨by decide, by decide⟩ (fun ov w' H locs hq hP hD hS => ?_)
      obtain ⟨hY, hk, -, rfl, rfl⟩ := hq
      refine W.eq (g2 := F0 m 38 ls []) rfl ?_
      have hP := dm_pP (aw_tp (hX (r.2.2.2.2 0)).symm) hP
      have hD := dm_pD (aw_tp (hX (r.2.2.2.2 0)).symm) hD
      refine lv_iload_n hx hb d_DM_assemble_38 rfl (lv_at hl 0 rfl) ?_
      exact dm_ret B rfl d_DM_assemble_39 (by decide) (by decide) hP hD hS ⟨K1, hY, hk, rfl, rfl⟩
  · rw [if_neg hh] at hF
    have hF := Option.some.inj hF
    subst hF
    refine lv_iconst (v := (-1 : Int32)) hx hb d_DM_assemble_10 (by decide) ?_
    exact dm_ret B rfl d_DM_assemble_11 (by decide) (by decide) hP hD hS ⟨K, hY, hk, rfl, rfl⟩
