def tw (G : dm_G) (g : Nat → Nat) (v : Nat → Int32) (f : Nat → Nat → Int32) : va_W := [(g 0, .inr (13, [.ref (g 1), .ref (g 2), .int (v 2), .int (v 3), .int (v 4), .int (v 5), .int (v 6), .int (v 7), .int (v 8), .int (v 9), .int (v 10), .int (v 11), .int (v 12), .int (v 13), .int (v 14), .int (v 15), .int (v 16), .int (v 17), .int (v 18), .int (v 19), .int (v 20), .ref (g 22), .ref (g 23), .int (v 23), .int (v 24), .int (v 25), .ref (g 27), .int (v 27), .int (v 28), .ref (g 30), .ref (g 31), .ref (g 32), .ref (g 33), .ref (g 34), .int (v 34), .ref (g 36), .ref (g 37), .ref (g 38), .ref (g 39), .ref (g 40), .ref (g 41), .ref (g 42), .ref (g 43), .ref (g 44), .int (v 44), .ref (g 46), .ref (g 47)])), (g 1, .inl (G.2.1 0, 64, .inl (f 0))), (g 2, .inl (G.2.1 1, 132, .inl (f 1))), (g 22, .inl (G.2.1 1, 48, .inl (f 21))), (g 23, .inl (G.2.1 1, 12, .inl (f 22))), (g 27, .inl (G.2.1 1, 60, .inl (f 26))), (g 30, .inl (G.2.1 0, 12, .inl (f 29))), (g 31, .inl (G.2.1 0, 12, .inl (f 30))), (g 32, .inl (G.2.1 0, 12, .inl (f 31))), (g 33, .inl (G.2.1 0, 12, .inl (f 32))), (g 34, .inl (G.2.1 0, 12, .inl (f 33))), (g 36, .inl (G.2.1 0, 64, .inl (f 35))), (g 37, .inl (G.2.1 0, 64, .inl (f 36))), (g 38, .inl (G.2.1 0, 64, .inl (f 37))), (g 39, .inl (G.2.1 0, 64, .inl (f 38))), (g 40, .inl (G.2.1 0, 64, .inl (f 39))), (g 41, .inl (G.2.1 0, 64, .inl (f 40))), (g 42, .inl (G.2.1 2, 64, .inl (f 41))), (g 43, .inl (G.2.1 2, 32, .inl (f 42))), (g 44, .inl (G.2.1 0, 16, .inl (f 43))), (g 46, .inl (G.2.1 0, 12, .inl (f 45))), (g 47, .inl (G.2.1 0, 16, .inl (f 46)))]
section tw_rows
variable {p : Program} {l : Launch} {e : Env} {R : Room} {s : State} {m : MethodId} {args : Array Value} {below : List Frame} {meth : Method} {c : Code} {H : Heap} {locs : List Loc} {cells slots : Nat} {Q : State → Prop}
variable {cc : ByteArray} {nL : Nat} {ret0 : Option FieldType} {own nm : String} {G : dm_G} {A : Nat → Prop} {pc : Nat} {ls : Array Slot} {rest : List Value} {index : Nat}
variable {g : Nat → Nat} {v : Nat → Int32} {f : Nat → Nat → Int32}
theorem tw_g_0_0 (B : dm_B p s m args meth c cc nL ret0 own nm G A) (hP : va_P G.1 dm_cl (tw G g v f) H) (hl : Cond.fieldLink own index "DelayMachineModel" "orders" "[I" ∈ dm_gt) (hdg : decode cc pc = .ok (.getfield index, 3)) (kk : W p l e R s m args below meth c H locs cells slots Q (F0 m (pc + 3) ls (.ref (g 1) :: rest))) : W p l e R s m args below meth c H locs cells slots Q (F0 m pc ls (.ref (g 0) :: rest)) := dm_get (v := .ref (g 1)) (ci := 13) B hP 0 rfl rfl in_Mo 0 (by decide) hl rfl hdg kk
theorem tw_g_0_1 (B : dm_B p s m args meth c cc nL ret0 own nm G A) (hP : va_P G.1 dm_cl (tw G g v f) H) (hl : Cond.fieldLink own index "DelayMachineModel" "words" "[S" ∈ dm_gt) (hdg : decode cc pc = .ok (.getfield index, 3)) (kk : W p l e R s m args below meth c H locs cells slots Q (F0 m (pc + 3) ls (.ref (g 2) :: rest))) : W p l e R s m args below meth c H locs cells slots Q (F0 m pc ls (.ref (g 0) :: rest)) := dm_get (v := .ref (g 2)) (ci := 13) B hP 0 rfl rfl in_Mo 1 (by decide) hl rfl hdg kk
theorem tw_g_0_2 (B : dm_B p s m args meth c cc nL ret0 own nm G A) (hP : va_P G.1 dm_cl (tw G g v f) H) {x : Int32} (hv : v 2 = x) (hl : Cond.fieldLink own index "DelayMachineModel" "now" "I" ∈ dm_gt) (hdg : decode cc pc = .ok (.getfield index, 3)) (kk : W p l e R s m args below meth c H locs cells slots Q (F0 m (pc + 3) ls (.int x :: rest))) : W p l e R s m args below meth c H locs cells slots Q (F0 m pc ls (.ref (g 0) :: rest)) := dm_get (v := .int x) (ci := 13) B hP 0 rfl rfl in_Mo 2 (by decide) hl (by rw [← hv]; rfl) hdg kk
theorem tw_p_0_2 (B : dm_B p s m args meth c cc nL ret0 own nm G A) (hP : va_P G.1 dm_cl (tw G g v f) H) (hD : va_D A (tw G g v f)) (hS : va_S A s.heap H locs) {x : Int32} (hl : Cond.fieldLink own index "DelayMachineModel" "now" "I" ∈ dm_gt) (hdg : decode cc pc = .ok (.putfield index, 3)) (kk : ∀ (H1 : Heap) (locs1 : List Loc), va_P G.1 dm_cl (tw G g (va_up v 2 x) f) H1 → va_D A (tw G g (va_up v 2 x) f) → va_S A s.heap H1 locs1 → W p l e R s m args below meth c H1 locs1 cells slots Q (F0 m (pc + 3) ls rest)) : W p l e R s m args below meth c H locs cells slots Q (F0 m pc ls (.int x :: .ref (g 0) :: rest)) := dm_put (v := .int x) (ci := 13) B hP hD hS 0 rfl rfl in_Mo t_Mo t_Mo_ok n_Mo 2 (by decide) hl rfl rfl rfl (Nat.le_of_ble_eq_true rfl) hdg (fun H1 locs1 h1 h2 h3 => kk H1 locs1 h1 h2 h3)
theorem tw_g_0_3 (B : dm_B p s m args meth c cc nL ret0 own nm G A) (hP : va_P G.1 dm_cl (tw G g v f) H) {x : Int32} (hv : v 3 = x) (hl : Cond.fieldLink own index "DelayMachineModel" "going" "Z" ∈ dm_gt) (hdg : decode cc pc = .ok (.getfield index, 3)) (kk : W p l e R s m args below meth c H locs cells slots Q (F0 m (pc + 3) ls (.int x :: rest))) : W p l e R s m args below meth c H locs cells slots Q (F0 m pc ls (.ref (g 0) :: rest)) := dm_get (v := .int x) (ci := 13) B hP 0 rfl rfl in_Mo 3 (by decide) hl (by rw [← hv]; rfl) hdg kk
theorem tw_p_0_3 (B : dm_B p s m args meth c cc nL ret0 own nm G A) (hP : va_P G.1 dm_cl (tw G g v f) H) (hD : va_D A (tw G g v f)) (hS : va_S A s.heap H locs) {x : Int32} (hz : x = 0 ∨ x = 1) (hl : Cond.fieldLink own index "DelayMachineModel" "going" "Z" ∈ dm_gt) (hdg : decode cc pc = .ok (.putfield index, 3)) (kk : ∀ (H1 : Heap) (locs1 : List Loc), va_P G.1 dm_cl (tw G g (va_up v 3 x) f) H1 → va_D A (tw G g (va_up v 3 x) f) → va_S A s.heap H1 locs1 → W p l e R s m args below meth c H1 locs1 cells slots Q (F0 m (pc + 3) ls rest)) : W p l e R s m args below meth c H locs cells slots Q (F0 m pc ls (.int x :: .ref (g 0) :: rest)) := dm_put (v := .int x) (ci := 13) B hP hD hS 0 rfl rfl in_Mo t_Mo t_Mo_ok n_Mo 3 (by decide) hl rfl (dm_b01 hz).1 (dm_b01 hz).2 (Nat.le_of_ble_eq_true rfl) hdg (fun H1 locs1 h1 h2 h3 => kk H1 locs1 h1 h2 h3)
theorem tw_g_0_4 (B : dm_B p s m args meth c cc nL ret0 own nm G A) (hP : va_P G.1 dm_cl (tw G g v f) H) {x : Int32} (hv : v 4 = x) (hl : Cond.fieldLink own index "DelayMachineModel" "fault" "I" ∈ dm_gt) (hdg : decode cc pc = .ok (.getfield index, 3)) (kk : W p l e R s m args below meth c H locs cells slots Q (F0 m (pc + 3) ls (.int x :: rest))) : W p l e R s m args below meth c H locs cells slots Q (F0 m pc ls (.ref (g 0) :: rest)) := dm_get (v := .int x) (ci := 13) B hP 0 rfl rfl in_Mo 4 (by decide) hl (by rw [← hv]; rfl) hdg kk
theorem tw_p_0_4 (B : dm_B p s m args meth c cc nL ret0 own nm G A) (hP : va_P G.1 dm_cl (tw G g v f) H) (hD : va_D A (tw G g v f)) (hS : va_S A s.heap H locs) {x : Int32} (hl : Cond.fieldLink own index "DelayMachineModel" "fault" "I" ∈ dm_gt) (hdg : decode cc pc = .ok (.putfield index, 3)) (kk : ∀ (H1 : Heap) (locs1 : List Loc), va_P G.1 dm_cl (tw G g (va_up v 4 x) f) H1 → va_D A (tw G g (va_up v 4 x) f) → va_S A s.heap H1 locs1 → W p l e R s m args below meth c H1 locs1 cells slots Q (F0 m (pc + 3) ls rest)) : W p l e R s m args below meth c H locs cells slots Q (F0 m pc ls (.int x :: .ref (g 0) :: rest)) := dm_put (v := .int x) (ci := 13) B hP hD hS 0 rfl rfl in_Mo t_Mo t_Mo_ok n_Mo 4 (by decide) hl rfl rfl rfl (Nat.le_of_ble_eq_true rfl) hdg (fun H1 locs1 h1 h2 h3 => kk H1 locs1 h1 h2 h3)
theorem tw_g_0_5 (B : dm_B p s m args meth c cc nL ret0 own nm G A) (hP : va_P G.1 dm_cl (tw G g v f) H) {x : Int32} (hv : v 5 = x) (hl : Cond.fieldLink own index "DelayMachineModel" "due" "I" ∈ dm_gt) (hdg : decode cc pc = .ok (.getfield index, 3)) (kk : W p l e R s m args below meth c H locs cells slots Q (F0 m (pc + 3) ls (.int x :: rest))) : W p l e R s m args below meth c H locs cells slots Q (F0 m pc ls (.ref (g 0) :: rest)) := dm_get (v := .int x) (ci := 13) B hP 0 rfl rfl in_Mo 5 (by decide) hl (by rw [← hv]; rfl) hdg kk
theorem tw_p_0_5 (B : dm_B p s m args meth c cc nL ret0 own nm G A) (hP : va_P G.1 dm_cl (tw G g v f) H) (hD : va_D A (tw G g v f)) (hS : va_S A s.heap H locs) {x : Int32} (hl : Cond.fieldLink own index "DelayMachineModel" "due" "I" ∈ dm_gt) (hdg : decode cc pc = .ok (.putfield index, 3)) (kk : ∀ (H1 : Heap) (locs1 : List Loc), va_P G.1 dm_cl (tw G g (va_up v 5 x) f) H1 → va_D A (tw G g (va_up v 5 x) f) → va_S A s.heap H1 locs1 → W p l e R s m args below meth c H1 locs1 cells slots Q (F0 m (pc + 3) ls rest)) : W p l e R s m args below meth c H locs cells slots Q (F0 m pc ls (.int x :: .ref (g 0) :: rest)) := dm_put (v := .int x) (ci := 13) B hP hD hS 0 rfl rfl in_Mo t_Mo t_Mo_ok n_Mo 5 (by decide) hl rfl rfl rfl (Nat.le_of_ble_eq_true rfl) hdg (fun H1 locs1 h1 h2 h3 => kk H1 locs1 h1 h2 h3)
theorem tw_g_0_6 (B : dm_B p s m args meth c cc nL ret0 own nm G A) (hP : va_P G.1 dm_cl (tw G g v f) H) {x : Int32} (hv : v 6 = x) (hl : Cond.fieldLink own index "DelayMachineModel" "dueLine" "I" ∈ dm_gt) (hdg : decode cc pc = .ok (.getfield index, 3)) (kk : W p l e R s m args below meth c H locs cells slots Q (F0 m (pc + 3) ls (.int x :: rest))) : W p l e R s m args below meth c H locs cells slots Q (F0 m pc ls (.ref (g 0) :: rest)) := dm_get (v := .int x) (ci := 13) B hP 0 rfl rfl in_Mo 6 (by decide) hl (by rw [← hv]; rfl) hdg kk
theorem tw_p_0_6 (B : dm_B p s m args meth c cc nL ret0 own nm G A) (hP : va_P G.1 dm_cl (tw G g v f) H) (hD : va_D A (tw G g v f)) (hS : va_S A s.heap H locs) {x : Int32} (hl : Cond.fieldLink own index "DelayMachineModel" "dueLine" "I" ∈ dm_gt) (hdg : decode cc pc = .ok (.putfield index, 3)) (kk : ∀ (H1 : Heap) (locs1 : List Loc), va_P G.1 dm_cl (tw G g (va_up v 6 x) f) H1 → va_D A (tw G g (va_up v 6 x) f) → va_S A s.heap H1 locs1 → W p l e R s m args below meth c H1 locs1 cells slots Q (F0 m (pc + 3) ls rest)) : W p l e R s m args below meth c H locs cells slots Q (F0 m pc ls (.int x :: .ref (g 0) :: rest)) := dm_put (v := .int x) (ci := 13) B hP hD hS 0 rfl rfl in_Mo t_Mo t_Mo_ok n_Mo 6 (by decide) hl rfl rfl rfl (Nat.le_of_ble_eq_true rfl) hdg (fun H1 locs1 h1 h2 h3 => kk H1 locs1 h1 h2 h3)
theorem tw_g_0_7 (B : dm_B p s m args meth c cc nL ret0 own nm G A) (hP : va_P G.1 dm_cl (tw G g v f) H) {x : Int32} (hv : v 7 = x) (hl : Cond.fieldLink own index "DelayMachineModel" "line" "I" ∈ dm_gt) (hdg : decode cc pc = .ok (.getfield index, 3)) (kk : W p l e R s m args below meth c H locs cells slots Q (F0 m (pc + 3) ls (.int x :: rest))) : W p l e R s m args below meth c H locs cells slots Q (F0 m pc ls (.ref (g 0) :: rest)) := dm_get (v := .int x) (ci := 13) B hP 0 rfl rfl in_Mo 7 (by decide) hl (by rw [← hv]; rfl) hdg kk
theorem tw_p_0_7 (B : dm_B p s m args meth c cc nL ret0 own nm G A) (hP : va_P G.1 dm_cl (tw G g v f) H) (hD : va_D A (tw G g v f)) (hS : va_S A s.heap H locs) {x : Int32} (hl : Cond.fieldLink own index "DelayMachineModel" "line" "I" ∈ dm_gt) (hdg : decode cc pc = .ok (.putfield index, 3)) (kk : ∀ (H1 : Heap) (locs1 : List Loc), va_P G.1 dm_cl (tw G g (va_up v 7 x) f) H1 → va_D A (tw G g (va_up v 7 x) f) → va_S A s.heap H1 locs1 → W p l e R s m args below meth c H1 locs1 cells slots Q (F0 m (pc + 3) ls rest)) : W p l e R s m args below meth c H locs cells slots Q (F0 m pc ls (.int x :: .ref (g 0) :: rest)) := dm_put (v := .int x) (ci := 13) B hP hD hS 0 rfl rfl in_Mo t_Mo t_Mo_ok n_Mo 7 (by decide) hl rfl rfl rfl (Nat.le_of_ble_eq_true rfl) hdg (fun H1 locs1 h1 h2 h3 => kk H1 locs1 h1 h2 h3)
theorem tw_g_0_8 (B : dm_B p s m args meth c cc nL ret0 own nm G A) (hP : va_P G.1 dm_cl (tw G g v f) H) {x : Int32} (hv : v 8 = x) (hl : Cond.fieldLink own index "DelayMachineModel" "place" "I" ∈ dm_gt) (hdg : decode cc pc = .ok (.getfield index, 3)) (kk : W p l e R s m args below meth c H locs cells slots Q (F0 m (pc + 3) ls (.int x :: rest))) : W p l e R s m args below meth c H locs cells slots Q (F0 m pc ls (.ref (g 0) :: rest)) := dm_get (v := .int x) (ci := 13) B hP 0 rfl rfl in_Mo 8 (by decide) hl (by rw [← hv]; rfl) hdg kk
theorem tw_p_0_8 (B : dm_B p s m args meth c cc nL ret0 own nm G A) (hP : va_P G.1 dm_cl (tw G g v f) H) (hD : va_D A (tw G g v f)) (hS : va_S A s.heap H locs) {x : Int32} (hl : Cond.fieldLink own index "DelayMachineModel" "place" "I" ∈ dm_gt) (hdg : decode cc pc = .ok (.putfield index, 3)) (kk : ∀ (H1 : Heap) (locs1 : List Loc), va_P G.1 dm_cl (tw G g (va_up v 8 x) f) H1 → va_D A (tw G g (va_up v 8 x) f) → va_S A s.heap H1 locs1 → W p l e R s m args below meth c H1 locs1 cells slots Q (F0 m (pc + 3) ls rest)) : W p l e R s m args below meth c H locs cells slots Q (F0 m pc ls (.int x :: .ref (g 0) :: rest)) := dm_put (v := .int x) (ci := 13) B hP hD hS 0 rfl rfl in_Mo t_Mo t_Mo_ok n_Mo 8 (by decide) hl rfl rfl rfl (Nat.le_of_ble_eq_true rfl) hdg (fun H1 locs1 h1 h2 h3 => kk H1 locs1 h1 h2 h3)
theorem tw_g_0_9 (B : dm_B p s m args meth c cc nL ret0 own nm G A) (hP : va_P G.1 dm_cl (tw G g v f) H) {x : Int32} (hv : v 9 = x) (hl : Cond.fieldLink own index "DelayMachineModel" "count" "I" ∈ dm_gt) (hdg : decode cc pc = .ok (.getfield index, 3)) (kk : W p l e R s m args below meth c H locs cells slots Q (F0 m (pc + 3) ls (.int x :: rest))) : W p l e R s m args below meth c H locs cells slots Q (F0 m pc ls (.ref (g 0) :: rest)) := dm_get (v := .int x) (ci := 13) B hP 0 rfl rfl in_Mo 9 (by decide) hl (by rw [← hv]; rfl) hdg kk
theorem tw_p_0_9 (B : dm_B p s m args meth c cc nL ret0 own nm G A) (hP : va_P G.1 dm_cl (tw G g v f) H) (hD : va_D A (tw G g v f)) (hS : va_S A s.heap H locs) {x : Int32} (hl : Cond.fieldLink own index "DelayMachineModel" "count" "I" ∈ dm_gt) (hdg : decode cc pc = .ok (.putfield index, 3)) (kk : ∀ (H1 : Heap) (locs1 : List Loc), va_P G.1 dm_cl (tw G g (va_up v 9 x) f) H1 → va_D A (tw G g (va_up v 9 x) f) → va_S A s.heap H1 locs1 → W p l e R s m args below meth c H1 locs1 cells slots Q (F0 m (pc + 3) ls rest)) : W p l e R s m args below meth c H locs cells slots Q (F0 m pc ls (.int x :: .ref (g 0) :: rest)) := dm_put (v := .int x) (ci := 13) B hP hD hS 0 rfl rfl in_Mo t_Mo t_Mo_ok n_Mo 9 (by decide) hl rfl rfl rfl (Nat.le_of_ble_eq_true rfl) hdg (fun H1 locs1 h1 h2 h3 => kk H1 locs1 h1 h2 h3)
theorem tw_g_0_10 (B : dm_B p s m args meth c cc nL ret0 own nm G A) (hP : va_P G.1 dm_cl (tw G g v f) H) {x : Int32} (hv : v 10 = x) (hl : Cond.fieldLink own index "DelayMachineModel" "order" "I" ∈ dm_gt) (hdg : decode cc pc = .ok (.getfield index, 3)) (kk : W p l e R s m args below meth c H locs cells slots Q (F0 m (pc + 3) ls (.int x :: rest))) : W p l e R s m args below meth c H locs cells slots Q (F0 m pc ls (.ref (g 0) :: rest)) := dm_get (v := .int x) (ci := 13) B hP 0 rfl rfl in_Mo 10 (by decide) hl (by rw [← hv]; rfl) hdg kk
theorem tw_p_0_10 (B : dm_B p s m args meth c cc nL ret0 own nm G A) (hP : va_P G.1 dm_cl (tw G g v f) H) (hD : va_D A (tw G g v f)) (hS : va_S A s.heap H locs) {x : Int32} (hl : Cond.fieldLink own index "DelayMachineModel" "order" "I" ∈ dm_gt) (hdg : decode cc pc = .ok (.putfield index, 3)) (kk : ∀ (H1 : Heap) (locs1 : List Loc), va_P G.1 dm_cl (tw G g (va_up v 10 x) f) H1 → va_D A (tw G g (va_up v 10 x) f) → va_S A s.heap H1 locs1 → W p l e R s m args below meth c H1 locs1 cells slots Q (F0 m (pc + 3) ls rest)) : W p l e R s m args below meth c H locs cells slots Q (F0 m pc ls (.int x :: .ref (g 0) :: rest)) := dm_put (v := .int x) (ci := 13) B hP hD hS 0 rfl rfl in_Mo t_Mo t_Mo_ok n_Mo 10 (by decide) hl rfl rfl rfl (Nat.le_of_ble_eq_true rfl) hdg (fun H1 locs1 h1 h2 h3 => kk H1 locs1 h1 h2 h3)
theorem tw_g_0_11 (B : dm_B p s m args meth c cc nL ret0 own nm G A) (hP : va_P G.1 dm_cl (tw G g v f) H) {x : Int32} (hv : v 11 = x) (hl : Cond.fieldLink own index "DelayMachineModel" "opens" "I" ∈ dm_gt) (hdg : decode cc pc = .ok (.getfield index, 3)) (kk : W p l e R s m args below meth c H locs cells slots Q (F0 m (pc + 3) ls (.int x :: rest))) : W p l e R s m args below meth c H locs cells slots Q (F0 m pc ls (.ref (g 0) :: rest)) := dm_get (v := .int x) (ci := 13) B hP 0 rfl rfl in_Mo 11 (by decide) hl (by rw [← hv]; rfl) hdg kk
theorem tw_p_0_11 (B : dm_B p s m args meth c cc nL ret0 own nm G A) (hP : va_P G.1 dm_cl (tw G g v f) H) (hD : va_D A (tw G g v f)) (hS : va_S A s.heap H locs) {x : Int32} (hl : Cond.fieldLink own index "DelayMachineModel" "opens" "I" ∈ dm_gt) (hdg : decode cc pc = .ok (.putfield index, 3)) (kk : ∀ (H1 : Heap) (locs1 : List Loc), va_P G.1 dm_cl (tw G g (va_up v 11 x) f) H1 → va_D A (tw G g (va_up v 11 x) f) → va_S A s.heap H1 locs1 → W p l e R s m args below meth c H1 locs1 cells slots Q (F0 m (pc + 3) ls rest)) : W p l e R s m args below meth c H locs cells slots Q (F0 m pc ls (.int x :: .ref (g 0) :: rest)) := dm_put (v := .int x) (ci := 13) B hP hD hS 0 rfl rfl in_Mo t_Mo t_Mo_ok n_Mo 11 (by decide) hl rfl rfl rfl (Nat.le_of_ble_eq_true rfl) hdg (fun H1 locs1 h1 h2 h3 => kk H1 locs1 h1 h2 h3)
theorem tw_g_0_12 (B : dm_B p s m args meth c cc nL ret0 own nm G A) (hP : va_P G.1 dm_cl (tw G g v f) H) {x : Int32} (hv : v 12 = x) (hl : Cond.fieldLink own index "DelayMachineModel" "closes" "I" ∈ dm_gt) (hdg : decode cc pc = .ok (.getfield index, 3)) (kk : W p l e R s m args below meth c H locs cells slots Q (F0 m (pc + 3) ls (.int x :: rest))) : W p l e R s m args below meth c H locs cells slots Q (F0 m pc ls (.ref (g 0) :: rest)) := dm_get (v := .int x) (ci := 13) B hP 0 rfl rfl in_Mo 12 (by decide) hl (by rw [← hv]; rfl) hdg kk
theorem tw_p_0_12 (B : dm_B p s m args meth c cc nL ret0 own nm G A) (hP : va_P G.1 dm_cl (tw G g v f) H) (hD : va_D A (tw G g v f)) (hS : va_S A s.heap H locs) {x : Int32} (hl : Cond.fieldLink own index "DelayMachineModel" "closes" "I" ∈ dm_gt) (hdg : decode cc pc = .ok (.putfield index, 3)) (kk : ∀ (H1 : Heap) (locs1 : List Loc), va_P G.1 dm_cl (tw G g (va_up v 12 x) f) H1 → va_D A (tw G g (va_up v 12 x) f) → va_S A s.heap H1 locs1 → W p l e R s m args below meth c H1 locs1 cells slots Q (F0 m (pc + 3) ls rest)) : W p l e R s m args below meth c H locs cells slots Q (F0 m pc ls (.int x :: .ref (g 0) :: rest)) := dm_put (v := .int x) (ci := 13) B hP hD hS 0 rfl rfl in_Mo t_Mo t_Mo_ok n_Mo 12 (by decide) hl rfl rfl rfl (Nat.le_of_ble_eq_true rfl) hdg (fun H1 locs1 h1 h2 h3 => kk H1 locs1 h1 h2 h3)
theorem tw_g_0_13 (B : dm_B p s m args meth c cc nL ret0 own nm G A) (hP : va_P G.1 dm_cl (tw G g v f) H) {x : Int32} (hv : v 13 = x) (hl : Cond.fieldLink own index "DelayMachineModel" "lastOrder" "I" ∈ dm_gt) (hdg : decode cc pc = .ok (.getfield index, 3)) (kk : W p l e R s m args below meth c H locs cells slots Q (F0 m (pc + 3) ls (.int x :: rest))) : W p l e R s m args below meth c H locs cells slots Q (F0 m pc ls (.ref (g 0) :: rest)) := dm_get (v := .int x) (ci := 13) B hP 0 rfl rfl in_Mo 13 (by decide) hl (by rw [← hv]; rfl) hdg kk
theorem tw_p_0_13 (B : dm_B p s m args meth c cc nL ret0 own nm G A) (hP : va_P G.1 dm_cl (tw G g v f) H) (hD : va_D A (tw G g v f)) (hS : va_S A s.heap H locs) {x : Int32} (hl : Cond.fieldLink own index "DelayMachineModel" "lastOrder" "I" ∈ dm_gt) (hdg : decode cc pc = .ok (.putfield index, 3)) (kk : ∀ (H1 : Heap) (locs1 : List Loc), va_P G.1 dm_cl (tw G g (va_up v 13 x) f) H1 → va_D A (tw G g (va_up v 13 x) f) → va_S A s.heap H1 locs1 → W p l e R s m args below meth c H1 locs1 cells slots Q (F0 m (pc + 3) ls rest)) : W p l e R s m args below meth c H locs cells slots Q (F0 m pc ls (.int x :: .ref (g 0) :: rest)) := dm_put (v := .int x) (ci := 13) B hP hD hS 0 rfl rfl in_Mo t_Mo t_Mo_ok n_Mo 13 (by decide) hl rfl rfl rfl (Nat.le_of_ble_eq_true rfl) hdg (fun H1 locs1 h1 h2 h3 => kk H1 locs1 h1 h2 h3)
theorem tw_g_0_14 (B : dm_B p s m args meth c cc nL ret0 own nm G A) (hP : va_P G.1 dm_cl (tw G g v f) H) {x : Int32} (hv : v 14 = x) (hl : Cond.fieldLink own index "DelayMachineModel" "lastOpens" "I" ∈ dm_gt) (hdg : decode cc pc = .ok (.getfield index, 3)) (kk : W p l e R s m args below meth c H locs cells slots Q (F0 m (pc + 3) ls (.int x :: rest))) : W p l e R s m args below meth c H locs cells slots Q (F0 m pc ls (.ref (g 0) :: rest)) := dm_get (v := .int x) (ci := 13) B hP 0 rfl rfl in_Mo 14 (by decide) hl (by rw [← hv]; rfl) hdg kk
theorem tw_p_0_14 (B : dm_B p s m args meth c cc nL ret0 own nm G A) (hP : va_P G.1 dm_cl (tw G g v f) H) (hD : va_D A (tw G g v f)) (hS : va_S A s.heap H locs) {x : Int32} (hl : Cond.fieldLink own index "DelayMachineModel" "lastOpens" "I" ∈ dm_gt) (hdg : decode cc pc = .ok (.putfield index, 3)) (kk : ∀ (H1 : Heap) (locs1 : List Loc), va_P G.1 dm_cl (tw G g (va_up v 14 x) f) H1 → va_D A (tw G g (va_up v 14 x) f) → va_S A s.heap H1 locs1 → W p l e R s m args below meth c H1 locs1 cells slots Q (F0 m (pc + 3) ls rest)) : W p l e R s m args below meth c H locs cells slots Q (F0 m pc ls (.int x :: .ref (g 0) :: rest)) := dm_put (v := .int x) (ci := 13) B hP hD hS 0 rfl rfl in_Mo t_Mo t_Mo_ok n_Mo 14 (by decide) hl rfl rfl rfl (Nat.le_of_ble_eq_true rfl) hdg (fun H1 locs1 h1 h2 h3 => kk H1 locs1 h1 h2 h3)
theorem tw_g_0_15 (B : dm_B p s m args meth c cc nL ret0 own nm G A) (hP : va_P G.1 dm_cl (tw G g v f) H) {x : Int32} (hv : v 15 = x) (hl : Cond.fieldLink own index "DelayMachineModel" "lastCloses" "I" ∈ dm_gt) (hdg : decode cc pc = .ok (.getfield index, 3)) (kk : W p l e R s m args below meth c H locs cells slots Q (F0 m (pc + 3) ls (.int x :: rest))) : W p l e R s m args below meth c H locs cells slots Q (F0 m pc ls (.ref (g 0) :: rest)) := dm_get (v := .int x) (ci := 13) B hP 0 rfl rfl in_Mo 15 (by decide) hl (by rw [← hv]; rfl) hdg kk
theorem tw_p_0_15 (B : dm_B p s m args meth c cc nL ret0 own nm G A) (hP : va_P G.1 dm_cl (tw G g v f) H) (hD : va_D A (tw G g v f)) (hS : va_S A s.heap H locs) {x : Int32} (hl : Cond.fieldLink own index "DelayMachineModel" "lastCloses" "I" ∈ dm_gt) (hdg : decode cc pc = .ok (.putfield index, 3)) (kk : ∀ (H1 : Heap) (locs1 : List Loc), va_P G.1 dm_cl (tw G g (va_up v 15 x) f) H1 → va_D A (tw G g (va_up v 15 x) f) → va_S A s.heap H1 locs1 → W p l e R s m args below meth c H1 locs1 cells slots Q (F0 m (pc + 3) ls rest)) : W p l e R s m args below meth c H locs cells slots Q (F0 m pc ls (.int x :: .ref (g 0) :: rest)) := dm_put (v := .int x) (ci := 13) B hP hD hS 0 rfl rfl in_Mo t_Mo t_Mo_ok n_Mo 15 (by decide) hl rfl rfl rfl (Nat.le_of_ble_eq_true rfl) hdg (fun H1 locs1 h1 h2 h3 => kk H1 locs1 h1 h2 h3)
theorem tw_g_0_16 (B : dm_B p s m args meth c cc nL ret0 own nm G A) (hP : va_P G.1 dm_cl (tw G g v f) H) {x : Int32} (hv : v 16 = x) (hl : Cond.fieldLink own index "DelayMachineModel" "turned" "Z" ∈ dm_gt) (hdg : decode cc pc = .ok (.getfield index, 3)) (kk : W p l e R s m args below meth c H locs cells slots Q (F0 m (pc + 3) ls (.int x :: rest))) : W p l e R s m args below meth c H locs cells slots Q (F0 m pc ls (.ref (g 0) :: rest)) := dm_get (v := .int x) (ci := 13) B hP 0 rfl rfl in_Mo 16 (by decide) hl (by rw [← hv]; rfl) hdg kk
theorem tw_p_0_16 (B : dm_B p s m args meth c cc nL ret0 own nm G A) (hP : va_P G.1 dm_cl (tw G g v f) H) (hD : va_D A (tw G g v f)) (hS : va_S A s.heap H locs) {x : Int32} (hz : x = 0 ∨ x = 1) (hl : Cond.fieldLink own index "DelayMachineModel" "turned" "Z" ∈ dm_gt) (hdg : decode cc pc = .ok (.putfield index, 3)) (kk : ∀ (H1 : Heap) (locs1 : List Loc), va_P G.1 dm_cl (tw G g (va_up v 16 x) f) H1 → va_D A (tw G g (va_up v 16 x) f) → va_S A s.heap H1 locs1 → W p l e R s m args below meth c H1 locs1 cells slots Q (F0 m (pc + 3) ls rest)) : W p l e R s m args below meth c H locs cells slots Q (F0 m pc ls (.int x :: .ref (g 0) :: rest)) := dm_put (v := .int x) (ci := 13) B hP hD hS 0 rfl rfl in_Mo t_Mo t_Mo_ok n_Mo 16 (by decide) hl rfl (dm_b01 hz).1 (dm_b01 hz).2 (Nat.le_of_ble_eq_true rfl) hdg (fun H1 locs1 h1 h2 h3 => kk H1 locs1 h1 h2 h3)
theorem tw_g_0_17 (B : dm_B p s m args meth c cc nL ret0 own nm G A) (hP : va_P G.1 dm_cl (tw G g v f) H) {x : Int32} (hv : v 17 = x) (hl : Cond.fieldLink own index "DelayMachineModel" "work" "I" ∈ dm_gt) (hdg : decode cc pc = .ok (.getfield index, 3)) (kk : W p l e R s m args below meth c H locs cells slots Q (F0 m (pc + 3) ls (.int x :: rest))) : W p l e R s m args below meth c H locs cells slots Q (F0 m pc ls (.ref (g 0) :: rest)) := dm_get (v := .int x) (ci := 13) B hP 0 rfl rfl in_Mo 17 (by decide) hl (by rw [← hv]; rfl) hdg kk
theorem tw_p_0_17 (B : dm_B p s m args meth c cc nL ret0 own nm G A) (hP : va_P G.1 dm_cl (tw G g v f) H) (hD : va_D A (tw G g v f)) (hS : va_S A s.heap H locs) {x : Int32} (hl : Cond.fieldLink own index "DelayMachineModel" "work" "I" ∈ dm_gt) (hdg : decode cc pc = .ok (.putfield index, 3)) (kk : ∀ (H1 : Heap) (locs1 : List Loc), va_P G.1 dm_cl (tw G g (va_up v 17 x) f) H1 → va_D A (tw G g (va_up v 17 x) f) → va_S A s.heap H1 locs1 → W p l e R s m args below meth c H1 locs1 cells slots Q (F0 m (pc + 3) ls rest)) : W p l e R s m args below meth c H locs cells slots Q (F0 m pc ls (.int x :: .ref (g 0) :: rest)) := dm_put (v := .int x) (ci := 13) B hP hD hS 0 rfl rfl in_Mo t_Mo t_Mo_ok n_Mo 17 (by decide) hl rfl rfl rfl (Nat.le_of_ble_eq_true rfl) hdg (fun H1 locs1 h1 h2 h3 => kk H1 locs1 h1 h2 h3)
theorem tw_g_0_18 (B : dm_B p s m args meth c cc nL ret0 own nm G A) (hP : va_P G.1 dm_cl (tw G g v f) H) {x : Int32} (hv : v 18 = x) (hl : Cond.fieldLink own index "DelayMachineModel" "factor" "I" ∈ dm_gt) (hdg : decode cc pc = .ok (.getfield index, 3)) (kk : W p l e R s m args below meth c H locs cells slots Q (F0 m (pc + 3) ls (.int x :: rest))) : W p l e R s m args below meth c H locs cells slots Q (F0 m pc ls (.ref (g 0) :: rest)) := dm_get (v := .int x) (ci := 13) B hP 0 rfl rfl in_Mo 18 (by decide) hl (by rw [← hv]; rfl) hdg kk
theorem tw_p_0_18 (B : dm_B p s m args meth c cc nL ret0 own nm G A) (hP : va_P G.1 dm_cl (tw G g v f) H) (hD : va_D A (tw G g v f)) (hS : va_S A s.heap H locs) {x : Int32} (hl : Cond.fieldLink own index "DelayMachineModel" "factor" "I" ∈ dm_gt) (hdg : decode cc pc = .ok (.putfield index, 3)) (kk : ∀ (H1 : Heap) (locs1 : List Loc), va_P G.1 dm_cl (tw G g (va_up v 18 x) f) H1 → va_D A (tw G g (va_up v 18 x) f) → va_S A s.heap H1 locs1 → W p l e R s m args below meth c H1 locs1 cells slots Q (F0 m (pc + 3) ls rest)) : W p l e R s m args below meth c H locs cells slots Q (F0 m pc ls (.int x :: .ref (g 0) :: rest)) := dm_put (v := .int x) (ci := 13) B hP hD hS 0 rfl rfl in_Mo t_Mo t_Mo_ok n_Mo 18 (by decide) hl rfl rfl rfl (Nat.le_of_ble_eq_true rfl) hdg (fun H1 locs1 h1 h2 h3 => kk H1 locs1 h1 h2 h3)
theorem tw_g_0_19 (B : dm_B p s m args meth c cc nL ret0 own nm G A) (hP : va_P G.1 dm_cl (tw G g v f) H) {x : Int32} (hv : v 19 = x) (hl : Cond.fieldLink own index "DelayMachineModel" "cards" "I" ∈ dm_gt) (hdg : decode cc pc = .ok (.getfield index, 3)) (kk : W p l e R s m args below meth c H locs cells slots Q (F0 m (pc + 3) ls (.int x :: rest))) : W p l e R s m args below meth c H locs cells slots Q (F0 m pc ls (.ref (g 0) :: rest)) := dm_get (v := .int x) (ci := 13) B hP 0 rfl rfl in_Mo 19 (by decide) hl (by rw [← hv]; rfl) hdg kk
theorem tw_p_0_19 (B : dm_B p s m args meth c cc nL ret0 own nm G A) (hP : va_P G.1 dm_cl (tw G g v f) H) (hD : va_D A (tw G g v f)) (hS : va_S A s.heap H locs) {x : Int32} (hl : Cond.fieldLink own index "DelayMachineModel" "cards" "I" ∈ dm_gt) (hdg : decode cc pc = .ok (.putfield index, 3)) (kk : ∀ (H1 : Heap) (locs1 : List Loc), va_P G.1 dm_cl (tw G g (va_up v 19 x) f) H1 → va_D A (tw G g (va_up v 19 x) f) → va_S A s.heap H1 locs1 → W p l e R s m args below meth c H1 locs1 cells slots Q (F0 m (pc + 3) ls rest)) : W p l e R s m args below meth c H locs cells slots Q (F0 m pc ls (.int x :: .ref (g 0) :: rest)) := dm_put (v := .int x) (ci := 13) B hP hD hS 0 rfl rfl in_Mo t_Mo t_Mo_ok n_Mo 19 (by decide) hl rfl rfl rfl (Nat.le_of_ble_eq_true rfl) hdg (fun H1 locs1 h1 h2 h3 => kk H1 locs1 h1 h2 h3)
theorem tw_g_0_20 (B : dm_B p s m args meth c cc nL ret0 own nm G A) (hP : va_P G.1 dm_cl (tw G g v f) H) {x : Int32} (hv : v 20 = x) (hl : Cond.fieldLink own index "DelayMachineModel" "came" "I" ∈ dm_gt) (hdg : decode cc pc = .ok (.getfield index, 3)) (kk : W p l e R s m args below meth c H locs cells slots Q (F0 m (pc + 3) ls (.int x :: rest))) : W p l e R s m args below meth c H locs cells slots Q (F0 m pc ls (.ref (g 0) :: rest)) := dm_get (v := .int x) (ci := 13) B hP 0 rfl rfl in_Mo 20 (by decide) hl (by rw [← hv]; rfl) hdg kk
theorem tw_p_0_20 (B : dm_B p s m args meth c cc nL ret0 own nm G A) (hP : va_P G.1 dm_cl (tw G g v f) H) (hD : va_D A (tw G g v f)) (hS : va_S A s.heap H locs) {x : Int32} (hl : Cond.fieldLink own index "DelayMachineModel" "came" "I" ∈ dm_gt) (hdg : decode cc pc = .ok (.putfield index, 3)) (kk : ∀ (H1 : Heap) (locs1 : List Loc), va_P G.1 dm_cl (tw G g (va_up v 20 x) f) H1 → va_D A (tw G g (va_up v 20 x) f) → va_S A s.heap H1 locs1 → W p l e R s m args below meth c H1 locs1 cells slots Q (F0 m (pc + 3) ls rest)) : W p l e R s m args below meth c H locs cells slots Q (F0 m pc ls (.int x :: .ref (g 0) :: rest)) := dm_put (v := .int x) (ci := 13) B hP hD hS 0 rfl rfl in_Mo t_Mo t_Mo_ok n_Mo 20 (by decide) hl rfl rfl rfl (Nat.le_of_ble_eq_true rfl) hdg (fun H1 locs1 h1 h2 h3 => kk H1 locs1 h1 h2 h3)
theorem tw_g_0_21 (B : dm_B p s m args meth c cc nL ret0 own nm G A) (hP : va_P G.1 dm_cl (tw G g v f) H) (hl : Cond.fieldLink own index "DelayMachineModel" "deck" "[S" ∈ dm_gt) (hdg : decode cc pc = .ok (.getfield index, 3)) (kk : W p l e R s m args below meth c H locs cells slots Q (F0 m (pc + 3) ls (.ref (g 22) :: rest))) : W p l e R s m args below meth c H locs cells slots Q (F0 m pc ls (.ref (g 0) :: rest)) := dm_get (v := .ref (g 22)) (ci := 13) B hP 0 rfl rfl in_Mo 21 (by decide) hl rfl hdg kk
theorem tw_g_0_22 (B : dm_B p s m args meth c cc nL ret0 own nm G A) (hP : va_P G.1 dm_cl (tw G g v f) H) (hl : Cond.fieldLink own index "DelayMachineModel" "card" "[S" ∈ dm_gt) (hdg : decode cc pc = .ok (.getfield index, 3)) (kk : W p l e R s m args below meth c H locs cells slots Q (F0 m (pc + 3) ls (.ref (g 23) :: rest))) : W p l e R s m args below meth c H locs cells slots Q (F0 m pc ls (.ref (g 0) :: rest)) := dm_get (v := .ref (g 23)) (ci := 13) B hP 0 rfl rfl in_Mo 22 (by decide) hl rfl hdg kk
theorem tw_g_0_23 (B : dm_B p s m args meth c cc nL ret0 own nm G A) (hP : va_P G.1 dm_cl (tw G g v f) H) {x : Int32} (hv : v 23 = x) (hl : Cond.fieldLink own index "DelayMachineModel" "fed" "I" ∈ dm_gt) (hdg : decode cc pc = .ok (.getfield index, 3)) (kk : W p l e R s m args below meth c H locs cells slots Q (F0 m (pc + 3) ls (.int x :: rest))) : W p l e R s m args below meth c H locs cells slots Q (F0 m pc ls (.ref (g 0) :: rest)) := dm_get (v := .int x) (ci := 13) B hP 0 rfl rfl in_Mo 23 (by decide) hl (by rw [← hv]; rfl) hdg kk
theorem tw_p_0_23 (B : dm_B p s m args meth c cc nL ret0 own nm G A) (hP : va_P G.1 dm_cl (tw G g v f) H) (hD : va_D A (tw G g v f)) (hS : va_S A s.heap H locs) {x : Int32} (hl : Cond.fieldLink own index "DelayMachineModel" "fed" "I" ∈ dm_gt) (hdg : decode cc pc = .ok (.putfield index, 3)) (kk : ∀ (H1 : Heap) (locs1 : List Loc), va_P G.1 dm_cl (tw G g (va_up v 23 x) f) H1 → va_D A (tw G g (va_up v 23 x) f) → va_S A s.heap H1 locs1 → W p l e R s m args below meth c H1 locs1 cells slots Q (F0 m (pc + 3) ls rest)) : W p l e R s m args below meth c H locs cells slots Q (F0 m pc ls (.int x :: .ref (g 0) :: rest)) := dm_put (v := .int x) (ci := 13) B hP hD hS 0 rfl rfl in_Mo t_Mo t_Mo_ok n_Mo 23 (by decide) hl rfl rfl rfl (Nat.le_of_ble_eq_true rfl) hdg (fun H1 locs1 h1 h2 h3 => kk H1 locs1 h1 h2 h3)
theorem tw_g_0_24 (B : dm_B p s m args meth c cc nL ret0 own nm G A) (hP : va_P G.1 dm_cl (tw G g v f) H) {x : Int32} (hv : v 24 = x) (hl : Cond.fieldLink own index "DelayMachineModel" "moved" "Z" ∈ dm_gt) (hdg : decode cc pc = .ok (.getfield index, 3)) (kk : W p l e R s m args below meth c H locs cells slots Q (F0 m (pc + 3) ls (.int x :: rest))) : W p l e R s m args below meth c H locs cells slots Q (F0 m pc ls (.ref (g 0) :: rest)) := dm_get (v := .int x) (ci := 13) B hP 0 rfl rfl in_Mo 24 (by decide) hl (by rw [← hv]; rfl) hdg kk
theorem tw_p_0_24 (B : dm_B p s m args meth c cc nL ret0 own nm G A) (hP : va_P G.1 dm_cl (tw G g v f) H) (hD : va_D A (tw G g v f)) (hS : va_S A s.heap H locs) {x : Int32} (hz : x = 0 ∨ x = 1) (hl : Cond.fieldLink own index "DelayMachineModel" "moved" "Z" ∈ dm_gt) (hdg : decode cc pc = .ok (.putfield index, 3)) (kk : ∀ (H1 : Heap) (locs1 : List Loc), va_P G.1 dm_cl (tw G g (va_up v 24 x) f) H1 → va_D A (tw G g (va_up v 24 x) f) → va_S A s.heap H1 locs1 → W p l e R s m args below meth c H1 locs1 cells slots Q (F0 m (pc + 3) ls rest)) : W p l e R s m args below meth c H locs cells slots Q (F0 m pc ls (.int x :: .ref (g 0) :: rest)) := dm_put (v := .int x) (ci := 13) B hP hD hS 0 rfl rfl in_Mo t_Mo t_Mo_ok n_Mo 24 (by decide) hl rfl (dm_b01 hz).1 (dm_b01 hz).2 (Nat.le_of_ble_eq_true rfl) hdg (fun H1 locs1 h1 h2 h3 => kk H1 locs1 h1 h2 h3)
theorem tw_g_0_25 (B : dm_B p s m args meth c cc nL ret0 own nm G A) (hP : va_P G.1 dm_cl (tw G g v f) H) {x : Int32} (hv : v 25 = x) (hl : Cond.fieldLink own index "DelayMachineModel" "punches" "I" ∈ dm_gt) (hdg : decode cc pc = .ok (.getfield index, 3)) (kk : W p l e R s m args below meth c H locs cells slots Q (F0 m (pc + 3) ls (.int x :: rest))) : W p l e R s m args below meth c H locs cells slots Q (F0 m pc ls (.ref (g 0) :: rest)) := dm_get (v := .int x) (ci := 13) B hP 0 rfl rfl in_Mo 25 (by decide) hl (by rw [← hv]; rfl) hdg kk
theorem tw_p_0_25 (B : dm_B p s m args meth c cc nL ret0 own nm G A) (hP : va_P G.1 dm_cl (tw G g v f) H) (hD : va_D A (tw G g v f)) (hS : va_S A s.heap H locs) {x : Int32} (hl : Cond.fieldLink own index "DelayMachineModel" "punches" "I" ∈ dm_gt) (hdg : decode cc pc = .ok (.putfield index, 3)) (kk : ∀ (H1 : Heap) (locs1 : List Loc), va_P G.1 dm_cl (tw G g (va_up v 25 x) f) H1 → va_D A (tw G g (va_up v 25 x) f) → va_S A s.heap H1 locs1 → W p l e R s m args below meth c H1 locs1 cells slots Q (F0 m (pc + 3) ls rest)) : W p l e R s m args below meth c H locs cells slots Q (F0 m pc ls (.int x :: .ref (g 0) :: rest)) := dm_put (v := .int x) (ci := 13) B hP hD hS 0 rfl rfl in_Mo t_Mo t_Mo_ok n_Mo 25 (by decide) hl rfl rfl rfl (Nat.le_of_ble_eq_true rfl) hdg (fun H1 locs1 h1 h2 h3 => kk H1 locs1 h1 h2 h3)
theorem tw_g_0_26 (B : dm_B p s m args meth c cc nL ret0 own nm G A) (hP : va_P G.1 dm_cl (tw G g v f) H) (hl : Cond.fieldLink own index "DelayMachineModel" "punch" "[S" ∈ dm_gt) (hdg : decode cc pc = .ok (.getfield index, 3)) (kk : W p l e R s m args below meth c H locs cells slots Q (F0 m (pc + 3) ls (.ref (g 27) :: rest))) : W p l e R s m args below meth c H locs cells slots Q (F0 m pc ls (.ref (g 0) :: rest)) := dm_get (v := .ref (g 27)) (ci := 13) B hP 0 rfl rfl in_Mo 26 (by decide) hl rfl hdg kk
theorem tw_g_0_27 (B : dm_B p s m args meth c cc nL ret0 own nm G A) (hP : va_P G.1 dm_cl (tw G g v f) H) {x : Int32} (hv : v 27 = x) (hl : Cond.fieldLink own index "DelayMachineModel" "punchedAt" "I" ∈ dm_gt) (hdg : decode cc pc = .ok (.getfield index, 3)) (kk : W p l e R s m args below meth c H locs cells slots Q (F0 m (pc + 3) ls (.int x :: rest))) : W p l e R s m args below meth c H locs cells slots Q (F0 m pc ls (.ref (g 0) :: rest)) := dm_get (v := .int x) (ci := 13) B hP 0 rfl rfl in_Mo 27 (by decide) hl (by rw [← hv]; rfl) hdg kk
theorem tw_p_0_27 (B : dm_B p s m args meth c cc nL ret0 own nm G A) (hP : va_P G.1 dm_cl (tw G g v f) H) (hD : va_D A (tw G g v f)) (hS : va_S A s.heap H locs) {x : Int32} (hl : Cond.fieldLink own index "DelayMachineModel" "punchedAt" "I" ∈ dm_gt) (hdg : decode cc pc = .ok (.putfield index, 3)) (kk : ∀ (H1 : Heap) (locs1 : List Loc), va_P G.1 dm_cl (tw G g (va_up v 27 x) f) H1 → va_D A (tw G g (va_up v 27 x) f) → va_S A s.heap H1 locs1 → W p l e R s m args below meth c H1 locs1 cells slots Q (F0 m (pc + 3) ls rest)) : W p l e R s m args below meth c H locs cells slots Q (F0 m pc ls (.int x :: .ref (g 0) :: rest)) := dm_put (v := .int x) (ci := 13) B hP hD hS 0 rfl rfl in_Mo t_Mo t_Mo_ok n_Mo 27 (by decide) hl rfl rfl rfl (Nat.le_of_ble_eq_true rfl) hdg (fun H1 locs1 h1 h2 h3 => kk H1 locs1 h1 h2 h3)
theorem tw_g_0_28 (B : dm_B p s m args meth c cc nL ret0 own nm G A) (hP : va_P G.1 dm_cl (tw G g v f) H) {x : Int32} (hv : v 28 = x) (hl : Cond.fieldLink own index "DelayMachineModel" "statements" "I" ∈ dm_gt) (hdg : decode cc pc = .ok (.getfield index, 3)) (kk : W p l e R s m args below meth c H locs cells slots Q (F0 m (pc + 3) ls (.int x :: rest))) : W p l e R s m args below meth c H locs cells slots Q (F0 m pc ls (.ref (g 0) :: rest)) := dm_get (v := .int x) (ci := 13) B hP 0 rfl rfl in_Mo 28 (by decide) hl (by rw [← hv]; rfl) hdg kk
theorem tw_p_0_28 (B : dm_B p s m args meth c cc nL ret0 own nm G A) (hP : va_P G.1 dm_cl (tw G g v f) H) (hD : va_D A (tw G g v f)) (hS : va_S A s.heap H locs) {x : Int32} (hl : Cond.fieldLink own index "DelayMachineModel" "statements" "I" ∈ dm_gt) (hdg : decode cc pc = .ok (.putfield index, 3)) (kk : ∀ (H1 : Heap) (locs1 : List Loc), va_P G.1 dm_cl (tw G g (va_up v 28 x) f) H1 → va_D A (tw G g (va_up v 28 x) f) → va_S A s.heap H1 locs1 → W p l e R s m args below meth c H1 locs1 cells slots Q (F0 m (pc + 3) ls rest)) : W p l e R s m args below meth c H locs cells slots Q (F0 m pc ls (.int x :: .ref (g 0) :: rest)) := dm_put (v := .int x) (ci := 13) B hP hD hS 0 rfl rfl in_Mo t_Mo t_Mo_ok n_Mo 28 (by decide) hl rfl rfl rfl (Nat.le_of_ble_eq_true rfl) hdg (fun H1 locs1 h1 h2 h3 => kk H1 locs1 h1 h2 h3)
theorem tw_g_0_29 (B : dm_B p s m args meth c cc nL ret0 own nm G A) (hP : va_P G.1 dm_cl (tw G g v f) H) (hl : Cond.fieldLink own index "DelayMachineModel" "operation" "[I" ∈ dm_gt) (hdg : decode cc pc = .ok (.getfield index, 3)) (kk : W p l e R s m args below meth c H locs cells slots Q (F0 m (pc + 3) ls (.ref (g 30) :: rest))) : W p l e R s m args below meth c H locs cells slots Q (F0 m pc ls (.ref (g 0) :: rest)) := dm_get (v := .ref (g 30)) (ci := 13) B hP 0 rfl rfl in_Mo 29 (by decide) hl rfl hdg kk
theorem tw_g_0_30 (B : dm_B p s m args meth c cc nL ret0 own nm G A) (hP : va_P G.1 dm_cl (tw G g v f) H) (hl : Cond.fieldLink own index "DelayMachineModel" "first" "[I" ∈ dm_gt) (hdg : decode cc pc = .ok (.getfield index, 3)) (kk : W p l e R s m args below meth c H locs cells slots Q (F0 m (pc + 3) ls (.ref (g 31) :: rest))) : W p l e R s m args below meth c H locs cells slots Q (F0 m pc ls (.ref (g 0) :: rest)) := dm_get (v := .ref (g 31)) (ci := 13) B hP 0 rfl rfl in_Mo 30 (by decide) hl rfl hdg kk
theorem tw_g_0_31 (B : dm_B p s m args meth c cc nL ret0 own nm G A) (hP : va_P G.1 dm_cl (tw G g v f) H) (hl : Cond.fieldLink own index "DelayMachineModel" "second" "[I" ∈ dm_gt) (hdg : decode cc pc = .ok (.getfield index, 3)) (kk : W p l e R s m args below meth c H locs cells slots Q (F0 m (pc + 3) ls (.ref (g 32) :: rest))) : W p l e R s m args below meth c H locs cells slots Q (F0 m pc ls (.ref (g 0) :: rest)) := dm_get (v := .ref (g 32)) (ci := 13) B hP 0 rfl rfl in_Mo 31 (by decide) hl rfl hdg kk
theorem tw_g_0_32 (B : dm_B p s m args meth c cc nL ret0 own nm G A) (hP : va_P G.1 dm_cl (tw G g v f) H) (hl : Cond.fieldLink own index "DelayMachineModel" "third" "[I" ∈ dm_gt) (hdg : decode cc pc = .ok (.getfield index, 3)) (kk : W p l e R s m args below meth c H locs cells slots Q (F0 m (pc + 3) ls (.ref (g 33) :: rest))) : W p l e R s m args below meth c H locs cells slots Q (F0 m pc ls (.ref (g 0) :: rest)) := dm_get (v := .ref (g 33)) (ci := 13) B hP 0 rfl rfl in_Mo 32 (by decide) hl rfl hdg kk
theorem tw_g_0_33 (B : dm_B p s m args meth c cc nL ret0 own nm G A) (hP : va_P G.1 dm_cl (tw G g v f) H) (hl : Cond.fieldLink own index "DelayMachineModel" "goTo" "[I" ∈ dm_gt) (hdg : decode cc pc = .ok (.getfield index, 3)) (kk : W p l e R s m args below meth c H locs cells slots Q (F0 m (pc + 3) ls (.ref (g 34) :: rest))) : W p l e R s m args below meth c H locs cells slots Q (F0 m pc ls (.ref (g 0) :: rest)) := dm_get (v := .ref (g 34)) (ci := 13) B hP 0 rfl rfl in_Mo 33 (by decide) hl rfl hdg kk
theorem tw_g_0_34 (B : dm_B p s m args meth c cc nL ret0 own nm G A) (hP : va_P G.1 dm_cl (tw G g v f) H) {x : Int32} (hv : v 34 = x) (hl : Cond.fieldLink own index "DelayMachineModel" "listed" "I" ∈ dm_gt) (hdg : decode cc pc = .ok (.getfield index, 3)) (kk : W p l e R s m args below meth c H locs cells slots Q (F0 m (pc + 3) ls (.int x :: rest))) : W p l e R s m args below meth c H locs cells slots Q (F0 m pc ls (.ref (g 0) :: rest)) := dm_get (v := .int x) (ci := 13) B hP 0 rfl rfl in_Mo 34 (by decide) hl (by rw [← hv]; rfl) hdg kk
theorem tw_p_0_34 (B : dm_B p s m args meth c cc nL ret0 own nm G A) (hP : va_P G.1 dm_cl (tw G g v f) H) (hD : va_D A (tw G g v f)) (hS : va_S A s.heap H locs) {x : Int32} (hl : Cond.fieldLink own index "DelayMachineModel" "listed" "I" ∈ dm_gt) (hdg : decode cc pc = .ok (.putfield index, 3)) (kk : ∀ (H1 : Heap) (locs1 : List Loc), va_P G.1 dm_cl (tw G g (va_up v 34 x) f) H1 → va_D A (tw G g (va_up v 34 x) f) → va_S A s.heap H1 locs1 → W p l e R s m args below meth c H1 locs1 cells slots Q (F0 m (pc + 3) ls rest)) : W p l e R s m args below meth c H locs cells slots Q (F0 m pc ls (.int x :: .ref (g 0) :: rest)) := dm_put (v := .int x) (ci := 13) B hP hD hS 0 rfl rfl in_Mo t_Mo t_Mo_ok n_Mo 34 (by decide) hl rfl rfl rfl (Nat.le_of_ble_eq_true rfl) hdg (fun H1 locs1 h1 h2 h3 => kk H1 locs1 h1 h2 h3)
theorem tw_g_0_35 (B : dm_B p s m args meth c cc nL ret0 own nm G A) (hP : va_P G.1 dm_cl (tw G g v f) H) (hl : Cond.fieldLink own index "DelayMachineModel" "source" "[I" ∈ dm_gt) (hdg : decode cc pc = .ok (.getfield index, 3)) (kk : W p l e R s m args below meth c H locs cells slots Q (F0 m (pc + 3) ls (.ref (g 36) :: rest))) : W p l e R s m args below meth c H locs cells slots Q (F0 m pc ls (.ref (g 0) :: rest)) := dm_get (v := .ref (g 36)) (ci := 13) B hP 0 rfl rfl in_Mo 35 (by decide) hl rfl hdg kk
theorem tw_g_0_36 (B : dm_B p s m args meth c cc nL ret0 own nm G A) (hP : va_P G.1 dm_cl (tw G g v f) H) (hl : Cond.fieldLink own index "DelayMachineModel" "goal" "[I" ∈ dm_gt) (hdg : decode cc pc = .ok (.getfield index, 3)) (kk : W p l e R s m args below meth c H locs cells slots Q (F0 m (pc + 3) ls (.ref (g 37) :: rest))) : W p l e R s m args below meth c H locs cells slots Q (F0 m pc ls (.ref (g 0) :: rest)) := dm_get (v := .ref (g 37)) (ci := 13) B hP 0 rfl rfl in_Mo 36 (by decide) hl rfl hdg kk
theorem tw_g_0_37 (B : dm_B p s m args meth c cc nL ret0 own nm G A) (hP : va_P G.1 dm_cl (tw G g v f) H) (hl : Cond.fieldLink own index "DelayMachineModel" "operand" "[I" ∈ dm_gt) (hdg : decode cc pc = .ok (.getfield index, 3)) (kk : W p l e R s m args below meth c H locs cells slots Q (F0 m (pc + 3) ls (.ref (g 38) :: rest))) : W p l e R s m args below meth c H locs cells slots Q (F0 m pc ls (.ref (g 0) :: rest)) := dm_get (v := .ref (g 38)) (ci := 13) B hP 0 rfl rfl in_Mo 37 (by decide) hl rfl hdg kk
theorem tw_g_0_38 (B : dm_B p s m args meth c cc nL ret0 own nm G A) (hP : va_P G.1 dm_cl (tw G g v f) H) (hl : Cond.fieldLink own index "DelayMachineModel" "owner" "[I" ∈ dm_gt) (hdg : decode cc pc = .ok (.getfield index, 3)) (kk : W p l e R s m args below meth c H locs cells slots Q (F0 m (pc + 3) ls (.ref (g 39) :: rest))) : W p l e R s m args below meth c H locs cells slots Q (F0 m pc ls (.ref (g 0) :: rest)) := dm_get (v := .ref (g 39)) (ci := 13) B hP 0 rfl rfl in_Mo 38 (by decide) hl rfl hdg kk
theorem tw_g_0_39 (B : dm_B p s m args meth c cc nL ret0 own nm G A) (hP : va_P G.1 dm_cl (tw G g v f) H) (hl : Cond.fieldLink own index "DelayMachineModel" "spot" "[I" ∈ dm_gt) (hdg : decode cc pc = .ok (.getfield index, 3)) (kk : W p l e R s m args below meth c H locs cells slots Q (F0 m (pc + 3) ls (.ref (g 40) :: rest))) : W p l e R s m args below meth c H locs cells slots Q (F0 m pc ls (.ref (g 0) :: rest)) := dm_get (v := .ref (g 40)) (ci := 13) B hP 0 rfl rfl in_Mo 39 (by decide) hl rfl hdg kk
theorem tw_g_0_40 (B : dm_B p s m args meth c cc nL ret0 own nm G A) (hP : va_P G.1 dm_cl (tw G g v f) H) (hl : Cond.fieldLink own index "DelayMachineModel" "waits" "[I" ∈ dm_gt) (hdg : decode cc pc = .ok (.getfield index, 3)) (kk : W p l e R s m args below meth c H locs cells slots Q (F0 m (pc + 3) ls (.ref (g 41) :: rest))) : W p l e R s m args below meth c H locs cells slots Q (F0 m pc ls (.ref (g 0) :: rest)) := dm_get (v := .ref (g 41)) (ci := 13) B hP 0 rfl rfl in_Mo 40 (by decide) hl rfl hdg kk
theorem tw_g_0_41 (B : dm_B p s m args meth c cc nL ret0 own nm G A) (hP : va_P G.1 dm_cl (tw G g v f) H) (hl : Cond.fieldLink own index "DelayMachineModel" "taken" "[Z" ∈ dm_gt) (hdg : decode cc pc = .ok (.getfield index, 3)) (kk : W p l e R s m args below meth c H locs cells slots Q (F0 m (pc + 3) ls (.ref (g 42) :: rest))) : W p l e R s m args below meth c H locs cells slots Q (F0 m pc ls (.ref (g 0) :: rest)) := dm_get (v := .ref (g 42)) (ci := 13) B hP 0 rfl rfl in_Mo 41 (by decide) hl rfl hdg kk
theorem tw_g_0_42 (B : dm_B p s m args meth c cc nL ret0 own nm G A) (hP : va_P G.1 dm_cl (tw G g v f) H) (hl : Cond.fieldLink own index "DelayMachineModel" "held" "[Z" ∈ dm_gt) (hdg : decode cc pc = .ok (.getfield index, 3)) (kk : W p l e R s m args below meth c H locs cells slots Q (F0 m (pc + 3) ls (.ref (g 43) :: rest))) : W p l e R s m args below meth c H locs cells slots Q (F0 m pc ls (.ref (g 0) :: rest)) := dm_get (v := .ref (g 43)) (ci := 13) B hP 0 rfl rfl in_Mo 42 (by decide) hl rfl hdg kk
theorem tw_g_0_43 (B : dm_B p s m args meth c cc nL ret0 own nm G A) (hP : va_P G.1 dm_cl (tw G g v f) H) (hl : Cond.fieldLink own index "DelayMachineModel" "places" "[I" ∈ dm_gt) (hdg : decode cc pc = .ok (.getfield index, 3)) (kk : W p l e R s m args below meth c H locs cells slots Q (F0 m (pc + 3) ls (.ref (g 44) :: rest))) : W p l e R s m args below meth c H locs cells slots Q (F0 m pc ls (.ref (g 0) :: rest)) := dm_get (v := .ref (g 44)) (ci := 13) B hP 0 rfl rfl in_Mo 43 (by decide) hl rfl hdg kk
theorem tw_g_0_44 (B : dm_B p s m args meth c cc nL ret0 own nm G A) (hP : va_P G.1 dm_cl (tw G g v f) H) {x : Int32} (hv : v 44 = x) (hl : Cond.fieldLink own index "DelayMachineModel" "known" "I" ∈ dm_gt) (hdg : decode cc pc = .ok (.getfield index, 3)) (kk : W p l e R s m args below meth c H locs cells slots Q (F0 m (pc + 3) ls (.int x :: rest))) : W p l e R s m args below meth c H locs cells slots Q (F0 m pc ls (.ref (g 0) :: rest)) := dm_get (v := .int x) (ci := 13) B hP 0 rfl rfl in_Mo 44 (by decide) hl (by rw [← hv]; rfl) hdg kk
theorem tw_p_0_44 (B : dm_B p s m args meth c cc nL ret0 own nm G A) (hP : va_P G.1 dm_cl (tw G g v f) H) (hD : va_D A (tw G g v f)) (hS : va_S A s.heap H locs) {x : Int32} (hl : Cond.fieldLink own index "DelayMachineModel" "known" "I" ∈ dm_gt) (hdg : decode cc pc = .ok (.putfield index, 3)) (kk : ∀ (H1 : Heap) (locs1 : List Loc), va_P G.1 dm_cl (tw G g (va_up v 44 x) f) H1 → va_D A (tw G g (va_up v 44 x) f) → va_S A s.heap H1 locs1 → W p l e R s m args below meth c H1 locs1 cells slots Q (F0 m (pc + 3) ls rest)) : W p l e R s m args below meth c H locs cells slots Q (F0 m pc ls (.int x :: .ref (g 0) :: rest)) := dm_put (v := .int x) (ci := 13) B hP hD hS 0 rfl rfl in_Mo t_Mo t_Mo_ok n_Mo 44 (by decide) hl rfl rfl rfl (Nat.le_of_ble_eq_true rfl) hdg (fun H1 locs1 h1 h2 h3 => kk H1 locs1 h1 h2 h3)
theorem tw_g_0_45 (B : dm_B p s m args meth c cc nL ret0 own nm G A) (hP : va_P G.1 dm_cl (tw G g v f) H) (hl : Cond.fieldLink own index "DelayMachineModel" "begins" "[I" ∈ dm_gt) (hdg : decode cc pc = .ok (.getfield index, 3)) (kk : W p l e R s m args below meth c H locs cells slots Q (F0 m (pc + 3) ls (.ref (g 46) :: rest))) : W p l e R s m args below meth c H locs cells slots Q (F0 m pc ls (.ref (g 0) :: rest)) := dm_get (v := .ref (g 46)) (ci := 13) B hP 0 rfl rfl in_Mo 45 (by decide) hl rfl hdg kk
theorem tw_g_0_46 (B : dm_B p s m args meth c cc nL ret0 own nm G A) (hP : va_P G.1 dm_cl (tw G g v f) H) (hl : Cond.fieldLink own index "DelayMachineModel" "variables" "[I" ∈ dm_gt) (hdg : decode cc pc = .ok (.getfield index, 3)) (kk : W p l e R s m args below meth c H locs cells slots Q (F0 m (pc + 3) ls (.ref (g 47) :: rest))) : W p l e R s m args below meth c H locs cells slots Q (F0 m pc ls (.ref (g 0) :: rest)) := dm_get (v := .ref (g 47)) (ci := 13) B hP 0 rfl rfl in_Mo 46 (by decide) hl rfl hdg kk
theorem tw_a_1 (B : dm_B p s m args meth c cc nL ret0 own nm G A) (hP : va_P G.1 dm_cl (tw G g v f) H) {F : Nat → Int32} (hf : f 0 = F) {i : Int32} (hin : vp_in i 64) (hdg : decode cc pc = .ok (.iaload, 1)) (kk : W p l e R s m args below meth c H locs cells slots Q (F0 m (pc + 1) ls (.int (F i.toNatClampNeg) :: rest))) : W p l e R s m args below meth c H locs cells slots Q (F0 m pc ls (.int i :: .ref (g 1) :: rest)) := dm_iald (f := F) B hP 1 (by rw [← hf]; rfl) hin hdg kk
theorem tw_s_1 (B : dm_B p s m args meth c cc nL ret0 own nm G A) (hP : va_P G.1 dm_cl (tw G g v f) H) (hD : va_D A (tw G g v f)) (hS : va_S A s.heap H locs) {F : Nat → Int32} (hf : f 0 = F) {i x : Int32} (hin : vp_in i 64) (hdg : decode cc pc = .ok (.iastore, 1)) (kk : ∀ (H1 : Heap) (locs1 : List Loc), va_P G.1 dm_cl (tw G g v (va_up f 0 (upd F i.toNatClampNeg x))) H1 → va_D A (tw G g v (va_up f 0 (upd F i.toNatClampNeg x))) → va_S A s.heap H1 locs1 → W p l e R s m args below meth c H1 locs1 cells slots Q (F0 m (pc + 1) ls rest)) : W p l e R s m args below meth c H locs cells slots Q (F0 m pc ls (.int x :: .int i :: .ref (g 1) :: rest)) := dm_iast (f := F) B hP hD hS 1 (by rw [← hf]; rfl) hin hdg (fun H1 locs1 h1 h2 h3 => kk H1 locs1 h1 h2 h3)
theorem tw_a_2 (B : dm_B p s m args meth c cc nL ret0 own nm G A) (hP : va_P G.1 dm_cl (tw G g v f) H) {F : Nat → Int32} (hf : f 1 = F) {i : Int32} (hin : vp_in i 132) (hdg : decode cc pc = .ok (.saload, 1)) (kk : W p l e R s m args below meth c H locs cells slots Q (F0 m (pc + 1) ls (.int (F i.toNatClampNeg) :: rest))) : W p l e R s m args below meth c H locs cells slots Q (F0 m pc ls (.int i :: .ref (g 2) :: rest)) := dm_sald (f := F) B hP 2 (by rw [← hf]; rfl) hin hdg kk
theorem tw_s_2 (B : dm_B p s m args meth c cc nL ret0 own nm G A) (hP : va_P G.1 dm_cl (tw G g v f) H) (hD : va_D A (tw G g v f)) (hS : va_S A s.heap H locs) {F : Nat → Int32} (hf : f 1 = F) {i x : Int32} (hin : vp_in i 132) (hdg : decode cc pc = .ok (.sastore, 1)) (kk : ∀ (H1 : Heap) (locs1 : List Loc), va_P G.1 dm_cl (tw G g v (va_up f 1 (upd F i.toNatClampNeg x.toInt16.toInt32))) H1 → va_D A (tw G g v (va_up f 1 (upd F i.toNatClampNeg x.toInt16.toInt32))) → va_S A s.heap H1 locs1 → W p l e R s m args below meth c H1 locs1 cells slots Q (F0 m (pc + 1) ls rest)) : W p l e R s m args below meth c H locs cells slots Q (F0 m pc ls (.int x :: .int i :: .ref (g 2) :: rest)) := dm_sast (f := F) B hP hD hS 2 (by rw [← hf]; rfl) hin hdg (fun H1 locs1 h1 h2 h3 => kk H1 locs1 h1 h2 h3)
theorem tw_a_3 (B : dm_B p s m args meth c cc nL ret0 own nm G A) (hP : va_P G.1 dm_cl (tw G g v f) H) {F : Nat → Int32} (hf : f 21 = F) {i : Int32} (hin : vp_in i 48) (hdg : decode cc pc = .ok (.saload, 1)) (kk : W p l e R s m args below meth c H locs cells slots Q (F0 m (pc + 1) ls (.int (F i.toNatClampNeg) :: rest))) : W p l e R s m args below meth c H locs cells slots Q (F0 m pc ls (.int i :: .ref (g 22) :: rest)) := dm_sald (f := F) B hP 3 (by rw [← hf]; rfl) hin hdg kk
theorem tw_s_3 (B : dm_B p s m args meth c cc nL ret0 own nm G A) (hP : va_P G.1 dm_cl (tw G g v f) H) (hD : va_D A (tw G g v f)) (hS : va_S A s.heap H locs) {F : Nat → Int32} (hf : f 21 = F) {i x : Int32} (hin : vp_in i 48) (hdg : decode cc pc = .ok (.sastore, 1)) (kk : ∀ (H1 : Heap) (locs1 : List Loc), va_P G.1 dm_cl (tw G g v (va_up f 21 (upd F i.toNatClampNeg x.toInt16.toInt32))) H1 → va_D A (tw G g v (va_up f 21 (upd F i.toNatClampNeg x.toInt16.toInt32))) → va_S A s.heap H1 locs1 → W p l e R s m args below meth c H1 locs1 cells slots Q (F0 m (pc + 1) ls rest)) : W p l e R s m args below meth c H locs cells slots Q (F0 m pc ls (.int x :: .int i :: .ref (g 22) :: rest)) := dm_sast (f := F) B hP hD hS 3 (by rw [← hf]; rfl) hin hdg (fun H1 locs1 h1 h2 h3 => kk H1 locs1 h1 h2 h3)
theorem tw_a_4 (B : dm_B p s m args meth c cc nL ret0 own nm G A) (hP : va_P G.1 dm_cl (tw G g v f) H) {F : Nat → Int32} (hf : f 22 = F) {i : Int32} (hin : vp_in i 12) (hdg : decode cc pc = .ok (.saload, 1)) (kk : W p l e R s m args below meth c H locs cells slots Q (F0 m (pc + 1) ls (.int (F i.toNatClampNeg) :: rest))) : W p l e R s m args below meth c H locs cells slots Q (F0 m pc ls (.int i :: .ref (g 23) :: rest)) := dm_sald (f := F) B hP 4 (by rw [← hf]; rfl) hin hdg kk
theorem tw_s_4 (B : dm_B p s m args meth c cc nL ret0 own nm G A) (hP : va_P G.1 dm_cl (tw G g v f) H) (hD : va_D A (tw G g v f)) (hS : va_S A s.heap H locs) {F : Nat → Int32} (hf : f 22 = F) {i x : Int32} (hin : vp_in i 12) (hdg : decode cc pc = .ok (.sastore, 1)) (kk : ∀ (H1 : Heap) (locs1 : List Loc), va_P G.1 dm_cl (tw G g v (va_up f 22 (upd F i.toNatClampNeg x.toInt16.toInt32))) H1 → va_D A (tw G g v (va_up f 22 (upd F i.toNatClampNeg x.toInt16.toInt32))) → va_S A s.heap H1 locs1 → W p l e R s m args below meth c H1 locs1 cells slots Q (F0 m (pc + 1) ls rest)) : W p l e R s m args below meth c H locs cells slots Q (F0 m pc ls (.int x :: .int i :: .ref (g 23) :: rest)) := dm_sast (f := F) B hP hD hS 4 (by rw [← hf]; rfl) hin hdg (fun H1 locs1 h1 h2 h3 => kk H1 locs1 h1 h2 h3)
theorem tw_a_5 (B : dm_B p s m args meth c cc nL ret0 own nm G A) (hP : va_P G.1 dm_cl (tw G g v f) H) {F : Nat → Int32} (hf : f 26 = F) {i : Int32} (hin : vp_in i 60) (hdg : decode cc pc = .ok (.saload, 1)) (kk : W p l e R s m args below meth c H locs cells slots Q (F0 m (pc + 1) ls (.int (F i.toNatClampNeg) :: rest))) : W p l e R s m args below meth c H locs cells slots Q (F0 m pc ls (.int i :: .ref (g 27) :: rest)) := dm_sald (f := F) B hP 5 (by rw [← hf]; rfl) hin hdg kk
theorem tw_s_5 (B : dm_B p s m args meth c cc nL ret0 own nm G A) (hP : va_P G.1 dm_cl (tw G g v f) H) (hD : va_D A (tw G g v f)) (hS : va_S A s.heap H locs) {F : Nat → Int32} (hf : f 26 = F) {i x : Int32} (hin : vp_in i 60) (hdg : decode cc pc = .ok (.sastore, 1)) (kk : ∀ (H1 : Heap) (locs1 : List Loc), va_P G.1 dm_cl (tw G g v (va_up f 26 (upd F i.toNatClampNeg x.toInt16.toInt32))) H1 → va_D A (tw G g v (va_up f 26 (upd F i.toNatClampNeg x.toInt16.toInt32))) → va_S A s.heap H1 locs1 → W p l e R s m args below meth c H1 locs1 cells slots Q (F0 m (pc + 1) ls rest)) : W p l e R s m args below meth c H locs cells slots Q (F0 m pc ls (.int x :: .int i :: .ref (g 27) :: rest)) := dm_sast (f := F) B hP hD hS 5 (by rw [← hf]; rfl) hin hdg (fun H1 locs1 h1 h2 h3 => kk H1 locs1 h1 h2 h3)
theorem tw_a_6 (B : dm_B p s m args meth c cc nL ret0 own nm G A) (hP : va_P G.1 dm_cl (tw G g v f) H) {F : Nat → Int32} (hf : f 29 = F) {i : Int32} (hin : vp_in i 12) (hdg : decode cc pc = .ok (.iaload, 1)) (kk : W p l e R s m args below meth c H locs cells slots Q (F0 m (pc + 1) ls (.int (F i.toNatClampNeg) :: rest))) : W p l e R s m args below meth c H locs cells slots Q (F0 m pc ls (.int i :: .ref (g 30) :: rest)) := dm_iald (f := F) B hP 6 (by rw [← hf]; rfl) hin hdg kk
theorem tw_s_6 (B : dm_B p s m args meth c cc nL ret0 own nm G A) (hP : va_P G.1 dm_cl (tw G g v f) H) (hD : va_D A (tw G g v f)) (hS : va_S A s.heap H locs) {F : Nat → Int32} (hf : f 29 = F) {i x : Int32} (hin : vp_in i 12) (hdg : decode cc pc = .ok (.iastore, 1)) (kk : ∀ (H1 : Heap) (locs1 : List Loc), va_P G.1 dm_cl (tw G g v (va_up f 29 (upd F i.toNatClampNeg x))) H1 → va_D A (tw G g v (va_up f 29 (upd F i.toNatClampNeg x))) → va_S A s.heap H1 locs1 → W p l e R s m args below meth c H1 locs1 cells slots Q (F0 m (pc + 1) ls rest)) : W p l e R s m args below meth c H locs cells slots Q (F0 m pc ls (.int x :: .int i :: .ref (g 30) :: rest)) := dm_iast (f := F) B hP hD hS 6 (by rw [← hf]; rfl) hin hdg (fun H1 locs1 h1 h2 h3 => kk H1 locs1 h1 h2 h3)
theorem tw_a_7 (B : dm_B p s m args meth c cc nL ret0 own nm G A) (hP : va_P G.1 dm_cl (tw G g v f) H) {F : Nat → Int32} (hf : f 30 = F) {i : Int32} (hin : vp_in i 12) (hdg : decode cc pc = .ok (.iaload, 1)) (kk : W p l e R s m args below meth c H locs cells slots Q (F0 m (pc + 1) ls (.int (F i.toNatClampNeg) :: rest))) : W p l e R s m args below meth c H locs cells slots Q (F0 m pc ls (.int i :: .ref (g 31) :: rest)) := dm_iald (f := F) B hP 7 (by rw [← hf]; rfl) hin hdg kk
theorem tw_s_7 (B : dm_B p s m args meth c cc nL ret0 own nm G A) (hP : va_P G.1 dm_cl (tw G g v f) H) (hD : va_D A (tw G g v f)) (hS : va_S A s.heap H locs) {F : Nat → Int32} (hf : f 30 = F) {i x : Int32} (hin : vp_in i 12) (hdg : decode cc pc = .ok (.iastore, 1)) (kk : ∀ (H1 : Heap) (locs1 : List Loc), va_P G.1 dm_cl (tw G g v (va_up f 30 (upd F i.toNatClampNeg x))) H1 → va_D A (tw G g v (va_up f 30 (upd F i.toNatClampNeg x))) → va_S A s.heap H1 locs1 → W p l e R s m args below meth c H1 locs1 cells slots Q (F0 m (pc + 1) ls rest)) : W p l e R s m args below meth c H locs cells slots Q (F0 m pc ls (.int x :: .int i :: .ref (g 31) :: rest)) := dm_iast (f := F) B hP hD hS 7 (by rw [← hf]; rfl) hin hdg (fun H1 locs1 h1 h2 h3 => kk H1 locs1 h1 h2 h3)
theorem tw_a_8 (B : dm_B p s m args meth c cc nL ret0 own nm G A) (hP : va_P G.1 dm_cl (tw G g v f) H) {F : Nat → Int32} (hf : f 31 = F) {i : Int32} (hin : vp_in i 12) (hdg : decode cc pc = .ok (.iaload, 1)) (kk : W p l e R s m args below meth c H locs cells slots Q (F0 m (pc + 1) ls (.int (F i.toNatClampNeg) :: rest))) : W p l e R s m args below meth c H locs cells slots Q (F0 m pc ls (.int i :: .ref (g 32) :: rest)) := dm_iald (f := F) B hP 8 (by rw [← hf]; rfl) hin hdg kk
theorem tw_s_8 (B : dm_B p s m args meth c cc nL ret0 own nm G A) (hP : va_P G.1 dm_cl (tw G g v f) H) (hD : va_D A (tw G g v f)) (hS : va_S A s.heap H locs) {F : Nat → Int32} (hf : f 31 = F) {i x : Int32} (hin : vp_in i 12) (hdg : decode cc pc = .ok (.iastore, 1)) (kk : ∀ (H1 : Heap) (locs1 : List Loc), va_P G.1 dm_cl (tw G g v (va_up f 31 (upd F i.toNatClampNeg x))) H1 → va_D A (tw G g v (va_up f 31 (upd F i.toNatClampNeg x))) → va_S A s.heap H1 locs1 → W p l e R s m args below meth c H1 locs1 cells slots Q (F0 m (pc + 1) ls rest)) : W p l e R s m args below meth c H locs cells slots Q (F0 m pc ls (.int x :: .int i :: .ref (g 32) :: rest)) := dm_iast (f := F) B hP hD hS 8 (by rw [← hf]; rfl) hin hdg (fun H1 locs1 h1 h2 h3 => kk H1 locs1 h1 h2 h3)
theorem tw_a_9 (B : dm_B p s m args meth c cc nL ret0 own nm G A) (hP : va_P G.1 dm_cl (tw G g v f) H) {F : Nat → Int32} (hf : f 32 = F) {i : Int32} (hin : vp_in i 12) (hdg : decode cc pc = .ok (.iaload, 1)) (kk : W p l e R s m args below meth c H locs cells slots Q (F0 m (pc + 1) ls (.int (F i.toNatClampNeg) :: rest))) : W p l e R s m args below meth c H locs cells slots Q (F0 m pc ls (.int i :: .ref (g 33) :: rest)) := dm_iald (f := F) B hP 9 (by rw [← hf]; rfl) hin hdg kk
theorem tw_s_9 (B : dm_B p s m args meth c cc nL ret0 own nm G A) (hP : va_P G.1 dm_cl (tw G g v f) H) (hD : va_D A (tw G g v f)) (hS : va_S A s.heap H locs) {F : Nat → Int32} (hf : f 32 = F) {i x : Int32} (hin : vp_in i 12) (hdg : decode cc pc = .ok (.iastore, 1)) (kk : ∀ (H1 : Heap) (locs1 : List Loc), va_P G.1 dm_cl (tw G g v (va_up f 32 (upd F i.toNatClampNeg x))) H1 → va_D A (tw G g v (va_up f 32 (upd F i.toNatClampNeg x))) → va_S A s.heap H1 locs1 → W p l e R s m args below meth c H1 locs1 cells slots Q (F0 m (pc + 1) ls rest)) : W p l e R s m args below meth c H locs cells slots Q (F0 m pc ls (.int x :: .int i :: .ref (g 33) :: rest)) := dm_iast (f := F) B hP hD hS 9 (by rw [← hf]; rfl) hin hdg (fun H1 locs1 h1 h2 h3 => kk H1 locs1 h1 h2 h3)
theorem tw_a_10 (B : dm_B p s m args meth c cc nL ret0 own nm G A) (hP : va_P G.1 dm_cl (tw G g v f) H) {F : Nat → Int32} (hf : f 33 = F) {i : Int32} (hin : vp_in i 12) (hdg : decode cc pc = .ok (.iaload, 1)) (kk : W p l e R s m args below meth c H locs cells slots Q (F0 m (pc + 1) ls (.int (F i.toNatClampNeg) :: rest))) : W p l e R s m args below meth c H locs cells slots Q (F0 m pc ls (.int i :: .ref (g 34) :: rest)) := dm_iald (f := F) B hP 10 (by rw [← hf]; rfl) hin hdg kk
theorem tw_s_10 (B : dm_B p s m args meth c cc nL ret0 own nm G A) (hP : va_P G.1 dm_cl (tw G g v f) H) (hD : va_D A (tw G g v f)) (hS : va_S A s.heap H locs) {F : Nat → Int32} (hf : f 33 = F) {i x : Int32} (hin : vp_in i 12) (hdg : decode cc pc = .ok (.iastore, 1)) (kk : ∀ (H1 : Heap) (locs1 : List Loc), va_P G.1 dm_cl (tw G g v (va_up f 33 (upd F i.toNatClampNeg x))) H1 → va_D A (tw G g v (va_up f 33 (upd F i.toNatClampNeg x))) → va_S A s.heap H1 locs1 → W p l e R s m args below meth c H1 locs1 cells slots Q (F0 m (pc + 1) ls rest)) : W p l e R s m args below meth c H locs cells slots Q (F0 m pc ls (.int x :: .int i :: .ref (g 34) :: rest)) := dm_iast (f := F) B hP hD hS 10 (by rw [← hf]; rfl) hin hdg (fun H1 locs1 h1 h2 h3 => kk H1 locs1 h1 h2 h3)
theorem tw_a_11 (B : dm_B p s m args meth c cc nL ret0 own nm G A) (hP : va_P G.1 dm_cl (tw G g v f) H) {F : Nat → Int32} (hf : f 35 = F) {i : Int32} (hin : vp_in i 64) (hdg : decode cc pc = .ok (.iaload, 1)) (kk : W p l e R s m args below meth c H locs cells slots Q (F0 m (pc + 1) ls (.int (F i.toNatClampNeg) :: rest))) : W p l e R s m args below meth c H locs cells slots Q (F0 m pc ls (.int i :: .ref (g 36) :: rest)) := dm_iald (f := F) B hP 11 (by rw [← hf]; rfl) hin hdg kk
theorem tw_s_11 (B : dm_B p s m args meth c cc nL ret0 own nm G A) (hP : va_P G.1 dm_cl (tw G g v f) H) (hD : va_D A (tw G g v f)) (hS : va_S A s.heap H locs) {F : Nat → Int32} (hf : f 35 = F) {i x : Int32} (hin : vp_in i 64) (hdg : decode cc pc = .ok (.iastore, 1)) (kk : ∀ (H1 : Heap) (locs1 : List Loc), va_P G.1 dm_cl (tw G g v (va_up f 35 (upd F i.toNatClampNeg x))) H1 → va_D A (tw G g v (va_up f 35 (upd F i.toNatClampNeg x))) → va_S A s.heap H1 locs1 → W p l e R s m args below meth c H1 locs1 cells slots Q (F0 m (pc + 1) ls rest)) : W p l e R s m args below meth c H locs cells slots Q (F0 m pc ls (.int x :: .int i :: .ref (g 36) :: rest)) := dm_iast (f := F) B hP hD hS 11 (by rw [← hf]; rfl) hin hdg (fun H1 locs1 h1 h2 h3 => kk H1 locs1 h1 h2 h3)
theorem tw_a_12 (B : dm_B p s m args meth c cc nL ret0 own nm G A) (hP : va_P G.1 dm_cl (tw G g v f) H) {F : Nat → Int32} (hf : f 36 = F) {i : Int32} (hin : vp_in i 64) (hdg : decode cc pc = .ok (.iaload, 1)) (kk : W p l e R s m args below meth c H locs cells slots Q (F0 m (pc + 1) ls (.int (F i.toNatClampNeg) :: rest))) : W p l e R s m args below meth c H locs cells slots Q (F0 m pc ls (.int i :: .ref (g 37) :: rest)) := dm_iald (f := F) B hP 12 (by rw [← hf]; rfl) hin hdg kk
theorem tw_s_12 (B : dm_B p s m args meth c cc nL ret0 own nm G A) (hP : va_P G.1 dm_cl (tw G g v f) H) (hD : va_D A (tw G g v f)) (hS : va_S A s.heap H locs) {F : Nat → Int32} (hf : f 36 = F) {i x : Int32} (hin : vp_in i 64) (hdg : decode cc pc = .ok (.iastore, 1)) (kk : ∀ (H1 : Heap) (locs1 : List Loc), va_P G.1 dm_cl (tw G g v (va_up f 36 (upd F i.toNatClampNeg x))) H1 → va_D A (tw G g v (va_up f 36 (upd F i.toNatClampNeg x))) → va_S A s.heap H1 locs1 → W p l e R s m args below meth c H1 locs1 cells slots Q (F0 m (pc + 1) ls rest)) : W p l e R s m args below meth c H locs cells slots Q (F0 m pc ls (.int x :: .int i :: .ref (g 37) :: rest)) := dm_iast (f := F) B hP hD hS 12 (by rw [← hf]; rfl) hin hdg (fun H1 locs1 h1 h2 h3 => kk H1 locs1 h1 h2 h3)
theorem tw_a_13 (B : dm_B p s m args meth c cc nL ret0 own nm G A) (hP : va_P G.1 dm_cl (tw G g v f) H) {F : Nat → Int32} (hf : f 37 = F) {i : Int32} (hin : vp_in i 64) (hdg : decode cc pc = .ok (.iaload, 1)) (kk : W p l e R s m args below meth c H locs cells slots Q (F0 m (pc + 1) ls (.int (F i.toNatClampNeg) :: rest))) : W p l e R s m args below meth c H locs cells slots Q (F0 m pc ls (.int i :: .ref (g 38) :: rest)) := dm_iald (f := F) B hP 13 (by rw [← hf]; rfl) hin hdg kk
theorem tw_s_13 (B : dm_B p s m args meth c cc nL ret0 own nm G A) (hP : va_P G.1 dm_cl (tw G g v f) H) (hD : va_D A (tw G g v f)) (hS : va_S A s.heap H locs) {F : Nat → Int32} (hf : f 37 = F) {i x : Int32} (hin : vp_in i 64) (hdg : decode cc pc = .ok (.iastore, 1)) (kk : ∀ (H1 : Heap) (locs1 : List Loc), va_P G.1 dm_cl (tw G g v (va_up f 37 (upd F i.toNatClampNeg x))) H1 → va_D A (tw G g v (va_up f 37 (upd F i.toNatClampNeg x))) → va_S A s.heap H1 locs1 → W p l e R s m args below meth c H1 locs1 cells slots Q (F0 m (pc + 1) ls rest)) : W p l e R s m args below meth c H locs cells slots Q (F0 m pc ls (.int x :: .int i :: .ref (g 38) :: rest)) := dm_iast (f := F) B hP hD hS 13 (by rw [← hf]; rfl) hin hdg (fun H1 locs1 h1 h2 h3 => kk H1 locs1 h1 h2 h3)
theorem tw_a_14 (B : dm_B p s m args meth c cc nL ret0 own nm G A) (hP : va_P G.1 dm_cl (tw G g v f) H) {F : Nat → Int32} (hf : f 38 = F) {i : Int32} (hin : vp_in i 64) (hdg : decode cc pc = .ok (.iaload, 1)) (kk : W p l e R s m args below meth c H locs cells slots Q (F0 m (pc + 1) ls (.int (F i.toNatClampNeg) :: rest))) : W p l e R s m args below meth c H locs cells slots Q (F0 m pc ls (.int i :: .ref (g 39) :: rest)) := dm_iald (f := F) B hP 14 (by rw [← hf]; rfl) hin hdg kk
theorem tw_s_14 (B : dm_B p s m args meth c cc nL ret0 own nm G A) (hP : va_P G.1 dm_cl (tw G g v f) H) (hD : va_D A (tw G g v f)) (hS : va_S A s.heap H locs) {F : Nat → Int32} (hf : f 38 = F) {i x : Int32} (hin : vp_in i 64) (hdg : decode cc pc = .ok (.iastore, 1)) (kk : ∀ (H1 : Heap) (locs1 : List Loc), va_P G.1 dm_cl (tw G g v (va_up f 38 (upd F i.toNatClampNeg x))) H1 → va_D A (tw G g v (va_up f 38 (upd F i.toNatClampNeg x))) → va_S A s.heap H1 locs1 → W p l e R s m args below meth c H1 locs1 cells slots Q (F0 m (pc + 1) ls rest)) : W p l e R s m args below meth c H locs cells slots Q (F0 m pc ls (.int x :: .int i :: .ref (g 39) :: rest)) := dm_iast (f := F) B hP hD hS 14 (by rw [← hf]; rfl) hin hdg (fun H1 locs1 h1 h2 h3 => kk H1 locs1 h1 h2 h3)
theorem tw_a_15 (B : dm_B p s m args meth c cc nL ret0 own nm G A) (hP : va_P G.1 dm_cl (tw G g v f) H) {F : Nat → Int32} (hf : f 39 = F) {i : Int32} (hin : vp_in i 64) (hdg : decode cc pc = .ok (.iaload, 1)) (kk : W p l e R s m args below meth c H locs cells slots Q (F0 m (pc + 1) ls (.int (F i.toNatClampNeg) :: rest))) : W p l e R s m args below meth c H locs cells slots Q (F0 m pc ls (.int i :: .ref (g 40) :: rest)) := dm_iald (f := F) B hP 15 (by rw [← hf]; rfl) hin hdg kk
theorem tw_s_15 (B : dm_B p s m args meth c cc nL ret0 own nm G A) (hP : va_P G.1 dm_cl (tw G g v f) H) (hD : va_D A (tw G g v f)) (hS : va_S A s.heap H locs) {F : Nat → Int32} (hf : f 39 = F) {i x : Int32} (hin : vp_in i 64) (hdg : decode cc pc = .ok (.iastore, 1)) (kk : ∀ (H1 : Heap) (locs1 : List Loc), va_P G.1 dm_cl (tw G g v (va_up f 39 (upd F i.toNatClampNeg x))) H1 → va_D A (tw G g v (va_up f 39 (upd F i.toNatClampNeg x))) → va_S A s.heap H1 locs1 → W p l e R s m args below meth c H1 locs1 cells slots Q (F0 m (pc + 1) ls rest)) : W p l e R s m args below meth c H locs cells slots Q (F0 m pc ls (.int x :: .int i :: .ref (g 40) :: rest)) := dm_iast (f := F) B hP hD hS 15 (by rw [← hf]; rfl) hin hdg (fun H1 locs1 h1 h2 h3 => kk H1 locs1 h1 h2 h3)
theorem tw_a_16 (B : dm_B p s m args meth c cc nL ret0 own nm G A) (hP : va_P G.1 dm_cl (tw G g v f) H) {F : Nat → Int32} (hf : f 40 = F) {i : Int32} (hin : vp_in i 64) (hdg : decode cc pc = .ok (.iaload, 1)) (kk : W p l e R s m args below meth c H locs cells slots Q (F0 m (pc + 1) ls (.int (F i.toNatClampNeg) :: rest))) : W p l e R s m args below meth c H locs cells slots Q (F0 m pc ls (.int i :: .ref (g 41) :: rest)) := dm_iald (f := F) B hP 16 (by rw [← hf]; rfl) hin hdg kk
theorem tw_s_16 (B : dm_B p s m args meth c cc nL ret0 own nm G A) (hP : va_P G.1 dm_cl (tw G g v f) H) (hD : va_D A (tw G g v f)) (hS : va_S A s.heap H locs) {F : Nat → Int32} (hf : f 40 = F) {i x : Int32} (hin : vp_in i 64) (hdg : decode cc pc = .ok (.iastore, 1)) (kk : ∀ (H1 : Heap) (locs1 : List Loc), va_P G.1 dm_cl (tw G g v (va_up f 40 (upd F i.toNatClampNeg x))) H1 → va_D A (tw G g v (va_up f 40 (upd F i.toNatClampNeg x))) → va_S A s.heap H1 locs1 → W p l e R s m args below meth c H1 locs1 cells slots Q (F0 m (pc + 1) ls rest)) : W p l e R s m args below meth c H locs cells slots Q (F0 m pc ls (.int x :: .int i :: .ref (g 41) :: rest)) := dm_iast (f := F) B hP hD hS 16 (by rw [← hf]; rfl) hin hdg (fun H1 locs1 h1 h2 h3 => kk H1 locs1 h1 h2 h3)
theorem tw_a_17 (B : dm_B p s m args meth c cc nL ret0 own nm G A) (hP : va_P G.1 dm_cl (tw G g v f) H) {F : Nat → Int32} (hf : f 41 = F) {i : Int32} (hin : vp_in i 64) (hdg : decode cc pc = .ok (.baload, 1)) (kk : W p l e R s m args below meth c H locs cells slots Q (F0 m (pc + 1) ls (.int (F i.toNatClampNeg) :: rest))) : W p l e R s m args below meth c H locs cells slots Q (F0 m pc ls (.int i :: .ref (g 42) :: rest)) := dm_zald (f := F) B hP 17 (by rw [← hf]; rfl) hin hdg kk
theorem tw_s_17 (B : dm_B p s m args meth c cc nL ret0 own nm G A) (hP : va_P G.1 dm_cl (tw G g v f) H) (hD : va_D A (tw G g v f)) (hS : va_S A s.heap H locs) {F : Nat → Int32} (hf : f 41 = F) {i x : Int32} (hin : vp_in i 64) (hdg : decode cc pc = .ok (.bastore, 1)) (kk : ∀ (H1 : Heap) (locs1 : List Loc), va_P G.1 dm_cl (tw G g v (va_up f 41 (upd F i.toNatClampNeg (x &&& 1)))) H1 → va_D A (tw G g v (va_up f 41 (upd F i.toNatClampNeg (x &&& 1)))) → va_S A s.heap H1 locs1 → W p l e R s m args below meth c H1 locs1 cells slots Q (F0 m (pc + 1) ls rest)) : W p l e R s m args below meth c H locs cells slots Q (F0 m pc ls (.int x :: .int i :: .ref (g 42) :: rest)) := dm_zast (f := F) B hP hD hS 17 (by rw [← hf]; rfl) hin hdg (fun H1 locs1 h1 h2 h3 => kk H1 locs1 h1 h2 h3)
theorem tw_a_18 (B : dm_B p s m args meth c cc nL ret0 own nm G A) (hP : va_P G.1 dm_cl (tw G g v f) H) {F : Nat → Int32} (hf : f 42 = F) {i : Int32} (hin : vp_in i 32) (hdg : decode cc pc = .ok (.baload, 1)) (kk : W p l e R s m args below meth c H locs cells slots Q (F0 m (pc + 1) ls (.int (F i.toNatClampNeg) :: rest))) : W p l e R s m args below meth c H locs cells slots Q (F0 m pc ls (.int i :: .ref (g 43) :: rest)) := dm_zald (f := F) B hP 18 (by rw [← hf]; rfl) hin hdg kk
theorem tw_s_18 (B : dm_B p s m args meth c cc nL ret0 own nm G A) (hP : va_P G.1 dm_cl (tw G g v f) H) (hD : va_D A (tw G g v f)) (hS : va_S A s.heap H locs) {F : Nat → Int32} (hf : f 42 = F) {i x : Int32} (hin : vp_in i 32) (hdg : decode cc pc = .ok (.bastore, 1)) (kk : ∀ (H1 : Heap) (locs1 : List Loc), va_P G.1 dm_cl (tw G g v (va_up f 42 (upd F i.toNatClampNeg (x &&& 1)))) H1 → va_D A (tw G g v (va_up f 42 (upd F i.toNatClampNeg (x &&& 1)))) → va_S A s.heap H1 locs1 → W p l e R s m args below meth c H1 locs1 cells slots Q (F0 m (pc + 1) ls rest)) : W p l e R s m args below meth c H locs cells slots Q (F0 m pc ls (.int x :: .int i :: .ref (g 43) :: rest)) := dm_zast (f := F) B hP hD hS 18 (by rw [← hf]; rfl) hin hdg (fun H1 locs1 h1 h2 h3 => kk H1 locs1 h1 h2 h3)
theorem tw_a_19 (B : dm_B p s m args meth c cc nL ret0 own nm G A) (hP : va_P G.1 dm_cl (tw G g v f) H) {F : Nat → Int32} (hf : f 43 = F) {i : Int32} (hin : vp_in i 16) (hdg : decode cc pc = .ok (.iaload, 1)) (kk : W p l e R s m args below meth c H locs cells slots Q (F0 m (pc + 1) ls (.int (F i.toNatClampNeg) :: rest))) : W p l e R s m args below meth c H locs cells slots Q (F0 m pc ls (.int i :: .ref (g 44) :: rest)) := dm_iald (f := F) B hP 19 (by rw [← hf]; rfl) hin hdg kk
theorem tw_s_19 (B : dm_B p s m args meth c cc nL ret0 own nm G A) (hP : va_P G.1 dm_cl (tw G g v f) H) (hD : va_D A (tw G g v f)) (hS : va_S A s.heap H locs) {F : Nat → Int32} (hf : f 43 = F) {i x : Int32} (hin : vp_in i 16) (hdg : decode cc pc = .ok (.iastore, 1)) (kk : ∀ (H1 : Heap) (locs1 : List Loc), va_P G.1 dm_cl (tw G g v (va_up f 43 (upd F i.toNatClampNeg x))) H1 → va_D A (tw G g v (va_up f 43 (upd F i.toNatClampNeg x))) → va_S A s.heap H1 locs1 → W p l e R s m args below meth c H1 locs1 cells slots Q (F0 m (pc + 1) ls rest)) : W p l e R s m args below meth c H locs cells slots Q (F0 m pc ls (.int x :: .int i :: .ref (g 44) :: rest)) := dm_iast (f := F) B hP hD hS 19 (by rw [← hf]; rfl) hin hdg (fun H1 locs1 h1 h2 h3 => kk H1 locs1 h1 h2 h3)
theorem tw_a_20 (B : dm_B p s m args meth c cc nL ret0 own nm G A) (hP : va_P G.1 dm_cl (tw G g v f) H) {F : Nat → Int32} (hf : f 45 = F) {i : Int32} (hin : vp_in i 12) (hdg : decode cc pc = .ok (.iaload, 1)) (kk : W p l e R s m args below meth c H locs cells slots Q (F0 m (pc + 1) ls (.int (F i.toNatClampNeg) :: rest))) : W p l e R s m args below meth c H locs cells slots Q (F0 m pc ls (.int i :: .ref (g 46) :: rest)) := dm_iald (f := F) B hP 20 (by rw [← hf]; rfl) hin hdg kk
theorem tw_s_20 (B : dm_B p s m args meth c cc nL ret0 own nm G A) (hP : va_P G.1 dm_cl (tw G g v f) H) (hD : va_D A (tw G g v f)) (hS : va_S A s.heap H locs) {F : Nat → Int32} (hf : f 45 = F) {i x : Int32} (hin : vp_in i 12) (hdg : decode cc pc = .ok (.iastore, 1)) (kk : ∀ (H1 : Heap) (locs1 : List Loc), va_P G.1 dm_cl (tw G g v (va_up f 45 (upd F i.toNatClampNeg x))) H1 → va_D A (tw G g v (va_up f 45 (upd F i.toNatClampNeg x))) → va_S A s.heap H1 locs1 → W p l e R s m args below meth c H1 locs1 cells slots Q (F0 m (pc + 1) ls rest)) : W p l e R s m args below meth c H locs cells slots Q (F0 m pc ls (.int x :: .int i :: .ref (g 46) :: rest)) := dm_iast (f := F) B hP hD hS 20 (by rw [← hf]; rfl) hin hdg (fun H1 locs1 h1 h2 h3 => kk H1 locs1 h1 h2 h3)
theorem tw_a_21 (B : dm_B p s m args meth c cc nL ret0 own nm G A) (hP : va_P G.1 dm_cl (tw G g v f) H) {F : Nat → Int32} (hf : f 46 = F) {i : Int32} (hin : vp_in i 16) (hdg : decode cc pc = .ok (.iaload, 1)) (kk : W p l e R s m args below meth c H locs cells slots Q (F0 m (pc + 1) ls (.int (F i.toNatClampNeg) :: rest))) : W p l e R s m args below meth c H locs cells slots Q (F0 m pc ls (.int i :: .ref (g 47) :: rest)) := dm_iald (f := F) B hP 21 (by rw [← hf]; rfl) hin hdg kk
theorem tw_s_21 (B : dm_B p s m args meth c cc nL ret0 own nm G A) (hP : va_P G.1 dm_cl (tw G g v f) H) (hD : va_D A (tw G g v f)) (hS : va_S A s.heap H locs) {F : Nat → Int32} (hf : f 46 = F) {i x : Int32} (hin : vp_in i 16) (hdg : decode cc pc = .ok (.iastore, 1)) (kk : ∀ (H1 : Heap) (locs1 : List Loc), va_P G.1 dm_cl (tw G g v (va_up f 46 (upd F i.toNatClampNeg x))) H1 → va_D A (tw G g v (va_up f 46 (upd F i.toNatClampNeg x))) → va_S A s.heap H1 locs1 → W p l e R s m args below meth c H1 locs1 cells slots Q (F0 m (pc + 1) ls rest)) : W p l e R s m args below meth c H locs cells slots Q (F0 m pc ls (.int x :: .int i :: .ref (g 47) :: rest)) := dm_iast (f := F) B hP hD hS 21 (by rw [← hf]; rfl) hin hdg (fun H1 locs1 h1 h2 h3 => kk H1 locs1 h1 h2 h3)
end tw_rows
abbrev b_Mo_wordAt : ByteArray := prog_16_method_2_code
abbrev y_Mo_wordAt : MethodName := { cls := "DelayMachineModel", name := "wordAt", desc := "(II)I" }
theorem d_Mo_wordAt_0 : decode b_Mo_wordAt 0 = .ok (.iload_n 0, 1) := by decide +kernel
theorem d_Mo_wordAt_1 : decode b_Mo_wordAt 1 = .ok (.iconst 1, 1) := by decide +kernel
theorem d_Mo_wordAt_2 : decode b_Mo_wordAt 2 = .ok (.if_icmp .le (32), 3) := by decide +kernel
theorem d_Mo_wordAt_5 : decode b_Mo_wordAt 5 = .ok (.iload_n 0, 1) := by decide +kernel
theorem d_Mo_wordAt_6 : decode b_Mo_wordAt 6 = .ok (.bipush (6), 2) := by decide +kernel
theorem d_Mo_wordAt_8 : decode b_Mo_wordAt 8 = .ok (.if_icmp .ge (26), 3) := by decide +kernel
theorem d_Mo_wordAt_11 : decode b_Mo_wordAt 11 = .ok (.iload_n 1, 1) := by decide +kernel
theorem d_Mo_wordAt_12 : decode b_Mo_wordAt 12 = .ok (.ifCond .lt (20), 3) := by decide +kernel
theorem d_Mo_wordAt_15 : decode b_Mo_wordAt 15 = .ok (.iload_n 1, 1) := by decide +kernel
theorem d_Mo_wordAt_16 : decode b_Mo_wordAt 16 = .ok (.bipush (32), 2) := by decide +kernel
theorem d_Mo_wordAt_18 : decode b_Mo_wordAt 18 = .ok (.if_icmp .ge (14), 3) := by decide +kernel
theorem d_Mo_wordAt_21 : decode b_Mo_wordAt 21 = .ok (.bipush (32), 2) := by decide +kernel
theorem d_Mo_wordAt_23 : decode b_Mo_wordAt 23 = .ok (.iload_n 0, 1) := by decide +kernel
theorem d_Mo_wordAt_24 : decode b_Mo_wordAt 24 = .ok (.iconst 2, 1) := by decide +kernel
theorem d_Mo_wordAt_25 : decode b_Mo_wordAt 25 = .ok (.isub, 1) := by decide +kernel
theorem d_Mo_wordAt_26 : decode b_Mo_wordAt 26 = .ok (.imul, 1) := by decide +kernel
theorem d_Mo_wordAt_27 : decode b_Mo_wordAt 27 = .ok (.iload_n 1, 1) := by decide +kernel
theorem d_Mo_wordAt_28 : decode b_Mo_wordAt 28 = .ok (.iadd, 1) := by decide +kernel
theorem d_Mo_wordAt_29 : decode b_Mo_wordAt 29 = .ok (.goto (4), 3) := by decide +kernel
theorem d_Mo_wordAt_32 : decode b_Mo_wordAt 32 = .ok (.iconst (-1), 1) := by decide +kernel
theorem d_Mo_wordAt_33 : decode b_Mo_wordAt 33 = .ok (.ireturn, 1) := by decide +kernel
theorem d_Mo_wordAt_34 : decode b_Mo_wordAt 34 = .ok (.iload_n 0, 1) := by decide +kernel
theorem d_Mo_wordAt_35 : decode b_Mo_wordAt 35 = .ok (.bipush (6), 2) := by decide +kernel
theorem d_Mo_wordAt_37 : decode b_Mo_wordAt 37 = .ok (.if_icmp .eq (9), 3) := by decide +kernel
theorem d_Mo_wordAt_40 : decode b_Mo_wordAt 40 = .ok (.iload_n 0, 1) := by decide +kernel
theorem d_Mo_wordAt_41 : decode b_Mo_wordAt 41 = .ok (.bipush (7), 2) := by decide +kernel
theorem d_Mo_wordAt_43 : decode b_Mo_wordAt 43 = .ok (.if_icmp .ne (20), 3) := by decide +kernel
theorem d_Mo_wordAt_46 : decode b_Mo_wordAt 46 = .ok (.iload_n 1, 1) := by decide +kernel
theorem d_Mo_wordAt_47 : decode b_Mo_wordAt 47 = .ok (.ifCond .ne (14), 3) := by decide +kernel
theorem d_Mo_wordAt_50 : decode b_Mo_wordAt 50 = .ok (.sipush (128), 3) := by decide +kernel
theorem d_Mo_wordAt_53 : decode b_Mo_wordAt 53 = .ok (.iload_n 0, 1) := by decide +kernel
theorem d_Mo_wordAt_54 : decode b_Mo_wordAt 54 = .ok (.iadd, 1) := by decide +kernel
theorem d_Mo_wordAt_55 : decode b_Mo_wordAt 55 = .ok (.bipush (6), 2) := by decide +kernel
theorem d_Mo_wordAt_57 : decode b_Mo_wordAt 57 = .ok (.isub, 1) := by decide +kernel
theorem d_Mo_wordAt_58 : decode b_Mo_wordAt 58 = .ok (.goto (4), 3) := by decide +kernel
theorem d_Mo_wordAt_61 : decode b_Mo_wordAt 61 = .ok (.iconst (-1), 1) := by decide +kernel
theorem d_Mo_wordAt_62 : decode b_Mo_wordAt 62 = .ok (.ireturn, 1) := by decide +kernel
theorem d_Mo_wordAt_63 : decode b_Mo_wordAt 63 = .ok (.iload_n 0, 1) := by decide +kernel
theorem d_Mo_wordAt_64 : decode b_Mo_wordAt 64 = .ok (.bipush (8), 2) := by decide +kernel
theorem d_Mo_wordAt_66 : decode b_Mo_wordAt 66 = .ok (.if_icmp .ne (20), 3) := by decide +kernel
theorem d_Mo_wordAt_69 : decode b_Mo_wordAt 69 = .ok (.iload_n 1, 1) := by decide +kernel
theorem d_Mo_wordAt_70 : decode b_Mo_wordAt 70 = .ok (.ifCond .eq (8), 3) := by decide +kernel
theorem d_Mo_wordAt_73 : decode b_Mo_wordAt 73 = .ok (.iload_n 1, 1) := by decide +kernel
theorem d_Mo_wordAt_74 : decode b_Mo_wordAt 74 = .ok (.iconst 1, 1) := by decide +kernel
theorem d_Mo_wordAt_75 : decode b_Mo_wordAt 75 = .ok (.if_icmp .ne (11), 3) := by decide +kernel
theorem d_Mo_wordAt_78 : decode b_Mo_wordAt 78 = .ok (.sipush (130), 3) := by decide +kernel
theorem d_Mo_wordAt_81 : decode b_Mo_wordAt 81 = .ok (.iload_n 1, 1) := by decide +kernel
theorem d_Mo_wordAt_82 : decode b_Mo_wordAt 82 = .ok (.iadd, 1) := by decide +kernel
theorem d_Mo_wordAt_83 : decode b_Mo_wordAt 83 = .ok (.goto (4), 3) := by decide +kernel
theorem d_Mo_wordAt_86 : decode b_Mo_wordAt 86 = .ok (.iconst (-1), 1) := by decide +kernel
theorem d_Mo_wordAt_87 : decode b_Mo_wordAt 87 = .ok (.ireturn, 1) := by decide +kernel
theorem hd_Mo_wordAt : y_Mo_wordAt.cls ≠ "java/lang/invoke/MethodHandle" ∧ y_Mo_wordAt.cls ≠ "java/lang/invoke/VarHandle" ∧ (parseMethodDescriptor y_Mo_wordAt.desc).map (fun d => d.parameters.length) = some 2 := by decide +kernel
abbrev rm_Mo_wordAt : Room := { frames := 0, cells := 0, slots := 0, locals := 0 }
def F_Mo_wordAt_32 (x0 x1 : Int32)     : Option (Int32) := (some (-1 : Int32))
def F_Mo_wordAt_46 (x0 x1 : Int32)     : Option (Int32) := (if x1 = (0 : Int32) then (some (((128 : Int32) + x0) - (6 : Int32))) else (some (-1 : Int32)))
def F_Mo_wordAt_86 (x0 x1 : Int32)     : Option (Int32) := (some (-1 : Int32))
def F_Mo_wordAt_78 (x0 x1 : Int32)     : Option (Int32) := (some ((130 : Int32) + x1))
def F_Mo_wordAt_34 (x0 x1 : Int32)     : Option (Int32) := (if x0 = (6 : Int32) then (F_Mo_wordAt_46 x0 x1) else (if x0 = (7 : Int32) then (F_Mo_wordAt_46 x0 x1) else (if x0 = (8 : Int32) then (if x1 = (0 : Int32) then (F_Mo_wordAt_78 x0 x1) else (if x1 = (1 : Int32) then (F_Mo_wordAt_78 x0 x1) else (F_Mo_wordAt_86 x0 x1))) else (F_Mo_wordAt_86 x0 x1))))
def F_Mo_wordAt (x0 x1 : Int32)   : Option (Int32) := (if x0 ≤ (1 : Int32) then (F_Mo_wordAt_34 x0 x1) else (if (6 : Int32) ≤ x0 then (F_Mo_wordAt_34 x0 x1) else (if x1 < (0 : Int32) then (F_Mo_wordAt_32 x0 x1) else (if (32 : Int32) ≤ x1 then (F_Mo_wordAt_32 x0 x1) else (some (((32 : Int32) * (x0 - (2 : Int32))) + x1))))))
set_option maxHeartbeats 4000000 in
set_option maxRecDepth 100000 in
theorem c_Mo_wordAt (l : Launch) (G : dm_G)  (w : va_W) (x0 x1 : Int32)  (RES : Int32) (hF : F_Mo_wordAt x0 x1 = some RES) : dm_Ct l y_Mo_wordAt b_Mo_wordAt 2 (some .int) rm_Mo_wordAt G w [.int x0, .int x1] (fun ov w' => ov = some (.int RES) ∧ w' = w) := by
  refine dm_Ct.of (by decide +kernel) (Nat.le_of_ble_eq_true rfl) ?_
  intro p e s m below meth c A ls B hl hP hD hS
  have hx := B.1
  have hb := B.2.1
  have hl : lv_has ls 2 [(0, .int x0), (1, .int x1)] := hl
  have K32 : ∀ (ls : Array Slot) (H : Heap) (locs : List Loc)  , lv_has ls 2 [] → va_P G.1 dm_cl w H → va_D A w → va_S A s.heap H locs → F_Mo_wordAt_32 x0 x1   = some RES → W p l e rm_Mo_wordAt s m ([.int x0, .int x1] : List Value).toArray below meth c H locs 0 0 (dm_Z below G s ([.int x0, .int x1] : List Value).toArray A rm_Mo_wordAt.cells rm_Mo_wordAt.slots (fun ov w' => ov = some (.int RES) ∧ w' = w)) (F0 m 32 ls []) := by
    intro ls H locs  hl hP hD hS hF
    have hF : (some (-1 : Int32)) = some RES := hF
    refine lv_iconst (v := (-1 : Int32)) hx hb d_Mo_wordAt_32 (by decide) ?_
    have hF := Option.some.inj hF
    subst hF
    exact dm_ret B rfl d_Mo_wordAt_33 (by decide) (by decide) hP hD hS ⟨rfl, rfl⟩
  have K46 : ∀ (ls : Array Slot) (H : Heap) (locs : List Loc)  , lv_has ls 2 [(0, .int x0), (1, .int x1)] → va_P G.1 dm_cl w H → va_D A w → va_S A s.heap H locs → F_Mo_wordAt_46 x0 x1   = some RES → W p l e rm_Mo_wordAt s m ([.int x0, .int x1] : List Value).toArray below meth c H locs 0 0 (dm_Z below G s ([.int x0, .int x1] : List Value).toArray A rm_Mo_wordAt.cells rm_Mo_wordAt.slots (fun ov w' => ov = some (.int RES) ∧ w' = w)) (F0 m 46 ls []) := by
    intro ls H locs  hl hP hD hS hF
    have hF : (if x1 = (0 : Int32) then (some (((128 : Int32) + x0) - (6 : Int32))) else (some (-1 : Int32))) = some RES := hF
    refine lv_iload_n hx hb d_Mo_wordAt_46 rfl (lv_at hl 1 rfl) ?_
    refine lv_if_ne (tgt := 61) hx hb d_Mo_wordAt_47 (by decide) (fun (hh : ¬ x1 = (0 : Int32)) => ?_) (fun (hh : x1 = (0 : Int32)) => ?_)
    · rw [if_neg hh] at hF
      refine lv_iconst (v := (-1 : Int32)) hx hb d_Mo_wordAt_61 (by decide) ?_
      have hF := Option.some.inj hF
      subst hF
      exact dm_ret B rfl d_Mo_wordAt_62 (by decide) (by decide) hP hD hS ⟨rfl, rfl⟩
    · rw [if_pos hh] at hF
      refine lv_sipush (v := (128 : Int32)) hx hb d_Mo_wordAt_50 (by decide) ?_
      refine lv_iload_n hx hb d_Mo_wordAt_53 rfl (lv_at hl 0 rfl) ?_
      refine lv_iadd hx hb d_Mo_wordAt_54 ?_
      refine lv_bipush (v := (6 : Int32)) hx hb d_Mo_wordAt_55 (by decide) ?_
      refine lv_isub hx hb d_Mo_wordAt_57 ?_
      refine lv_goto (tgt := 62) hx hb d_Mo_wordAt_58 (by decide) ?_
      have hF := Option.some.inj hF
      subst hF
      exact dm_ret B rfl d_Mo_wordAt_62 (by decide) (by decide) hP hD hS ⟨rfl, rfl⟩
  have K86 : ∀ (ls : Array Slot) (H : Heap) (locs : List Loc)  , lv_has ls 2 [] → va_P G.1 dm_cl w H → va_D A w → va_S A s.heap H locs → F_Mo_wordAt_86 x0 x1   = some RES → W p l e rm_Mo_wordAt s m ([.int x0, .int x1] : List Value).toArray below meth c H locs 0 0 (dm_Z below G s ([.int x0, .int x1] : List Value).toArray A rm_Mo_wordAt.cells rm_Mo_wordAt.slots (fun ov w' => ov = some (.int RES) ∧ w' = w)) (F0 m 86 ls []) := by
    intro ls H locs  hl hP hD hS hF
    have hF : (some (-1 : Int32)) = some RES := hF
    refine lv_iconst (v := (-1 : Int32)) hx hb d_Mo_wordAt_86 (by decide) ?_
    have hF := Option.some.inj hF
    subst hF
    exact dm_ret B rfl d_Mo_wordAt_87 (by decide) (by decide) hP hD hS ⟨rfl, rfl⟩
  have K78 : ∀ (ls : Array Slot) (H : Heap) (locs : List Loc)  , lv_has ls 2 [(1, .int x1)] → va_P G.1 dm_cl w H → va_D A w → va_S A s.heap H locs → F_Mo_wordAt_78 x0 x1   = some RES → W p l e rm_Mo_wordAt s m ([.int x0, .int x1] : List Value).toArray below meth c H locs 0 0 (dm_Z below G s ([.int x0, .int x1] : List Value).toArray A rm_Mo_wordAt.cells rm_Mo_wordAt.slots (fun ov w' => ov = some (.int RES) ∧ w' = w)) (F0 m 78 ls []) := by
    intro ls H locs  hl hP hD hS hF
    have hF : (some ((130 : Int32) + x1)) = some RES := hF
    refine lv_sipush (v := (130 : Int32)) hx hb d_Mo_wordAt_78 (by decide) ?_
    refine lv_iload_n hx hb d_Mo_wordAt_81 rfl (lv_at hl 0 rfl) ?_
    refine lv_iadd hx hb d_Mo_wordAt_82 ?_
    refine lv_goto (tgt := 87) hx hb d_Mo_wordAt_83 (by decide) ?_
    have hF := Option.some.inj hF
    subst hF
    exact dm_ret B rfl d_Mo_wordAt_87 (by decide) (by decide) hP hD hS ⟨rfl, rfl⟩
  have K34 : ∀ (ls : Array Slot) (H : Heap) (locs : List Loc)  , lv_has ls 2 [(0, .int x0), (1, .int x1)] → va_P G.1 dm_cl w H → va_D A w → va_S A s.heap H locs → F_Mo_wordAt_34 x0 x1   = some RES → W p l e rm_Mo_wordAt s m ([.int x0, .int x1] : List Value).toArray below meth c H locs 0 0 (dm_Z below G s ([.int x0, .int x1] : List Value).toArray A rm_Mo_wordAt.cells rm_Mo_wordAt.slots (fun ov w' => ov = some (.int RES) ∧ w' = w)) (F0 m 34 ls []) := by
    intro ls H locs  hl hP hD hS hF
    have hF : (if x0 = (6 : Int32) then (F_Mo_wordAt_46 x0 x1) else (if x0 = (7 : Int32) then (F_Mo_wordAt_46 x0 x1) else (if x0 = (8 : Int32) then (if x1 = (0 : Int32) then (F_Mo_wordAt_78 x0 x1) else (if x1 = (1 : Int32) then (F_Mo_wordAt_78 x0 x1) else (F_Mo_wordAt_86 x0 x1))) else (F_Mo_wordAt_86 x0 x1)))) = some RES := hF
    refine lv_iload_n hx hb d_Mo_wordAt_34 rfl (lv_at hl 0 rfl) ?_
    refine lv_bipush (v := (6 : Int32)) hx hb d_Mo_wordAt_35 (by decide) ?_
    refine lv_icmp_eq (tgt := 46) hx hb d_Mo_wordAt_37 (by decide) (fun (hh : x0 = (6 : Int32)) => ?_) (fun (hh : ¬ x0 = (6 : Int32)) => ?_)
    · rw [if_pos hh] at hF
      exact K46 ls _ _  (lv_sub hl [0, 1] rfl) hP hD hS hF
    · rw [if_neg hh] at hF
      refine lv_iload_n hx hb d_Mo_wordAt_40 rfl (lv_at hl 0 rfl) ?_
      refine lv_bipush (v := (7 : Int32)) hx hb d_Mo_wordAt_41 (by decide) ?_
      refine lv_icmp_ne (tgt := 63) hx hb d_Mo_wordAt_43 (by decide) (fun (hh : ¬ x0 = (7 : Int32)) => ?_) (fun (hh : x0 = (7 : Int32)) => ?_)
      · rw [if_neg hh] at hF
        refine lv_iload_n hx hb d_Mo_wordAt_63 rfl (lv_at hl 0 rfl) ?_
        refine lv_bipush (v := (8 : Int32)) hx hb d_Mo_wordAt_64 (by decide) ?_
        refine lv_icmp_ne (tgt := 86) hx hb d_Mo_wordAt_66 (by decide) (fun (hh : ¬ x0 = (8 : Int32)) => ?_) (fun (hh : x0 = (8 : Int32)) => ?_)
        · rw [if_neg hh] at hF
          exact K86 ls _ _  (lv_sub hl [] rfl) hP hD hS hF
        · rw [if_pos hh] at hF
          refine lv_iload_n hx hb d_Mo_wordAt_69 rfl (lv_at hl 1 rfl) ?_
          refine lv_if_eq (tgt := 78) hx hb d_Mo_wordAt_70 (by decide) (fun (hh : x1 = (0 : Int32)) => ?_) (fun (hh : ¬ x1 = (0 : Int32)) => ?_)
          · rw [if_pos hh] at hF
            exact K78 ls _ _  (lv_sub hl [1] rfl) hP hD hS hF
          · rw [if_neg hh] at hF
            refine lv_iload_n hx hb d_Mo_wordAt_73 rfl (lv_at hl 1 rfl) ?_
            refine lv_iconst (v := (1 : Int32)) hx hb d_Mo_wordAt_74 (by decide) ?_
            refine lv_icmp_ne (tgt := 86) hx hb d_Mo_wordAt_75 (by decide) (fun (hh : ¬ x1 = (1 : Int32)) => ?_) (fun (hh : x1 = (1 : Int32)) => ?_)
            · rw [if_neg hh] at hF
              exact K86 ls _ _  (lv_sub hl [] rfl) hP hD hS hF
            · rw [if_pos hh] at hF
              exact K78 ls _ _  (lv_sub hl [1] rfl) hP hD hS hF
      · rw [if_pos hh] at hF
        exact K46 ls _ _  (lv_sub hl [0, 1] rfl) hP hD hS hF
  have hF : (if x0 ≤ (1 : Int32) then (F_Mo_wordAt_34 x0 x1) else (if (6 : Int32) ≤ x0 then (F_Mo_wordAt_34 x0 x1) else (if x1 < (0 : Int32) then (F_Mo_wordAt_32 x0 x1) else (if (32 : Int32) ≤ x1 then (F_Mo_wordAt_32 x0 x1) else (some (((32 : Int32) * (x0 - (2 : Int32))) + x1)))))) = some RES := hF
  refine lv_iload_n hx hb d_Mo_wordAt_0 rfl (lv_at hl 0 rfl) ?_
  refine lv_iconst (v := (1 : Int32)) hx hb d_Mo_wordAt_1 (by decide) ?_
  refine lv_icmp_le (tgt := 34) hx hb d_Mo_wordAt_2 (by decide) (fun (hh : x0 ≤ (1 : Int32)) => ?_) (fun (hh : ¬ x0 ≤ (1 : Int32)) => ?_)
  · rw [if_pos hh] at hF
    exact K34 ls _ _  (lv_sub hl [0, 1] rfl) hP hD hS hF
  · rw [if_neg hh] at hF
    refine lv_iload_n hx hb d_Mo_wordAt_5 rfl (lv_at hl 0 rfl) ?_
    refine lv_bipush (v := (6 : Int32)) hx hb d_Mo_wordAt_6 (by decide) ?_
    refine lv_icmp_ge (tgt := 34) hx hb d_Mo_wordAt_8 (by decide) (fun (hh : (6 : Int32) ≤ x0) => ?_) (fun (hh : ¬ (6 : Int32) ≤ x0) => ?_)
    · rw [if_pos hh] at hF
      exact K34 ls _ _  (lv_sub hl [0, 1] rfl) hP hD hS hF
    · rw [if_neg hh] at hF
      refine lv_iload_n hx hb d_Mo_wordAt_11 rfl (lv_at hl 1 rfl) ?_
      refine lv_if_lt (tgt := 32) hx hb d_Mo_wordAt_12 (by decide) (fun (hh : x1 < (0 : Int32)) => ?_) (fun (hh : ¬ x1 < (0 : Int32)) => ?_)
      · rw [if_pos hh] at hF
        exact K32 ls _ _  (lv_sub hl [] rfl) hP hD hS hF
      · rw [if_neg hh] at hF
        refine lv_iload_n hx hb d_Mo_wordAt_15 rfl (lv_at hl 1 rfl) ?_
        refine lv_bipush (v := (32 : Int32)) hx hb d_Mo_wordAt_16 (by decide) ?_
        refine lv_icmp_ge (tgt := 32) hx hb d_Mo_wordAt_18 (by decide) (fun (hh : (32 : Int32) ≤ x1) => ?_) (fun (hh : ¬ (32 : Int32) ≤ x1) => ?_)
        · rw [if_pos hh] at hF
          exact K32 ls _ _  (lv_sub hl [] rfl) hP hD hS hF
        · rw [if_neg hh] at hF
          refine lv_bipush (v := (32 : Int32)) hx hb d_Mo_wordAt_21 (by decide) ?_
          refine lv_iload_n hx hb d_Mo_wordAt_23 rfl (lv_at hl 0 rfl) ?_
          refine lv_iconst (v := (2 : Int32)) hx hb d_Mo_wordAt_24 (by decide) ?_
          refine lv_isub hx hb d_Mo_wordAt_25 ?_
          refine lv_imul hx hb d_Mo_wordAt_26 ?_
          refine lv_iload_n hx hb d_Mo_wordAt_27 rfl (lv_at hl 1 rfl) ?_
          refine lv_iadd hx hb d_Mo_wordAt_28 ?_
          refine lv_goto (tgt := 33) hx hb d_Mo_wordAt_29 (by decide) ?_
          have hF := Option.some.inj hF
          subst hF
          exact dm_ret B rfl d_Mo_wordAt_33 (by decide) (by decide) hP hD hS ⟨rfl, rfl⟩
abbrev b_Mo_isOrder : ByteArray := prog_16_method_3_code
abbrev y_Mo_isOrder : MethodName := { cls := "DelayMachineModel", name := "isOrder", desc := "(II)Z" }
theorem d_Mo_isOrder_0 : decode b_Mo_isOrder 0 = .ok (.iload_n 0, 1) := by decide +kernel
theorem d_Mo_isOrder_1 : decode b_Mo_isOrder 1 = .ok (.ifCond .eq (8), 3) := by decide +kernel
theorem d_Mo_isOrder_4 : decode b_Mo_isOrder 4 = .ok (.iload_n 0, 1) := by decide +kernel
theorem d_Mo_isOrder_5 : decode b_Mo_isOrder 5 = .ok (.iconst 1, 1) := by decide +kernel
theorem d_Mo_isOrder_6 : decode b_Mo_isOrder 6 = .ok (.if_icmp .ne (17), 3) := by decide +kernel
theorem d_Mo_isOrder_9 : decode b_Mo_isOrder 9 = .ok (.iload_n 1, 1) := by decide +kernel
theorem d_Mo_isOrder_10 : decode b_Mo_isOrder 10 = .ok (.ifCond .lt (13), 3) := by decide +kernel
theorem d_Mo_isOrder_13 : decode b_Mo_isOrder 13 = .ok (.iload_n 1, 1) := by decide +kernel
theorem d_Mo_isOrder_14 : decode b_Mo_isOrder 14 = .ok (.bipush (32), 2) := by decide +kernel
theorem d_Mo_isOrder_16 : decode b_Mo_isOrder 16 = .ok (.if_icmp .ge (7), 3) := by decide +kernel
theorem d_Mo_isOrder_19 : decode b_Mo_isOrder 19 = .ok (.iconst 1, 1) := by decide +kernel
theorem d_Mo_isOrder_20 : decode b_Mo_isOrder 20 = .ok (.goto (4), 3) := by decide +kernel
theorem d_Mo_isOrder_23 : decode b_Mo_isOrder 23 = .ok (.iconst 0, 1) := by decide +kernel
theorem d_Mo_isOrder_24 : decode b_Mo_isOrder 24 = .ok (.ireturn, 1) := by decide +kernel
theorem hd_Mo_isOrder : y_Mo_isOrder.cls ≠ "java/lang/invoke/MethodHandle" ∧ y_Mo_isOrder.cls ≠ "java/lang/invoke/VarHandle" ∧ (parseMethodDescriptor y_Mo_isOrder.desc).map (fun d => d.parameters.length) = some 2 := by decide +kernel
abbrev rm_Mo_isOrder : Room := { frames := 0, cells := 0, slots := 0, locals := 0 }
def F_Mo_isOrder_23 (x0 x1 : Int32)     : Option (Int32) := (some (0 : Int32))
def F_Mo_isOrder_9 (x0 x1 : Int32)     : Option (Int32) := (if x1 < (0 : Int32) then (F_Mo_isOrder_23 x0 x1) else (if (32 : Int32) ≤ x1 then (F_Mo_isOrder_23 x0 x1) else (some (1 : Int32))))
def F_Mo_isOrder (x0 x1 : Int32)   : Option (Int32) := (if x0 = (0 : Int32) then (F_Mo_isOrder_9 x0 x1) else (if x0 = (1 : Int32) then (F_Mo_isOrder_9 x0 x1) else (F_Mo_isOrder_23 x0 x1)))
set_option maxHeartbeats 4000000 in
set_option maxRecDepth 100000 in
theorem c_Mo_isOrder (l : Launch) (G : dm_G)  (w : va_W) (x0 x1 : Int32)  (RES : Int32) (hF : F_Mo_isOrder x0 x1 = some RES) : dm_Ct l y_Mo_isOrder b_Mo_isOrder 2 (some .boolean) rm_Mo_isOrder G w [.int x0, .int x1] (fun ov w' => ov = some (.int RES) ∧ w' = w) := by
  refine dm_Ct.of (by decide +kernel) (Nat.le_of_ble_eq_true rfl) ?_
  intro p e s m below meth c A ls B hl hP hD hS
  have hx := B.1
  have hb := B.2.1
  have hl : lv_has ls 2 [(0, .int x0), (1, .int x1)] := hl
  have K23 : ∀ (ls : Array Slot) (H : Heap) (locs : List Loc)  , lv_has ls 2 [] → va_P G.1 dm_cl w H → va_D A w → va_S A s.heap H locs → F_Mo_isOrder_23 x0 x1   = some RES → W p l e rm_Mo_isOrder s m ([.int x0, .int x1] : List Value).toArray below meth c H locs 0 0 (dm_Z below G s ([.int x0, .int x1] : List Value).toArray A rm_Mo_isOrder.cells rm_Mo_isOrder.slots (fun ov w' => ov = some (.int RES) ∧ w' = w)) (F0 m 23 ls []) := by
    intro ls H locs  hl hP hD hS hF
    have hF : (some (0 : Int32)) = some RES := hF
    refine lv_iconst (v := (0 : Int32)) hx hb d_Mo_isOrder_23 (by decide) ?_
    have hF := Option.some.inj hF
    subst hF
    exact dm_ret B (by decide) d_Mo_isOrder_24 (by decide) (by decide) hP hD hS ⟨rfl, rfl⟩
  have K9 : ∀ (ls : Array Slot) (H : Heap) (locs : List Loc)  , lv_has ls 2 [(1, .int x1)] → va_P G.1 dm_cl w H → va_D A w → va_S A s.heap H locs → F_Mo_isOrder_9 x0 x1   = some RES → W p l e rm_Mo_isOrder s m ([.int x0, .int x1] : List Value).toArray below meth c H locs 0 0 (dm_Z below G s ([.int x0, .int x1] : List Value).toArray A rm_Mo_isOrder.cells rm_Mo_isOrder.slots (fun ov w' => ov = some (.int RES) ∧ w' = w)) (F0 m 9 ls []) := by
    intro ls H locs  hl hP hD hS hF
    have hF : (if x1 < (0 : Int32) then (F_Mo_isOrder_23 x0 x1) else (if (32 : Int32) ≤ x1 then (F_Mo_isOrder_23 x0 x1) else (some (1 : Int32)))) = some RES := hF
    refine lv_iload_n hx hb d_Mo_isOrder_9 rfl (lv_at hl 0 rfl) ?_
    refine lv_if_lt (tgt := 23) hx hb d_Mo_isOrder_10 (by decide) (fun (hh : x1 < (0 : Int32)) => ?_) (fun (hh : ¬ x1 < (0 : Int32)) => ?_)
    · rw [if_pos hh] at hF
      exact K23 ls _ _  (lv_sub hl [] rfl) hP hD hS hF
    · rw [if_neg hh] at hF
      refine lv_iload_n hx hb d_Mo_isOrder_13 rfl (lv_at hl 0 rfl) ?_
      refine lv_bipush (v := (32 : Int32)) hx hb d_Mo_isOrder_14 (by decide) ?_
      refine lv_icmp_ge (tgt := 23) hx hb d_Mo_isOrder_16 (by decide) (fun (hh : (32 : Int32) ≤ x1) => ?_) (fun (hh : ¬ (32 : Int32) ≤ x1) => ?_)
      · rw [if_pos hh] at hF
        exact K23 ls _ _  (lv_sub hl [] rfl) hP hD hS hF
      · rw [if_neg hh] at hF
        refine lv_iconst (v := (1 : Int32)) hx hb d_Mo_isOrder_19 (by decide) ?_
        refine lv_goto (tgt := 24) hx hb d_Mo_isOrder_20 (by decide) ?_
        have hF := Option.some.inj hF
        subst hF
        exact dm_ret B (by decide) d_Mo_isOrder_24 (by decide) (by decide) hP hD hS ⟨rfl, rfl⟩
  have hF : (if x0 = (0 : Int32) then (F_Mo_isOrder_9 x0 x1) else (if x0 = (1 : Int32) then (F_Mo_isOrder_9 x0 x1) else (F_Mo_isOrder_23 x0 x1))) = some RES := hF
  refine lv_iload_n hx hb d_Mo_isOrder_0 rfl (lv_at hl 0 rfl) ?_
  refine lv_if_eq (tgt := 9) hx hb d_Mo_isOrder_1 (by decide) (fun (hh : x0 = (0 : Int32)) => ?_) (fun (hh : ¬ x0 = (0 : Int32)) => ?_)
  · rw [if_pos hh] at hF
    exact K9 ls _ _  (lv_sub hl [1] rfl) hP hD hS hF
  · rw [if_neg hh] at hF
    refine lv_iload_n hx hb d_Mo_isOrder_4 rfl (lv_at hl 0 rfl) ?_
    refine lv_iconst (v := (1 : Int32)) hx hb d_Mo_isOrder_5 (by decide) ?_
    refine lv_icmp_ne (tgt := 23) hx hb d_Mo_isOrder_6 (by decide) (fun (hh : ¬ x0 = (1 : Int32)) => ?_) (fun (hh : x0 = (1 : Int32)) => ?_)
    · rw [if_neg hh] at hF
      exact K23 ls _ _  (lv_sub hl [] rfl) hP hD hS hF
    · rw [if_pos hh] at hF
      exact K9 ls _ _  (lv_sub hl [1] rfl) hP hD hS hF
abbrev b_Mo_order : ByteArray := prog_16_method_4_code
abbrev y_Mo_order : MethodName := { cls := "DelayMachineModel", name := "order", desc := "(III)Z" }
theorem d_Mo_order_0 : decode b_Mo_order 0 = .ok (.iload_n 1, 1) := by decide +kernel
theorem d_Mo_order_1 : decode b_Mo_order 1 = .ok (.iload_n 2, 1) := by decide +kernel
theorem d_Mo_order_2 : decode b_Mo_order 2 = .ok (.invokestatic 82, 3) := by decide +kernel
theorem d_Mo_order_5 : decode b_Mo_order 5 = .ok (.ifCond .eq (13), 3) := by decide +kernel
theorem d_Mo_order_8 : decode b_Mo_order 8 = .ok (.iload_n 3, 1) := by decide +kernel
theorem d_Mo_order_9 : decode b_Mo_order 9 = .ok (.ifCond .lt (9), 3) := by decide +kernel
theorem d_Mo_order_12 : decode b_Mo_order 12 = .ok (.iload_n 3, 1) := by decide +kernel
theorem d_Mo_order_13 : decode b_Mo_order 13 = .ok (.ldc 86, 2) := by decide +kernel
theorem d_Mo_order_15 : decode b_Mo_order 15 = .ok (.if_icmp .le (5), 3) := by decide +kernel
theorem d_Mo_order_18 : decode b_Mo_order 18 = .ok (.iconst 0, 1) := by decide +kernel
theorem d_Mo_order_19 : decode b_Mo_order 19 = .ok (.ireturn, 1) := by decide +kernel
theorem d_Mo_order_20 : decode b_Mo_order 20 = .ok (.aload_n 0, 1) := by decide +kernel
theorem d_Mo_order_21 : decode b_Mo_order 21 = .ok (.getfield 7, 3) := by decide +kernel
theorem d_Mo_order_24 : decode b_Mo_order 24 = .ok (.bipush (32), 2) := by decide +kernel
theorem d_Mo_order_26 : decode b_Mo_order 26 = .ok (.iload_n 1, 1) := by decide +kernel
theorem d_Mo_order_27 : decode b_Mo_order 27 = .ok (.imul, 1) := by decide +kernel
theorem d_Mo_order_28 : decode b_Mo_order 28 = .ok (.iload_n 2, 1) := by decide +kernel
theorem d_Mo_order_29 : decode b_Mo_order 29 = .ok (.iadd, 1) := by decide +kernel
theorem d_Mo_order_30 : decode b_Mo_order 30 = .ok (.iload_n 3, 1) := by decide +kernel
theorem d_Mo_order_31 : decode b_Mo_order 31 = .ok (.iastore, 1) := by decide +kernel
theorem d_Mo_order_32 : decode b_Mo_order 32 = .ok (.iconst 1, 1) := by decide +kernel
theorem d_Mo_order_33 : decode b_Mo_order 33 = .ok (.ireturn, 1) := by decide +kernel
theorem hd_Mo_order : y_Mo_order.cls ≠ "java/lang/invoke/MethodHandle" ∧ y_Mo_order.cls ≠ "java/lang/invoke/VarHandle" ∧ (parseMethodDescriptor y_Mo_order.desc).map (fun d => d.parameters.length) = some 3 := by decide +kernel
abbrev rm_Mo_order : Room := { frames := 1, cells := 0, slots := 0, locals := 21 }
def F_Mo_order_18 (x1 x2 x3 : Int32)    (v : Nat → Int32) (f : Nat → Nat → Int32) : Option (Int32 × (Nat → Int32) × (Nat → Nat → Int32)) := (some ((0 : Int32), v, f))
def F_Mo_order (x1 x2 x3 : Int32)  (v : Nat → Int32) (f : Nat → Nat → Int32) : Option (Int32 × (Nat → Int32) × (Nat → Nat → Int32)) := (Option.bind (F_Mo_isOrder x1 x2) (fun z1 => (if z1 = (0 : Int32) then (F_Mo_order_18 x1 x2 x3 v f) else (if x3 < (0 : Int32) then (F_Mo_order_18 x1 x2 x3 v f) else (if x3 ≤ (2097151 : Int32) then (if (((32 : Int32) * x1) + x2) < 0 ∨ 64 ≤ (((32 : Int32) * x1) + x2).toNatClampNeg then none else (some ((1 : Int32), v, (va_up f 0 (upd (f 0) (((32 : Int32) * x1) + x2).toNatClampNeg x3))))) else (F_Mo_order_18 x1 x2 x3 v f))))))
set_option maxHeartbeats 4000000 in
set_option maxRecDepth 100000 in
theorem c_Mo_order (l : Launch) (G : dm_G) (g : Nat → Nat) (x1 x2 x3 : Int32) (v : Nat → Int32) (f : Nat → Nat → Int32) (RES : Int32 × (Nat → Int32) × (Nat → Nat → Int32)) (hF : F_Mo_order x1 x2 x3 v f = some RES) : dm_Ct l y_Mo_order b_Mo_order 4 (some .boolean) rm_Mo_order G (tw G g v f) [.ref (g 0), .int x1, .int x2, .int x3] (fun ov w' => ov = some (.int RES.1) ∧ w' = (tw G g RES.2.1 RES.2.2)) := by
  refine dm_Ct.of (by decide +kernel) (Nat.le_of_ble_eq_true rfl) ?_
  intro p e s m below meth c A ls B hl hP hD hS
  have hx := B.1
  have hb := B.2.1
  have hl : lv_has ls 4 [(0, .ref (g 0)), (1, .int x1), (2, .int x2), (3, .int x3)] := hl
  have K18 : ∀ (ls : Array Slot) (H : Heap) (locs : List Loc)  (v : Nat → Int32) (f : Nat → Nat → Int32), lv_has ls 4 [] → va_P G.1 dm_cl (tw G g v f) H → va_D A (tw G g v f) → va_S A s.heap H locs → F_Mo_order_18 x1 x2 x3  v f = some RES → W p l e rm_Mo_order s m ([.ref (g 0), .int x1, .int x2, .int x3] : List Value).toArray below meth c H locs 0 0 (dm_Z below G s ([.ref (g 0), .int x1, .int x2, .int x3] : List Value).toArray A rm_Mo_order.cells rm_Mo_order.slots (fun ov w' => ov = some (.int RES.1) ∧ w' = (tw G g RES.2.1 RES.2.2))) (F0 m 18 ls []) := by
    intro ls H locs v f hl hP hD hS hF
    have hF : (some ((0 : Int32), v, f)) = some RES := hF
    refine lv_iconst (v := (0 : Int32)) hx hb d_Mo_order_18 (by decide) ?_
    have hF := Option.some.inj hF
    subst hF
    exact dm_ret B (by decide) d_Mo_order_19 (by decide) (by decide) hP hD hS ⟨rfl, rfl⟩
  have hF : (Option.bind (F_Mo_isOrder x1 x2) (fun z1 => (if z1 = (0 : Int32) then (F_Mo_order_18 x1 x2 x3 v f) else (if x3 < (0 : Int32) then (F_Mo_order_18 x1 x2 x3 v f) else (if x3 ≤ (2097151 : Int32) then (if (((32 : Int32) * x1) + x2) < 0 ∨ 64 ≤ (((32 : Int32) * x1) + x2).toNatClampNeg then none else (some ((1 : Int32), v, (va_up f 0 (upd (f 0) (((32 : Int32) * x1) + x2).toNatClampNeg x3))))) else (F_Mo_order_18 x1 x2 x3 v f)))))) = some RES := hF
  refine lv_iload_n hx hb d_Mo_order_0 rfl (lv_at hl 1 rfl) ?_
  refine lv_iload_n hx hb d_Mo_order_1 rfl (lv_at hl 2 rfl) ?_
  obtain ⟨z1, hcz1, hF⟩ := dm_bind hF
  refine dm_callSw B [.int x1, .int x2] (c_Mo_isOrder l G (tw G g v f) x1 x2 z1 hcz1) k_871 k_872 k_14 k_873 hd_Mo_isOrder rfl ⟨by decide, by decide⟩ hP hD hS hl.1 (rest := []) rfl (Nat.le_of_ble_eq_true rfl) d_Mo_order_2 ⟨by decide, by decide⟩ (fun ov w' H locs hq hP hD hS => ?_)
  obtain ⟨rfl, rfl⟩ := hq
  have hP : va_P G.1 dm_cl (tw G g v f) H := hP
  have hD : va_D A (tw G g v f) := hD
  refine W.eq (g2 := F0 m 5 ls [.int z1]) rfl ?_
  refine lv_if_eq (tgt := 18) hx hb d_Mo_order_5 (by decide) (fun (hh : z1 = (0 : Int32)) => ?_) (fun (hh : ¬ z1 = (0 : Int32)) => ?_)
  · rw [if_pos hh] at hF
    exact K18 ls _ _ v f (lv_sub hl [] rfl) hP hD hS hF
  · rw [if_neg hh] at hF
    refine lv_iload_n hx hb d_Mo_order_8 rfl (lv_at hl 3 rfl) ?_
    refine lv_if_lt (tgt := 18) hx hb d_Mo_order_9 (by decide) (fun (hh : x3 < (0 : Int32)) => ?_) (fun (hh : ¬ x3 < (0 : Int32)) => ?_)
    · rw [if_pos hh] at hF
      exact K18 ls _ _ v f (lv_sub hl [] rfl) hP hD hS hF
    · rw [if_neg hh] at hF
      refine lv_iload_n hx hb d_Mo_order_12 rfl (lv_at hl 3 rfl) ?_
      refine dm_ldc B k_874 d_Mo_order_13 ?_
      refine lv_icmp_le (tgt := 20) hx hb d_Mo_order_15 (by decide) (fun (hh : x3 ≤ (2097151 : Int32)) => ?_) (fun (hh : ¬ x3 ≤ (2097151 : Int32)) => ?_)
      · rw [if_pos hh] at hF
        refine lv_aload_n hx hb d_Mo_order_20 rfl (lv_at hl 0 rfl) ?_
        refine tw_g_0_0 B hP k_725 d_Mo_order_21 ?_
        refine lv_bipush (v := (32 : Int32)) hx hb d_Mo_order_24 (by decide) ?_
        refine lv_iload_n hx hb d_Mo_order_26 rfl (lv_at hl 1 rfl) ?_
        refine lv_imul hx hb d_Mo_order_27 ?_
        refine lv_iload_n hx hb d_Mo_order_28 rfl (lv_at hl 2 rfl) ?_
        refine lv_iadd hx hb d_Mo_order_29 ?_
        refine lv_iload_n hx hb d_Mo_order_30 rfl (lv_at hl 3 rfl) ?_
        obtain ⟨hi, hF⟩ := dm_chk hF
        refine tw_s_1 (F := (f 0)) B hP hD hS rfl hi d_Mo_order_31 (fun H locs hP hD hS => ?_)
        refine lv_iconst (v := (1 : Int32)) hx hb d_Mo_order_32 (by decide) ?_
        have hF := Option.some.inj hF
        subst hF
        exact dm_ret B (by decide) d_Mo_order_33 (by decide) (by decide) hP hD hS ⟨rfl, rfl⟩
      · rw [if_neg hh] at hF
        exact K18 ls _ _ v f (lv_sub hl [] rfl) hP hD hS hF
abbrev b_Mo_word : ByteArray := prog_16_method_5_code
abbrev y_Mo_word : MethodName := { cls := "DelayMachineModel", name := "word", desc := "(IIS)Z" }
theorem d_Mo_word_0 : decode b_Mo_word 0 = .ok (.iload_n 1, 1) := by decide +kernel
theorem d_Mo_word_1 : decode b_Mo_word 1 = .ok (.iload_n 2, 1) := by decide +kernel
theorem d_Mo_word_2 : decode b_Mo_word 2 = .ok (.invokestatic 87, 3) := by decide +kernel
theorem d_Mo_word_5 : decode b_Mo_word 5 = .ok (.istore 4, 2) := by decide +kernel
theorem d_Mo_word_7 : decode b_Mo_word 7 = .ok (.iload 4, 2) := by decide +kernel
theorem d_Mo_word_9 : decode b_Mo_word 9 = .ok (.ifCond .lt (11), 3) := by decide +kernel
theorem d_Mo_word_12 : decode b_Mo_word 12 = .ok (.aload_n 0, 1) := by decide +kernel
theorem d_Mo_word_13 : decode b_Mo_word 13 = .ok (.getfield 13, 3) := by decide +kernel
theorem d_Mo_word_16 : decode b_Mo_word 16 = .ok (.iload 4, 2) := by decide +kernel
theorem d_Mo_word_18 : decode b_Mo_word 18 = .ok (.iload_n 3, 1) := by decide +kernel
theorem d_Mo_word_19 : decode b_Mo_word 19 = .ok (.sastore, 1) := by decide +kernel
theorem d_Mo_word_20 : decode b_Mo_word 20 = .ok (.iload 4, 2) := by decide +kernel
theorem d_Mo_word_22 : decode b_Mo_word 22 = .ok (.ifCond .lt (7), 3) := by decide +kernel
theorem d_Mo_word_25 : decode b_Mo_word 25 = .ok (.iconst 1, 1) := by decide +kernel
theorem d_Mo_word_26 : decode b_Mo_word 26 = .ok (.goto (4), 3) := by decide +kernel
theorem d_Mo_word_29 : decode b_Mo_word 29 = .ok (.iconst 0, 1) := by decide +kernel
theorem d_Mo_word_30 : decode b_Mo_word 30 = .ok (.ireturn, 1) := by decide +kernel
theorem hd_Mo_word : y_Mo_word.cls ≠ "java/lang/invoke/MethodHandle" ∧ y_Mo_word.cls ≠ "java/lang/invoke/VarHandle" ∧ (parseMethodDescriptor y_Mo_word.desc).map (fun d => d.parameters.length) = some 3 := by decide +kernel
abbrev rm_Mo_word : Room := { frames := 1, cells := 0, slots := 0, locals := 21 }
def F_Mo_word_20 (x1 x2 x3 : Int32)   (l4 : Int32) (v : Nat → Int32) (f : Nat → Nat → Int32) : Option (Int32 × (Nat → Int32) × (Nat → Nat → Int32)) := (if l4 < (0 : Int32) then (some ((0 : Int32), v, f)) else (some ((1 : Int32), v, f)))
def F_Mo_word (x1 x2 x3 : Int32)  (v : Nat → Int32) (f : Nat → Nat → Int32) : Option (Int32 × (Nat → Int32) × (Nat → Nat → Int32)) := (Option.bind (F_Mo_wordAt x1 x2) (fun z1 => (if z1 < (0 : Int32) then (F_Mo_word_20 x1 x2 x3 z1 v f) else (if z1 < 0 ∨ 132 ≤ z1.toNatClampNeg then none else (F_Mo_word_20 x1 x2 x3 z1 v (va_up f 1 (upd (f 1) z1.toNatClampNeg x3.toInt16.toInt32)))))))
set_option maxHeartbeats 4000000 in
set_option maxRecDepth 100000 in
theorem c_Mo_word (l : Launch) (G : dm_G) (g : Nat → Nat) (x1 x2 x3 : Int32) (v : Nat → Int32) (f : Nat → Nat → Int32) (RES : Int32 × (Nat → Int32) × (Nat → Nat → Int32)) (hF : F_Mo_word x1 x2 x3 v f = some RES) : dm_Ct l y_Mo_word b_Mo_word 5 (some .boolean) rm_Mo_word G (tw G g v f) [.ref (g 0), .int x1, .int x2, .int x3] (fun ov w' => ov = some (.int RES.1) ∧ w' = (tw G g RES.2.1 RES.2.2)) := by
  refine dm_Ct.of (by decide +kernel) (Nat.le_of_ble_eq_true rfl) ?_
  intro p e s m below meth c A ls B hl hP hD hS
  have hx := B.1
  have hb := B.2.1
  have hl : lv_has ls 5 [(0, .ref (g 0)), (1, .int x1), (2, .int x2), (3, .int x3)] := hl
  have K20 : ∀ (ls : Array Slot) (H : Heap) (locs : List Loc) (l4 : Int32) (v : Nat → Int32) (f : Nat → Nat → Int32), lv_has ls 5 [(4, .int l4)] → va_P G.1 dm_cl (tw G g v f) H → va_D A (tw G g v f) → va_S A s.heap H locs → F_Mo_word_20 x1 x2 x3 l4 v f = some RES → W p l e rm_Mo_word s m ([.ref (g 0), .int x1, .int x2, .int x3] : List Value).toArray below meth c H locs 0 0 (dm_Z below G s ([.ref (g 0), .int x1, .int x2, .int x3] : List Value).toArray A rm_Mo_word.cells rm_Mo_word.slots (fun ov w' => ov = some (.int RES.1) ∧ w' = (tw G g RES.2.1 RES.2.2))) (F0 m 20 ls []) := by
    intro ls H locs l4 v f hl hP hD hS hF
    have hF : (if l4 < (0 : Int32) then (some ((0 : Int32), v, f)) else (some ((1 : Int32), v, f))) = some RES := hF
    refine lv_iload hx hb d_Mo_word_20 (lv_at hl 0 rfl) ?_
    refine lv_if_lt (tgt := 29) hx hb d_Mo_word_22 (by decide) (fun (hh : l4 < (0 : Int32)) => ?_) (fun (hh : ¬ l4 < (0 : Int32)) => ?_)
    · rw [if_pos hh] at hF
      refine lv_iconst (v := (0 : Int32)) hx hb d_Mo_word_29 (by decide) ?_
      have hF := Option.some.inj hF
      subst hF
      exact dm_ret B (by decide) d_Mo_word_30 (by decide) (by decide) hP hD hS ⟨rfl, rfl⟩
    · rw [if_neg hh] at hF
      refine lv_iconst (v := (1 : Int32)) hx hb d_Mo_word_25 (by decide) ?_
      refine lv_goto (tgt := 30) hx hb d_Mo_word_26 (by decide) ?_
      have hF := Option.some.inj hF
      subst hF
      exact dm_ret B (by decide) d_Mo_word_30 (by decide) (by decide) hP hD hS ⟨rfl, rfl⟩
  have hF : (Option.bind (F_Mo_wordAt x1 x2) (fun z1 => (if z1 < (0 : Int32) then (F_Mo_word_20 x1 x2 x3 z1 v f) else (if z1 < 0 ∨ 132 ≤ z1.toNatClampNeg then none else (F_Mo_word_20 x1 x2 x3 z1 v (va_up f 1 (upd (f 1) z1.toNatClampNeg x3.toInt16.toInt32))))))) = some RES := hF
  refine lv_iload_n hx hb d_Mo_word_0 rfl (lv_at hl 1 rfl) ?_
  refine lv_iload_n hx hb d_Mo_word_1 rfl (lv_at hl 2 rfl) ?_
  obtain ⟨z1, hcz1, hF⟩ := dm_bind hF
  refine dm_callSw B [.int x1, .int x2] (c_Mo_wordAt l G (tw G g v f) x1 x2 z1 hcz1) k_879 k_880 k_14 k_881 hd_Mo_wordAt rfl ⟨by decide, by decide⟩ hP hD hS hl.1 (rest := []) rfl (Nat.le_of_ble_eq_true rfl) d_Mo_word_2 ⟨by decide, by decide⟩ (fun ov w' H locs hq hP hD hS => ?_)
  obtain ⟨rfl, rfl⟩ := hq
  have hP : va_P G.1 dm_cl (tw G g v f) H := hP
  have hD : va_D A (tw G g v f) := hD
  refine W.eq (g2 := F0 m 5 ls [.int z1]) rfl ?_
  refine lv_istore (lv' := [(4, .int z1), (0, .ref (g 0)), (1, .int x1), (2, .int x2), (3, .int x3)]) hx hb d_Mo_word_5 hl (Nat.le_of_ble_eq_true rfl) rfl (fun ls hl => ?_)
  have hl : lv_has ls 5 [(0, .ref (g 0)), (1, .int x1), (2, .int x2), (3, .int x3), (4, .int z1)] := lv_sub hl [1, 2, 3, 4, 0] rfl
  refine lv_iload hx hb d_Mo_word_7 (lv_at hl 4 rfl) ?_
  refine lv_if_lt (tgt := 20) hx hb d_Mo_word_9 (by decide) (fun (hh : z1 < (0 : Int32)) => ?_) (fun (hh : ¬ z1 < (0 : Int32)) => ?_)
  · rw [if_pos hh] at hF
    exact K20 ls _ _ z1 v f (lv_sub hl [4] rfl) hP hD hS hF
  · rw [if_neg hh] at hF
    refine lv_aload_n hx hb d_Mo_word_12 rfl (lv_at hl 0 rfl) ?_
    refine tw_g_0_1 B hP k_726 d_Mo_word_13 ?_
    refine lv_iload hx hb d_Mo_word_16 (lv_at hl 4 rfl) ?_
    refine lv_iload_n hx hb d_Mo_word_18 rfl (lv_at hl 3 rfl) ?_
    obtain ⟨hi, hF⟩ := dm_chk hF
    refine tw_s_2 (F := (f 1)) B hP hD hS rfl hi d_Mo_word_19 (fun H locs hP hD hS => ?_)
    exact K20 ls _ _ z1 v (va_up f 1 (upd (f 1) z1.toNatClampNeg x3.toInt16.toInt32)) (lv_sub hl [4] rfl) hP hD hS hF
abbrev b_Mo_card : ByteArray := prog_16_method_6_code
abbrev y_Mo_card : MethodName := { cls := "DelayMachineModel", name := "card", desc := "(S)Z" }
theorem d_Mo_card_0 : decode b_Mo_card 0 = .ok (.aload_n 0, 1) := by decide +kernel
theorem d_Mo_card_1 : decode b_Mo_card 1 = .ok (.getfield 91, 3) := by decide +kernel
theorem d_Mo_card_4 : decode b_Mo_card 4 = .ok (.bipush (48), 2) := by decide +kernel
theorem d_Mo_card_6 : decode b_Mo_card 6 = .ok (.if_icmp .ne (5), 3) := by decide +kernel
theorem d_Mo_card_9 : decode b_Mo_card 9 = .ok (.iconst 0, 1) := by decide +kernel
theorem d_Mo_card_10 : decode b_Mo_card 10 = .ok (.ireturn, 1) := by decide +kernel
theorem d_Mo_card_11 : decode b_Mo_card 11 = .ok (.aload_n 0, 1) := by decide +kernel
theorem d_Mo_card_12 : decode b_Mo_card 12 = .ok (.dup, 1) := by decide +kernel
theorem d_Mo_card_13 : decode b_Mo_card 13 = .ok (.getfield 91, 3) := by decide +kernel
theorem d_Mo_card_16 : decode b_Mo_card 16 = .ok (.iconst 1, 1) := by decide +kernel
theorem d_Mo_card_17 : decode b_Mo_card 17 = .ok (.iadd, 1) := by decide +kernel
theorem d_Mo_card_18 : decode b_Mo_card 18 = .ok (.putfield 91, 3) := by decide +kernel
theorem d_Mo_card_21 : decode b_Mo_card 21 = .ok (.aload_n 0, 1) := by decide +kernel
theorem d_Mo_card_22 : decode b_Mo_card 22 = .ok (.getfield 17, 3) := by decide +kernel
theorem d_Mo_card_25 : decode b_Mo_card 25 = .ok (.aload_n 0, 1) := by decide +kernel
theorem d_Mo_card_26 : decode b_Mo_card 26 = .ok (.getfield 94, 3) := by decide +kernel
theorem d_Mo_card_29 : decode b_Mo_card 29 = .ok (.iload_n 1, 1) := by decide +kernel
theorem d_Mo_card_30 : decode b_Mo_card 30 = .ok (.sastore, 1) := by decide +kernel
theorem d_Mo_card_31 : decode b_Mo_card 31 = .ok (.aload_n 0, 1) := by decide +kernel
theorem d_Mo_card_32 : decode b_Mo_card 32 = .ok (.dup, 1) := by decide +kernel
theorem d_Mo_card_33 : decode b_Mo_card 33 = .ok (.getfield 94, 3) := by decide +kernel
theorem d_Mo_card_36 : decode b_Mo_card 36 = .ok (.iconst 1, 1) := by decide +kernel
theorem d_Mo_card_37 : decode b_Mo_card 37 = .ok (.iadd, 1) := by decide +kernel
theorem d_Mo_card_38 : decode b_Mo_card 38 = .ok (.putfield 94, 3) := by decide +kernel
theorem d_Mo_card_41 : decode b_Mo_card 41 = .ok (.iconst 1, 1) := by decide +kernel
theorem d_Mo_card_42 : decode b_Mo_card 42 = .ok (.ireturn, 1) := by decide +kernel
theorem hd_Mo_card : y_Mo_card.cls ≠ "java/lang/invoke/MethodHandle" ∧ y_Mo_card.cls ≠ "java/lang/invoke/VarHandle" ∧ (parseMethodDescriptor y_Mo_card.desc).map (fun d => d.parameters.length) = some 1 := by decide +kernel
abbrev rm_Mo_card : Room := { frames := 0, cells := 0, slots := 0, locals := 0 }
def F_Mo_card (x1 : Int32)  (v : Nat → Int32) (f : Nat → Nat → Int32) : Option (Int32 × (Nat → Int32) × (Nat → Nat → Int32)) := (if (v 20) = (48 : Int32) then (some ((0 : Int32), v, f)) else (if (v 19) < 0 ∨ 48 ≤ (v 19).toNatClampNeg then none else (some ((1 : Int32), (va_up (va_up v 20 ((v 20) + (1 : Int32))) 19 ((v 19) + (1 : Int32))), (va_up f 21 (upd (f 21) (v 19).toNatClampNeg x1.toInt16.toInt32))))))
set_option maxHeartbeats 4000000 in
set_option maxRecDepth 100000 in
theorem c_Mo_card (l : Launch) (G : dm_G) (g : Nat → Nat) (x1 : Int32) (v : Nat → Int32) (f : Nat → Nat → Int32) (RES : Int32 × (Nat → Int32) × (Nat → Nat → Int32)) (hF : F_Mo_card x1 v f = some RES) : dm_Ct l y_Mo_card b_Mo_card 2 (some .boolean) rm_Mo_card G (tw G g v f) [.ref (g 0), .int x1] (fun ov w' => ov = some (.int RES.1) ∧ w' = (tw G g RES.2.1 RES.2.2)) := by
  refine dm_Ct.of (by decide +kernel) (Nat.le_of_ble_eq_true rfl) ?_
  intro p e s m below meth c A ls B hl hP hD hS
  have hx := B.1
  have hb := B.2.1
  have hl : lv_has ls 2 [(0, .ref (g 0)), (1, .int x1)] := hl
  have hF : (if (v 20) = (48 : Int32) then (some ((0 : Int32), v, f)) else (if (v 19) < 0 ∨ 48 ≤ (v 19).toNatClampNeg then none else (some ((1 : Int32), (va_up (va_up v 20 ((v 20) + (1 : Int32))) 19 ((v 19) + (1 : Int32))), (va_up f 21 (upd (f 21) (v 19).toNatClampNeg x1.toInt16.toInt32)))))) = some RES := hF
  refine lv_aload_n hx hb d_Mo_card_0 rfl (lv_at hl 0 rfl) ?_
  refine tw_g_0_20 (x := (v 20)) B hP rfl k_745 d_Mo_card_1 ?_
  refine lv_bipush (v := (48 : Int32)) hx hb d_Mo_card_4 (by decide) ?_
  refine lv_icmp_ne (tgt := 11) hx hb d_Mo_card_6 (by decide) (fun (hh : ¬ (v 20) = (48 : Int32)) => ?_) (fun (hh : (v 20) = (48 : Int32)) => ?_)
  · rw [if_neg hh] at hF
    refine lv_aload_n hx hb d_Mo_card_11 rfl (lv_at hl 0 rfl) ?_
    refine lv_dup hx hb d_Mo_card_12 rfl ?_
    refine tw_g_0_20 (x := (v 20)) B hP rfl k_745 d_Mo_card_13 ?_
    refine lv_iconst (v := (1 : Int32)) hx hb d_Mo_card_16 (by decide) ?_
    refine lv_iadd hx hb d_Mo_card_17 ?_
    refine tw_p_0_20 (x := ((v 20) + (1 : Int32))) B hP hD hS k_745 d_Mo_card_18 (fun H locs hP hD hS => ?_)
    refine lv_aload_n hx hb d_Mo_card_21 rfl (lv_at hl 0 rfl) ?_
    refine tw_g_0_21 B hP k_746 d_Mo_card_22 ?_
    refine lv_aload_n hx hb d_Mo_card_25 rfl (lv_at hl 0 rfl) ?_
    refine tw_g_0_19 (x := (v 19)) B hP rfl k_744 d_Mo_card_26 ?_
    refine lv_iload_n hx hb d_Mo_card_29 rfl (lv_at hl 1 rfl) ?_
    obtain ⟨hi, hF⟩ := dm_chk hF
    refine tw_s_3 (F := (f 21)) B hP hD hS rfl hi d_Mo_card_30 (fun H locs hP hD hS => ?_)
    refine lv_aload_n hx hb d_Mo_card_31 rfl (lv_at hl 0 rfl) ?_
    refine lv_dup hx hb d_Mo_card_32 rfl ?_
    refine tw_g_0_19 (x := (v 19)) B hP rfl k_744 d_Mo_card_33 ?_
    refine lv_iconst (v := (1 : Int32)) hx hb d_Mo_card_36 (by decide) ?_
    refine lv_iadd hx hb d_Mo_card_37 ?_
    refine tw_p_0_19 (x := ((v 19) + (1 : Int32))) B hP hD hS k_744 d_Mo_card_38 (fun H locs hP hD hS => ?_)
    refine lv_iconst (v := (1 : Int32)) hx hb d_Mo_card_41 (by decide) ?_
    have hF := Option.some.inj hF
    subst hF
    exact dm_ret B (by decide) d_Mo_card_42 (by decide) (by decide) hP hD hS ⟨rfl, rfl⟩
  · rw [if_pos hh] at hF
    refine lv_iconst (v := (0 : Int32)) hx hb d_Mo_card_9 (by decide) ?_
    have hF := Option.some.inj hF
    subst hF
    exact dm_ret B (by decide) d_Mo_card_10 (by decide) (by decide) hP hD hS ⟨rfl, rfl⟩
abbrev b_Mo_start : ByteArray := prog_16_method_7_code
abbrev y_Mo_start : MethodName := { cls := "DelayMachineModel", name := "start", desc := "(II)Z" }
theorem d_Mo_start_0 : decode b_Mo_start 0 = .ok (.iload_n 1, 1) := by decide +kernel
theorem d_Mo_start_1 : decode b_Mo_start 1 = .ok (.iload_n 2, 1) := by decide +kernel
theorem d_Mo_start_2 : decode b_Mo_start 2 = .ok (.invokestatic 82, 3) := by decide +kernel
theorem d_Mo_start_5 : decode b_Mo_start 5 = .ok (.ifCond .ne (5), 3) := by decide +kernel
theorem d_Mo_start_8 : decode b_Mo_start 8 = .ok (.iconst 0, 1) := by decide +kernel
theorem d_Mo_start_9 : decode b_Mo_start 9 = .ok (.ireturn, 1) := by decide +kernel
theorem d_Mo_start_10 : decode b_Mo_start 10 = .ok (.aload_n 0, 1) := by decide +kernel
theorem d_Mo_start_11 : decode b_Mo_start 11 = .ok (.iconst 1, 1) := by decide +kernel
theorem d_Mo_start_12 : decode b_Mo_start 12 = .ok (.putfield 97, 3) := by decide +kernel
theorem d_Mo_start_15 : decode b_Mo_start 15 = .ok (.aload_n 0, 1) := by decide +kernel
theorem d_Mo_start_16 : decode b_Mo_start 16 = .ok (.iconst 0, 1) := by decide +kernel
theorem d_Mo_start_17 : decode b_Mo_start 17 = .ok (.putfield 101, 3) := by decide +kernel
theorem d_Mo_start_20 : decode b_Mo_start 20 = .ok (.aload_n 0, 1) := by decide +kernel
theorem d_Mo_start_21 : decode b_Mo_start 21 = .ok (.iconst 0, 1) := by decide +kernel
theorem d_Mo_start_22 : decode b_Mo_start 22 = .ok (.putfield 104, 3) := by decide +kernel
theorem d_Mo_start_25 : decode b_Mo_start 25 = .ok (.aload_n 0, 1) := by decide +kernel
theorem d_Mo_start_26 : decode b_Mo_start 26 = .ok (.iconst (-1), 1) := by decide +kernel
theorem d_Mo_start_27 : decode b_Mo_start 27 = .ok (.putfield 23, 3) := by decide +kernel
theorem d_Mo_start_30 : decode b_Mo_start 30 = .ok (.aload_n 0, 1) := by decide +kernel
theorem d_Mo_start_31 : decode b_Mo_start 31 = .ok (.iconst 0, 1) := by decide +kernel
theorem d_Mo_start_32 : decode b_Mo_start 32 = .ok (.putfield 107, 3) := by decide +kernel
theorem d_Mo_start_35 : decode b_Mo_start 35 = .ok (.aload_n 0, 1) := by decide +kernel
theorem d_Mo_start_36 : decode b_Mo_start 36 = .ok (.iconst (-1), 1) := by decide +kernel
theorem d_Mo_start_37 : decode b_Mo_start 37 = .ok (.putfield 110, 3) := by decide +kernel
theorem d_Mo_start_40 : decode b_Mo_start 40 = .ok (.aload_n 0, 1) := by decide +kernel
theorem d_Mo_start_41 : decode b_Mo_start 41 = .ok (.iconst (-1), 1) := by decide +kernel
theorem d_Mo_start_42 : decode b_Mo_start 42 = .ok (.putfield 113, 3) := by decide +kernel
theorem d_Mo_start_45 : decode b_Mo_start 45 = .ok (.aload_n 0, 1) := by decide +kernel
theorem d_Mo_start_46 : decode b_Mo_start 46 = .ok (.iconst 0, 1) := by decide +kernel
theorem d_Mo_start_47 : decode b_Mo_start 47 = .ok (.putfield 116, 3) := by decide +kernel
theorem d_Mo_start_50 : decode b_Mo_start 50 = .ok (.aload_n 0, 1) := by decide +kernel
theorem d_Mo_start_51 : decode b_Mo_start 51 = .ok (.iconst (-1), 1) := by decide +kernel
theorem d_Mo_start_52 : decode b_Mo_start 52 = .ok (.putfield 119, 3) := by decide +kernel
theorem d_Mo_start_55 : decode b_Mo_start 55 = .ok (.aload_n 0, 1) := by decide +kernel
theorem d_Mo_start_56 : decode b_Mo_start 56 = .ok (.iconst 0, 1) := by decide +kernel
theorem d_Mo_start_57 : decode b_Mo_start 57 = .ok (.putfield 122, 3) := by decide +kernel
theorem d_Mo_start_60 : decode b_Mo_start 60 = .ok (.aload_n 0, 1) := by decide +kernel
theorem d_Mo_start_61 : decode b_Mo_start 61 = .ok (.iconst (-1), 1) := by decide +kernel
theorem d_Mo_start_62 : decode b_Mo_start 62 = .ok (.putfield 125, 3) := by decide +kernel
theorem d_Mo_start_65 : decode b_Mo_start 65 = .ok (.aload_n 0, 1) := by decide +kernel
theorem d_Mo_start_66 : decode b_Mo_start 66 = .ok (.aload_n 0, 1) := by decide +kernel
theorem d_Mo_start_67 : decode b_Mo_start 67 = .ok (.getfield 128, 3) := by decide +kernel
theorem d_Mo_start_70 : decode b_Mo_start 70 = .ok (.putfield 131, 3) := by decide +kernel
theorem d_Mo_start_73 : decode b_Mo_start 73 = .ok (.aload_n 0, 1) := by decide +kernel
theorem d_Mo_start_74 : decode b_Mo_start 74 = .ok (.getfield 131, 3) := by decide +kernel
theorem d_Mo_start_77 : decode b_Mo_start 77 = .ok (.bipush (32), 2) := by decide +kernel
theorem d_Mo_start_79 : decode b_Mo_start 79 = .ok (.irem, 1) := by decide +kernel
theorem d_Mo_start_80 : decode b_Mo_start 80 = .ok (.iload_n 2, 1) := by decide +kernel
theorem d_Mo_start_81 : decode b_Mo_start 81 = .ok (.if_icmp .eq (16), 3) := by decide +kernel
theorem d_Mo_start_84 : decode b_Mo_start 84 = .ok (.aload_n 0, 1) := by decide +kernel
theorem d_Mo_start_85 : decode b_Mo_start 85 = .ok (.dup, 1) := by decide +kernel
theorem d_Mo_start_86 : decode b_Mo_start 86 = .ok (.getfield 131, 3) := by decide +kernel
theorem d_Mo_start_89 : decode b_Mo_start 89 = .ok (.iconst 1, 1) := by decide +kernel
theorem d_Mo_start_90 : decode b_Mo_start 90 = .ok (.iadd, 1) := by decide +kernel
theorem d_Mo_start_91 : decode b_Mo_start 91 = .ok (.putfield 131, 3) := by decide +kernel
theorem d_Mo_start_94 : decode b_Mo_start 94 = .ok (.goto (-21), 3) := by decide +kernel
theorem d_Mo_start_97 : decode b_Mo_start 97 = .ok (.aload_n 0, 1) := by decide +kernel
theorem d_Mo_start_98 : decode b_Mo_start 98 = .ok (.iload_n 1, 1) := by decide +kernel
theorem d_Mo_start_99 : decode b_Mo_start 99 = .ok (.putfield 134, 3) := by decide +kernel
theorem d_Mo_start_102 : decode b_Mo_start 102 = .ok (.iconst 1, 1) := by decide +kernel
theorem d_Mo_start_103 : decode b_Mo_start 103 = .ok (.ireturn, 1) := by decide +kernel
theorem hd_Mo_start : y_Mo_start.cls ≠ "java/lang/invoke/MethodHandle" ∧ y_Mo_start.cls ≠ "java/lang/invoke/VarHandle" ∧ (parseMethodDescriptor y_Mo_start.desc).map (fun d => d.parameters.length) = some 2 := by decide +kernel
abbrev rm_Mo_start : Room := { frames := 1, cells := 0, slots := 0, locals := 21 }
def F_Mo_start_73 (x1 x2 : Int32)   : Nat → (Nat → Int32) → (Nat → Nat → Int32) → Option (Int32 × (Nat → Int32) × (Nat → Nat → Int32))
  | 0, _, _ => none
  | n + 1, v, f => (if ((v 5) - (v 5) / (32 : Int32) * (32 : Int32)) = x2 then (some ((1 : Int32), (va_up v 6 x1), f)) else (F_Mo_start_73 x1 x2 n (va_up v 5 ((v 5) + (1 : Int32))) f))
def F_Mo_start (x1 x2 : Int32)  (v : Nat → Int32) (f : Nat → Nat → Int32) : Option (Int32 × (Nat → Int32) × (Nat → Nat → Int32)) := (Option.bind (F_Mo_isOrder x1 x2) (fun z1 => (if z1 = (0 : Int32) then (some ((0 : Int32), v, f)) else (F_Mo_start_73 x1 x2 100 (va_up (va_up (va_up (va_up (va_up (va_up (va_up (va_up (va_up (va_up (va_up (va_up v 3 (1 : Int32)) 4 (0 : Int32)) 17 (0 : Int32)) 23 (-1 : Int32)) 9 (0 : Int32)) 7 (-1 : Int32)) 8 (-1 : Int32)) 11 (0 : Int32)) 12 (-1 : Int32)) 14 (0 : Int32)) 15 (-1 : Int32)) 5 (v 2)) f))))
set_option maxHeartbeats 4000000 in
set_option maxRecDepth 100000 in
theorem c_Mo_start (l : Launch) (G : dm_G) (g : Nat → Nat) (x1 x2 : Int32) (v : Nat → Int32) (f : Nat → Nat → Int32) (RES : Int32 × (Nat → Int32) × (Nat → Nat → Int32)) (hF : F_Mo_start x1 x2 v f = some RES) : dm_Ct l y_Mo_start b_Mo_start 3 (some .boolean) rm_Mo_start G (tw G g v f) [.ref (g 0), .int x1, .int x2] (fun ov w' => ov = some (.int RES.1) ∧ w' = (tw G g RES.2.1 RES.2.2)) := by
  refine dm_Ct.of (by decide +kernel) (Nat.le_of_ble_eq_true rfl) ?_
  intro p e s m below meth c A ls B hl hP hD hS
  have hx := B.1
  have hb := B.2.1
  have hl : lv_has ls 3 [(0, .ref (g 0)), (1, .int x1), (2, .int x2)] := hl
  have K73 : ∀ (n73 : Nat) (ls : Array Slot) (H : Heap) (locs : List Loc)  (v : Nat → Int32) (f : Nat → Nat → Int32), lv_has ls 3 [(0, .ref (g 0)), (1, .int x1), (2, .int x2)] → va_P G.1 dm_cl (tw G g v f) H → va_D A (tw G g v f) → va_S A s.heap H locs → F_Mo_start_73 x1 x2 n73  v f = some RES → W p l e rm_Mo_start s m ([.ref (g 0), .int x1, .int x2] : List Value).toArray below meth c H locs 0 0 (dm_Z below G s ([.ref (g 0), .int x1, .int x2] : List Value).toArray A rm_Mo_start.cells rm_Mo_start.slots (fun ov w' => ov = some (.int RES.1) ∧ w' = (tw G g RES.2.1 RES.2.2))) (F0 m 73 ls []) := by
    intro n73
    induction n73 with
    | zero => intro ls H locs v f hl hP hD hS hF; cases hF
    | succ n73 ih73 =>
      intro ls H locs v f hl hP hD hS hF
      have hF : (if ((v 5) - (v 5) / (32 : Int32) * (32 : Int32)) = x2 then (some ((1 : Int32), (va_up v 6 x1), f)) else (F_Mo_start_73 x1 x2 n73 (va_up v 5 ((v 5) + (1 : Int32))) f)) = some RES := hF
      refine lv_aload_n hx hb d_Mo_start_73 rfl (lv_at hl 0 rfl) ?_
      refine tw_g_0_5 (x := (v 5)) B hP rfl k_730 d_Mo_start_74 ?_
      refine lv_bipush (v := (32 : Int32)) hx hb d_Mo_start_77 (by decide) ?_
      refine lv_irem hx hb d_Mo_start_79 (by decide) ?_
      refine lv_iload_n hx hb d_Mo_start_80 rfl (lv_at hl 2 rfl) ?_
      refine lv_icmp_eq (tgt := 97) hx hb d_Mo_start_81 (by decide) (fun (hh : ((v 5) - (v 5) / (32 : Int32) * (32 : Int32)) = x2) => ?_) (fun (hh : ¬ ((v 5) - (v 5) / (32 : Int32) * (32 : Int32)) = x2) => ?_)
      · rw [if_pos hh] at hF
        refine lv_aload_n hx hb d_Mo_start_97 rfl (lv_at hl 0 rfl) ?_
        refine lv_iload_n hx hb d_Mo_start_98 rfl (lv_at hl 1 rfl) ?_
        refine tw_p_0_6 (x := x1) B hP hD hS k_731 d_Mo_start_99 (fun H locs hP hD hS => ?_)
        refine lv_iconst (v := (1 : Int32)) hx hb d_Mo_start_102 (by decide) ?_
        have hF := Option.some.inj hF
        subst hF
        exact dm_ret B (by decide) d_Mo_start_103 (by decide) (by decide) hP hD hS ⟨rfl, rfl⟩
      · rw [if_neg hh] at hF
        refine lv_aload_n hx hb d_Mo_start_84 rfl (lv_at hl 0 rfl) ?_
        refine lv_dup hx hb d_Mo_start_85 rfl ?_
        refine tw_g_0_5 (x := (v 5)) B hP rfl k_730 d_Mo_start_86 ?_
        refine lv_iconst (v := (1 : Int32)) hx hb d_Mo_start_89 (by decide) ?_
        refine lv_iadd hx hb d_Mo_start_90 ?_
        refine tw_p_0_5 (x := ((v 5) + (1 : Int32))) B hP hD hS k_730 d_Mo_start_91 (fun H locs hP hD hS => ?_)
        refine lv_goto (tgt := 73) hx hb d_Mo_start_94 (by decide) ?_
        exact ih73 ls _ _ (va_up v 5 ((v 5) + (1 : Int32))) f (lv_sub hl [0, 1, 2] rfl) hP hD hS hF
  have hF : (Option.bind (F_Mo_isOrder x1 x2) (fun z1 => (if z1 = (0 : Int32) then (some ((0 : Int32), v, f)) else (F_Mo_start_73 x1 x2 100 (va_up (va_up (va_up (va_up (va_up (va_up (va_up (va_up (va_up (va_up (va_up (va_up v 3 (1 : Int32)) 4 (0 : Int32)) 17 (0 : Int32)) 23 (-1 : Int32)) 9 (0 : Int32)) 7 (-1 : Int32)) 8 (-1 : Int32)) 11 (0 : Int32)) 12 (-1 : Int32)) 14 (0 : Int32)) 15 (-1 : Int32)) 5 (v 2)) f)))) = some RES := hF
  refine lv_iload_n hx hb d_Mo_start_0 rfl (lv_at hl 1 rfl) ?_
  refine lv_iload_n hx hb d_Mo_start_1 rfl (lv_at hl 2 rfl) ?_
  obtain ⟨z1, hcz1, hF⟩ := dm_bind hF
  refine dm_callSw B [.int x1, .int x2] (c_Mo_isOrder l G (tw G g v f) x1 x2 z1 hcz1) k_871 k_872 k_14 k_873 hd_Mo_isOrder rfl ⟨by decide, by decide⟩ hP hD hS hl.1 (rest := []) rfl (Nat.le_of_ble_eq_true rfl) d_Mo_start_2 ⟨by decide, by decide⟩ (fun ov w' H locs hq hP hD hS => ?_)
  obtain ⟨rfl, rfl⟩ := hq
  have hP : va_P G.1 dm_cl (tw G g v f) H := hP
  have hD : va_D A (tw G g v f) := hD
  refine W.eq (g2 := F0 m 5 ls [.int z1]) rfl ?_
  refine lv_if_ne (tgt := 10) hx hb d_Mo_start_5 (by decide) (fun (hh : ¬ z1 = (0 : Int32)) => ?_) (fun (hh : z1 = (0 : Int32)) => ?_)
  · rw [if_neg hh] at hF
    refine lv_aload_n hx hb d_Mo_start_10 rfl (lv_at hl 0 rfl) ?_
    refine lv_iconst (v := (1 : Int32)) hx hb d_Mo_start_11 (by decide) ?_
    refine tw_p_0_3 (x := (1 : Int32)) B hP hD hS (by decide) k_728 d_Mo_start_12 (fun H locs hP hD hS => ?_)
    refine lv_aload_n hx hb d_Mo_start_15 rfl (lv_at hl 0 rfl) ?_
    refine lv_iconst (v := (0 : Int32)) hx hb d_Mo_start_16 (by decide) ?_
    refine tw_p_0_4 (x := (0 : Int32)) B hP hD hS k_729 d_Mo_start_17 (fun H locs hP hD hS => ?_)
    refine lv_aload_n hx hb d_Mo_start_20 rfl (lv_at hl 0 rfl) ?_
    refine lv_iconst (v := (0 : Int32)) hx hb d_Mo_start_21 (by decide) ?_
    refine tw_p_0_17 (x := (0 : Int32)) B hP hD hS k_742 d_Mo_start_22 (fun H locs hP hD hS => ?_)
    refine lv_aload_n hx hb d_Mo_start_25 rfl (lv_at hl 0 rfl) ?_
    refine lv_iconst (v := (-1 : Int32)) hx hb d_Mo_start_26 (by decide) ?_
    refine tw_p_0_23 (x := (-1 : Int32)) B hP hD hS k_748 d_Mo_start_27 (fun H locs hP hD hS => ?_)
    refine lv_aload_n hx hb d_Mo_start_30 rfl (lv_at hl 0 rfl) ?_
    refine lv_iconst (v := (0 : Int32)) hx hb d_Mo_start_31 (by decide) ?_
    refine tw_p_0_9 (x := (0 : Int32)) B hP hD hS k_734 d_Mo_start_32 (fun H locs hP hD hS => ?_)
    refine lv_aload_n hx hb d_Mo_start_35 rfl (lv_at hl 0 rfl) ?_
    refine lv_iconst (v := (-1 : Int32)) hx hb d_Mo_start_36 (by decide) ?_
    refine tw_p_0_7 (x := (-1 : Int32)) B hP hD hS k_732 d_Mo_start_37 (fun H locs hP hD hS => ?_)
    refine lv_aload_n hx hb d_Mo_start_40 rfl (lv_at hl 0 rfl) ?_
    refine lv_iconst (v := (-1 : Int32)) hx hb d_Mo_start_41 (by decide) ?_
    refine tw_p_0_8 (x := (-1 : Int32)) B hP hD hS k_733 d_Mo_start_42 (fun H locs hP hD hS => ?_)
    refine lv_aload_n hx hb d_Mo_start_45 rfl (lv_at hl 0 rfl) ?_
    refine lv_iconst (v := (0 : Int32)) hx hb d_Mo_start_46 (by decide) ?_
    refine tw_p_0_11 (x := (0 : Int32)) B hP hD hS k_736 d_Mo_start_47 (fun H locs hP hD hS => ?_)
    refine lv_aload_n hx hb d_Mo_start_50 rfl (lv_at hl 0 rfl) ?_
    refine lv_iconst (v := (-1 : Int32)) hx hb d_Mo_start_51 (by decide) ?_
    refine tw_p_0_12 (x := (-1 : Int32)) B hP hD hS k_737 d_Mo_start_52 (fun H locs hP hD hS => ?_)
    refine lv_aload_n hx hb d_Mo_start_55 rfl (lv_at hl 0 rfl) ?_
    refine lv_iconst (v := (0 : Int32)) hx hb d_Mo_start_56 (by decide) ?_
    refine tw_p_0_14 (x := (0 : Int32)) B hP hD hS k_739 d_Mo_start_57 (fun H locs hP hD hS => ?_)
    refine lv_aload_n hx hb d_Mo_start_60 rfl (lv_at hl 0 rfl) ?_
    refine lv_iconst (v := (-1 : Int32)) hx hb d_Mo_start_61 (by decide) ?_
    refine tw_p_0_15 (x := (-1 : Int32)) B hP hD hS k_740 d_Mo_start_62 (fun H locs hP hD hS => ?_)
    refine lv_aload_n hx hb d_Mo_start_65 rfl (lv_at hl 0 rfl) ?_
    refine lv_aload_n hx hb d_Mo_start_66 rfl (lv_at hl 0 rfl) ?_
    refine tw_g_0_2 (x := (v 2)) B hP rfl k_727 d_Mo_start_67 ?_
    refine tw_p_0_5 (x := (v 2)) B hP hD hS k_730 d_Mo_start_70 (fun H locs hP hD hS => ?_)
    exact K73 100 ls _ _ (va_up (va_up (va_up (va_up (va_up (va_up (va_up (va_up (va_up (va_up (va_up (va_up v 3 (1 : Int32)) 4 (0 : Int32)) 17 (0 : Int32)) 23 (-1 : Int32)) 9 (0 : Int32)) 7 (-1 : Int32)) 8 (-1 : Int32)) 11 (0 : Int32)) 12 (-1 : Int32)) 14 (0 : Int32)) 15 (-1 : Int32)) 5 (v 2)) f (lv_sub hl [0, 1, 2] rfl) hP hD hS hF
  · rw [if_pos hh] at hF
    refine lv_iconst (v := (0 : Int32)) hx hb d_Mo_start_8 (by decide) ?_
    have hF := Option.some.inj hF
    subst hF
    exact dm_ret B (by decide) d_Mo_start_9 (by decide) (by decide) hP hD hS ⟨rfl, rfl⟩
abbrev b_Mo_waitOf : ByteArray := prog_16_method_8_code
abbrev y_Mo_waitOf : MethodName := { cls := "DelayMachineModel", name := "waitOf", desc := "(I)I" }
theorem d_Mo_waitOf_0 : decode b_Mo_waitOf 0 = .ok (.iload_n 0, 1) := by decide +kernel
theorem d_Mo_waitOf_1 : decode b_Mo_waitOf 1 = .ok (.bipush (10), 2) := by decide +kernel
theorem d_Mo_waitOf_3 : decode b_Mo_waitOf 3 = .ok (.ishr, 1) := by decide +kernel
theorem d_Mo_waitOf_4 : decode b_Mo_waitOf 4 = .ok (.bipush (31), 2) := by decide +kernel
theorem d_Mo_waitOf_6 : decode b_Mo_waitOf 6 = .ok (.iand, 1) := by decide +kernel
theorem d_Mo_waitOf_7 : decode b_Mo_waitOf 7 = .ok (.ireturn, 1) := by decide +kernel
theorem hd_Mo_waitOf : y_Mo_waitOf.cls ≠ "java/lang/invoke/MethodHandle" ∧ y_Mo_waitOf.cls ≠ "java/lang/invoke/VarHandle" ∧ (parseMethodDescriptor y_Mo_waitOf.desc).map (fun d => d.parameters.length) = some 1 := by decide +kernel
abbrev rm_Mo_waitOf : Room := { frames := 0, cells := 0, slots := 0, locals := 0 }
def F_Mo_waitOf (x0 : Int32)   : Option (Int32) := (some ((x0 >>> ((10 : Int32) &&& 31)) &&& (31 : Int32)))
set_option maxHeartbeats 4000000 in
set_option maxRecDepth 100000 in
theorem c_Mo_waitOf (l : Launch) (G : dm_G)  (w : va_W) (x0 : Int32)  (RES : Int32) (hF : F_Mo_waitOf x0 = some RES) : dm_Ct l y_Mo_waitOf b_Mo_waitOf 1 (some .int) rm_Mo_waitOf G w [.int x0] (fun ov w' => ov = some (.int RES) ∧ w' = w) := by
  refine dm_Ct.of (by decide +kernel) (Nat.le_of_ble_eq_true rfl) ?_
  intro p e s m below meth c A ls B hl hP hD hS
  have hx := B.1
  have hb := B.2.1
  have hl : lv_has ls 1 [(0, .int x0)] := hl
  have hF : (some ((x0 >>> ((10 : Int32) &&& 31)) &&& (31 : Int32))) = some RES := hF
  refine lv_iload_n hx hb d_Mo_waitOf_0 rfl (lv_at hl 0 rfl) ?_
  refine lv_bipush (v := (10 : Int32)) hx hb d_Mo_waitOf_1 (by decide) ?_
  refine lv_ishr hx hb d_Mo_waitOf_3 ?_
  refine lv_bipush (v := (31 : Int32)) hx hb d_Mo_waitOf_4 (by decide) ?_
  refine lv_iand hx hb d_Mo_waitOf_6 ?_
  have hF := Option.some.inj hF
  subst hF
  exact dm_ret B rfl d_Mo_waitOf_7 (by decide) (by decide) hP hD hS ⟨rfl, rfl⟩
abbrev b_Mo_gapOf : ByteArray := prog_16_method_9_code
abbrev y_Mo_gapOf : MethodName := { cls := "DelayMachineModel", name := "gapOf", desc := "(I)I" }
theorem d_Mo_gapOf_0 : decode b_Mo_gapOf 0 = .ok (.iload_n 0, 1) := by decide +kernel
theorem d_Mo_gapOf_1 : decode b_Mo_gapOf 1 = .ok (.bipush (15), 2) := by decide +kernel
theorem d_Mo_gapOf_3 : decode b_Mo_gapOf 3 = .ok (.ishr, 1) := by decide +kernel
theorem d_Mo_gapOf_4 : decode b_Mo_gapOf 4 = .ok (.bipush (31), 2) := by decide +kernel
theorem d_Mo_gapOf_6 : decode b_Mo_gapOf 6 = .ok (.iand, 1) := by decide +kernel
theorem d_Mo_gapOf_7 : decode b_Mo_gapOf 7 = .ok (.istore_n 1, 1) := by decide +kernel
theorem d_Mo_gapOf_8 : decode b_Mo_gapOf 8 = .ok (.iload_n 1, 1) := by decide +kernel
theorem d_Mo_gapOf_9 : decode b_Mo_gapOf 9 = .ok (.iload_n 0, 1) := by decide +kernel
theorem d_Mo_gapOf_10 : decode b_Mo_gapOf 10 = .ok (.invokestatic 137, 3) := by decide +kernel
theorem d_Mo_gapOf_13 : decode b_Mo_gapOf 13 = .ok (.if_icmp .ge (10), 3) := by decide +kernel
theorem d_Mo_gapOf_16 : decode b_Mo_gapOf 16 = .ok (.iload_n 1, 1) := by decide +kernel
theorem d_Mo_gapOf_17 : decode b_Mo_gapOf 17 = .ok (.bipush (32), 2) := by decide +kernel
theorem d_Mo_gapOf_19 : decode b_Mo_gapOf 19 = .ok (.iadd, 1) := by decide +kernel
theorem d_Mo_gapOf_20 : decode b_Mo_gapOf 20 = .ok (.goto (4), 3) := by decide +kernel
theorem d_Mo_gapOf_23 : decode b_Mo_gapOf 23 = .ok (.iload_n 1, 1) := by decide +kernel
theorem d_Mo_gapOf_24 : decode b_Mo_gapOf 24 = .ok (.ireturn, 1) := by decide +kernel
theorem hd_Mo_gapOf : y_Mo_gapOf.cls ≠ "java/lang/invoke/MethodHandle" ∧ y_Mo_gapOf.cls ≠ "java/lang/invoke/VarHandle" ∧ (parseMethodDescriptor y_Mo_gapOf.desc).map (fun d => d.parameters.length) = some 1 := by decide +kernel
abbrev rm_Mo_gapOf : Room := { frames := 1, cells := 0, slots := 0, locals := 20 }
def F_Mo_gapOf (x0 : Int32)   : Option (Int32) := (Option.bind (F_Mo_waitOf x0) (fun z1 => (if z1 ≤ ((x0 >>> ((15 : Int32) &&& 31)) &&& (31 : Int32)) then (some ((x0 >>> ((15 : Int32) &&& 31)) &&& (31 : Int32))) else (some (((x0 >>> ((15 : Int32) &&& 31)) &&& (31 : Int32)) + (32 : Int32))))))
set_option maxHeartbeats 4000000 in
set_option maxRecDepth 100000 in
theorem c_Mo_gapOf (l : Launch) (G : dm_G)  (w : va_W) (x0 : Int32)  (RES : Int32) (hF : F_Mo_gapOf x0 = some RES) : dm_Ct l y_Mo_gapOf b_Mo_gapOf 2 (some .int) rm_Mo_gapOf G w [.int x0] (fun ov w' => ov = some (.int RES) ∧ w' = w) := by
  refine dm_Ct.of (by decide +kernel) (Nat.le_of_ble_eq_true rfl) ?_
  intro p e s m below meth c A ls B hl hP hD hS
  have hx := B.1
  have hb := B.2.1
  have hl : lv_has ls 2 [(0, .int x0)] := hl
  have hF : (Option.bind (F_Mo_waitOf x0) (fun z1 => (if z1 ≤ ((x0 >>> ((15 : Int32) &&& 31)) &&& (31 : Int32)) then (some ((x0 >>> ((15 : Int32) &&& 31)) &&& (31 : Int32))) else (some (((x0 >>> ((15 : Int32) &&& 31)) &&& (31 : Int32)) + (32 : Int32)))))) = some RES := hF
  refine lv_iload_n hx hb d_Mo_gapOf_0 rfl (lv_at hl 0 rfl) ?_
  refine lv_bipush (v := (15 : Int32)) hx hb d_Mo_gapOf_1 (by decide) ?_
  refine lv_ishr hx hb d_Mo_gapOf_3 ?_
  refine lv_bipush (v := (31 : Int32)) hx hb d_Mo_gapOf_4 (by decide) ?_
  refine lv_iand hx hb d_Mo_gapOf_6 ?_
  refine lv_istore_n (lv' := [(1, .int ((x0 >>> ((15 : Int32) &&& 31)) &&& (31 : Int32))), (0, .int x0)]) hx hb d_Mo_gapOf_7 rfl hl (Nat.le_of_ble_eq_true rfl) rfl (fun ls hl => ?_)
  have hl : lv_has ls 2 [(0, .int x0), (1, .int ((x0 >>> ((15 : Int32) &&& 31)) &&& (31 : Int32)))] := lv_sub hl [1, 0] rfl
  refine lv_iload_n hx hb d_Mo_gapOf_8 rfl (lv_at hl 1 rfl) ?_
  refine lv_iload_n hx hb d_Mo_gapOf_9 rfl (lv_at hl 0 rfl) ?_
  obtain ⟨z1, hcz1, hF⟩ := dm_bind hF
  refine dm_callSw B [.int x0] (c_Mo_waitOf l G w x0 z1 hcz1) k_902 k_903 k_14 k_904 hd_Mo_waitOf rfl ⟨by decide, by decide⟩ hP hD hS hl.1 (rest := [.int ((x0 >>> ((15 : Int32) &&& 31)) &&& (31 : Int32))]) rfl (Nat.le_of_ble_eq_true rfl) d_Mo_gapOf_10 ⟨by decide, by decide⟩ (fun ov w' H locs hq hP hD hS => ?_)
  obtain ⟨rfl, hw⟩ := hq
  rw [hw] at hP hD
  have hP : va_P G.1 dm_cl w H := hP
  have hD : va_D A w := hD
  refine W.eq (g2 := F0 m 13 ls [.int z1, .int ((x0 >>> ((15 : Int32) &&& 31)) &&& (31 : Int32))]) rfl ?_
  refine lv_icmp_ge (tgt := 23) hx hb d_Mo_gapOf_13 (by decide) (fun (hh : z1 ≤ ((x0 >>> ((15 : Int32) &&& 31)) &&& (31 : Int32))) => ?_) (fun (hh : ¬ z1 ≤ ((x0 >>> ((15 : Int32) &&& 31)) &&& (31 : Int32))) => ?_)
  · rw [if_pos hh] at hF
    refine lv_iload_n hx hb d_Mo_gapOf_23 rfl (lv_at hl 1 rfl) ?_
    have hF := Option.some.inj hF
    subst hF
    exact dm_ret B rfl d_Mo_gapOf_24 (by decide) (by decide) hP hD hS ⟨rfl, rfl⟩
  · rw [if_neg hh] at hF
    refine lv_iload_n hx hb d_Mo_gapOf_16 rfl (lv_at hl 1 rfl) ?_
    refine lv_bipush (v := (32 : Int32)) hx hb d_Mo_gapOf_17 (by decide) ?_
    refine lv_iadd hx hb d_Mo_gapOf_19 ?_
    refine lv_goto (tgt := 24) hx hb d_Mo_gapOf_20 (by decide) ?_
    have hF := Option.some.inj hF
    subst hF
    exact dm_ret B rfl d_Mo_gapOf_24 (by decide) (by decide) hP hD hS ⟨rfl, rfl⟩
abbrev b_Mo_read : ByteArray := prog_16_method_10_code
abbrev y_Mo_read : MethodName := { cls := "DelayMachineModel", name := "read", desc := "()V" }
theorem d_Mo_read_0 : decode b_Mo_read 0 = .ok (.aload_n 0, 1) := by decide +kernel
theorem d_Mo_read_1 : decode b_Mo_read 1 = .ok (.aload_n 0, 1) := by decide +kernel
theorem d_Mo_read_2 : decode b_Mo_read 2 = .ok (.getfield 141, 3) := by decide +kernel
theorem d_Mo_read_5 : decode b_Mo_read 5 = .ok (.putfield 144, 3) := by decide +kernel
theorem d_Mo_read_8 : decode b_Mo_read 8 = .ok (.aload_n 0, 1) := by decide +kernel
theorem d_Mo_read_9 : decode b_Mo_read 9 = .ok (.aload_n 0, 1) := by decide +kernel
theorem d_Mo_read_10 : decode b_Mo_read 10 = .ok (.getfield 116, 3) := by decide +kernel
theorem d_Mo_read_13 : decode b_Mo_read 13 = .ok (.putfield 122, 3) := by decide +kernel
theorem d_Mo_read_16 : decode b_Mo_read 16 = .ok (.aload_n 0, 1) := by decide +kernel
theorem d_Mo_read_17 : decode b_Mo_read 17 = .ok (.aload_n 0, 1) := by decide +kernel
theorem d_Mo_read_18 : decode b_Mo_read 18 = .ok (.getfield 119, 3) := by decide +kernel
theorem d_Mo_read_21 : decode b_Mo_read 21 = .ok (.putfield 125, 3) := by decide +kernel
theorem d_Mo_read_24 : decode b_Mo_read 24 = .ok (.aload_n 0, 1) := by decide +kernel
theorem d_Mo_read_25 : decode b_Mo_read 25 = .ok (.aload_n 0, 1) := by decide +kernel
theorem d_Mo_read_26 : decode b_Mo_read 26 = .ok (.getfield 134, 3) := by decide +kernel
theorem d_Mo_read_29 : decode b_Mo_read 29 = .ok (.putfield 110, 3) := by decide +kernel
theorem d_Mo_read_32 : decode b_Mo_read 32 = .ok (.aload_n 0, 1) := by decide +kernel
theorem d_Mo_read_33 : decode b_Mo_read 33 = .ok (.aload_n 0, 1) := by decide +kernel
theorem d_Mo_read_34 : decode b_Mo_read 34 = .ok (.getfield 128, 3) := by decide +kernel
theorem d_Mo_read_37 : decode b_Mo_read 37 = .ok (.bipush (32), 2) := by decide +kernel
theorem d_Mo_read_39 : decode b_Mo_read 39 = .ok (.irem, 1) := by decide +kernel
theorem d_Mo_read_40 : decode b_Mo_read 40 = .ok (.putfield 113, 3) := by decide +kernel
theorem d_Mo_read_43 : decode b_Mo_read 43 = .ok (.aload_n 0, 1) := by decide +kernel
theorem d_Mo_read_44 : decode b_Mo_read 44 = .ok (.dup, 1) := by decide +kernel
theorem d_Mo_read_45 : decode b_Mo_read 45 = .ok (.getfield 107, 3) := by decide +kernel
theorem d_Mo_read_48 : decode b_Mo_read 48 = .ok (.iconst 1, 1) := by decide +kernel
theorem d_Mo_read_49 : decode b_Mo_read 49 = .ok (.iadd, 1) := by decide +kernel
theorem d_Mo_read_50 : decode b_Mo_read 50 = .ok (.putfield 107, 3) := by decide +kernel
theorem d_Mo_read_53 : decode b_Mo_read 53 = .ok (.aload_n 0, 1) := by decide +kernel
theorem d_Mo_read_54 : decode b_Mo_read 54 = .ok (.aload_n 0, 1) := by decide +kernel
theorem d_Mo_read_55 : decode b_Mo_read 55 = .ok (.getfield 7, 3) := by decide +kernel
theorem d_Mo_read_58 : decode b_Mo_read 58 = .ok (.bipush (32), 2) := by decide +kernel
theorem d_Mo_read_60 : decode b_Mo_read 60 = .ok (.aload_n 0, 1) := by decide +kernel
theorem d_Mo_read_61 : decode b_Mo_read 61 = .ok (.getfield 110, 3) := by decide +kernel
theorem d_Mo_read_64 : decode b_Mo_read 64 = .ok (.imul, 1) := by decide +kernel
theorem d_Mo_read_65 : decode b_Mo_read 65 = .ok (.aload_n 0, 1) := by decide +kernel
theorem d_Mo_read_66 : decode b_Mo_read 66 = .ok (.getfield 113, 3) := by decide +kernel
theorem d_Mo_read_69 : decode b_Mo_read 69 = .ok (.iadd, 1) := by decide +kernel
theorem d_Mo_read_70 : decode b_Mo_read 70 = .ok (.iaload, 1) := by decide +kernel
theorem d_Mo_read_71 : decode b_Mo_read 71 = .ok (.putfield 141, 3) := by decide +kernel
theorem d_Mo_read_74 : decode b_Mo_read 74 = .ok (.aload_n 0, 1) := by decide +kernel
theorem d_Mo_read_75 : decode b_Mo_read 75 = .ok (.getfield 141, 3) := by decide +kernel
theorem d_Mo_read_78 : decode b_Mo_read 78 = .ok (.bipush (8), 2) := by decide +kernel
theorem d_Mo_read_80 : decode b_Mo_read 80 = .ok (.ishr, 1) := by decide +kernel
theorem d_Mo_read_81 : decode b_Mo_read 81 = .ok (.iconst 3, 1) := by decide +kernel
theorem d_Mo_read_82 : decode b_Mo_read 82 = .ok (.iand, 1) := by decide +kernel
theorem d_Mo_read_83 : decode b_Mo_read 83 = .ok (.istore_n 1, 1) := by decide +kernel
theorem d_Mo_read_84 : decode b_Mo_read 84 = .ok (.aload_n 0, 1) := by decide +kernel
theorem d_Mo_read_85 : decode b_Mo_read 85 = .ok (.aload_n 0, 1) := by decide +kernel
theorem d_Mo_read_86 : decode b_Mo_read 86 = .ok (.getfield 128, 3) := by decide +kernel
theorem d_Mo_read_89 : decode b_Mo_read 89 = .ok (.iconst 2, 1) := by decide +kernel
theorem d_Mo_read_90 : decode b_Mo_read 90 = .ok (.iadd, 1) := by decide +kernel
theorem d_Mo_read_91 : decode b_Mo_read 91 = .ok (.aload_n 0, 1) := by decide +kernel
theorem d_Mo_read_92 : decode b_Mo_read 92 = .ok (.getfield 141, 3) := by decide +kernel
theorem d_Mo_read_95 : decode b_Mo_read 95 = .ok (.invokestatic 137, 3) := by decide +kernel
theorem d_Mo_read_98 : decode b_Mo_read 98 = .ok (.iadd, 1) := by decide +kernel
theorem d_Mo_read_99 : decode b_Mo_read 99 = .ok (.putfield 116, 3) := by decide +kernel
theorem d_Mo_read_102 : decode b_Mo_read 102 = .ok (.aload_n 0, 1) := by decide +kernel
theorem d_Mo_read_103 : decode b_Mo_read 103 = .ok (.iload_n 1, 1) := by decide +kernel
theorem d_Mo_read_104 : decode b_Mo_read 104 = .ok (.iconst 1, 1) := by decide +kernel
theorem d_Mo_read_105 : decode b_Mo_read 105 = .ok (.if_icmp .ne (12), 3) := by decide +kernel
theorem d_Mo_read_108 : decode b_Mo_read 108 = .ok (.aload_n 0, 1) := by decide +kernel
theorem d_Mo_read_109 : decode b_Mo_read 109 = .ok (.getfield 116, 3) := by decide +kernel
theorem d_Mo_read_112 : decode b_Mo_read 112 = .ok (.iconst 1, 1) := by decide +kernel
theorem d_Mo_read_113 : decode b_Mo_read 113 = .ok (.iadd, 1) := by decide +kernel
theorem d_Mo_read_114 : decode b_Mo_read 114 = .ok (.goto (29), 3) := by decide +kernel
theorem d_Mo_read_117 : decode b_Mo_read 117 = .ok (.iload_n 1, 1) := by decide +kernel
theorem d_Mo_read_118 : decode b_Mo_read 118 = .ok (.iconst 2, 1) := by decide +kernel
theorem d_Mo_read_119 : decode b_Mo_read 119 = .ok (.if_icmp .ne (20), 3) := by decide +kernel
theorem d_Mo_read_122 : decode b_Mo_read 122 = .ok (.aload_n 0, 1) := by decide +kernel
theorem d_Mo_read_123 : decode b_Mo_read 123 = .ok (.getfield 128, 3) := by decide +kernel
theorem d_Mo_read_126 : decode b_Mo_read 126 = .ok (.iconst 2, 1) := by decide +kernel
theorem d_Mo_read_127 : decode b_Mo_read 127 = .ok (.iadd, 1) := by decide +kernel
theorem d_Mo_read_128 : decode b_Mo_read 128 = .ok (.aload_n 0, 1) := by decide +kernel
theorem d_Mo_read_129 : decode b_Mo_read 129 = .ok (.getfield 141, 3) := by decide +kernel
theorem d_Mo_read_132 : decode b_Mo_read 132 = .ok (.invokestatic 147, 3) := by decide +kernel
theorem d_Mo_read_135 : decode b_Mo_read 135 = .ok (.iadd, 1) := by decide +kernel
theorem d_Mo_read_136 : decode b_Mo_read 136 = .ok (.goto (7), 3) := by decide +kernel
theorem d_Mo_read_139 : decode b_Mo_read 139 = .ok (.aload_n 0, 1) := by decide +kernel
theorem d_Mo_read_140 : decode b_Mo_read 140 = .ok (.getfield 116, 3) := by decide +kernel
theorem d_Mo_read_143 : decode b_Mo_read 143 = .ok (.putfield 119, 3) := by decide +kernel
theorem d_Mo_read_146 : decode b_Mo_read 146 = .ok (.aload_n 0, 1) := by decide +kernel
theorem d_Mo_read_147 : decode b_Mo_read 147 = .ok (.aload_n 0, 1) := by decide +kernel
theorem d_Mo_read_148 : decode b_Mo_read 148 = .ok (.getfield 128, 3) := by decide +kernel
theorem d_Mo_read_151 : decode b_Mo_read 151 = .ok (.iconst 2, 1) := by decide +kernel
theorem d_Mo_read_152 : decode b_Mo_read 152 = .ok (.iadd, 1) := by decide +kernel
theorem d_Mo_read_153 : decode b_Mo_read 153 = .ok (.aload_n 0, 1) := by decide +kernel
theorem d_Mo_read_154 : decode b_Mo_read 154 = .ok (.getfield 141, 3) := by decide +kernel
theorem d_Mo_read_157 : decode b_Mo_read 157 = .ok (.invokestatic 147, 3) := by decide +kernel
theorem d_Mo_read_160 : decode b_Mo_read 160 = .ok (.iadd, 1) := by decide +kernel
theorem d_Mo_read_161 : decode b_Mo_read 161 = .ok (.putfield 131, 3) := by decide +kernel
theorem d_Mo_read_164 : decode b_Mo_read 164 = .ok (.aload_n 0, 1) := by decide +kernel
theorem d_Mo_read_165 : decode b_Mo_read 165 = .ok (.aload_n 0, 1) := by decide +kernel
theorem d_Mo_read_166 : decode b_Mo_read 166 = .ok (.getfield 141, 3) := by decide +kernel
theorem d_Mo_read_169 : decode b_Mo_read 169 = .ok (.bipush (20), 2) := by decide +kernel
theorem d_Mo_read_171 : decode b_Mo_read 171 = .ok (.ishr, 1) := by decide +kernel
theorem d_Mo_read_172 : decode b_Mo_read 172 = .ok (.putfield 134, 3) := by decide +kernel
theorem d_Mo_read_175 : decode b_Mo_read 175 = .ok (.aload_n 0, 1) := by decide +kernel
theorem d_Mo_read_176 : decode b_Mo_read 176 = .ok (.iconst 0, 1) := by decide +kernel
theorem d_Mo_read_177 : decode b_Mo_read 177 = .ok (.putfield 150, 3) := by decide +kernel
theorem d_Mo_read_180 : decode b_Mo_read 180 = .ok (.return_, 1) := by decide +kernel
theorem hd_Mo_read : y_Mo_read.cls ≠ "java/lang/invoke/MethodHandle" ∧ y_Mo_read.cls ≠ "java/lang/invoke/VarHandle" ∧ (parseMethodDescriptor y_Mo_read.desc).map (fun d => d.parameters.length) = some 0 := by decide +kernel
abbrev rm_Mo_read : Room := { frames := 2, cells := 0, slots := 0, locals := 41 }
def F_Mo_read_143   (s1 : Int32) (v : Nat → Int32) (f : Nat → Nat → Int32) : Option ((Nat → Int32) × (Nat → Nat → Int32)) := (Option.bind (F_Mo_gapOf (v 10)) (fun z1 => (some ((va_up (va_up (va_up (va_up v 12 s1) 5 (((v 2) + (2 : Int32)) + z1)) 6 ((v 10) >>> ((20 : Int32) &&& 31))) 16 (0 : Int32)), f))))
def F_Mo_read  (v : Nat → Int32) (f : Nat → Nat → Int32) : Option ((Nat → Int32) × (Nat → Nat → Int32)) := (if (((32 : Int32) * (v 6)) + ((v 2) - (v 2) / (32 : Int32) * (32 : Int32))) < 0 ∨ 64 ≤ (((32 : Int32) * (v 6)) + ((v 2) - (v 2) / (32 : Int32) * (32 : Int32))).toNatClampNeg then none else (Option.bind (F_Mo_waitOf ((f 0) (((32 : Int32) * (v 6)) + ((v 2) - (v 2) / (32 : Int32) * (32 : Int32))).toNatClampNeg)) (fun z1 => (if ((((f 0) (((32 : Int32) * (v 6)) + ((v 2) - (v 2) / (32 : Int32) * (32 : Int32))).toNatClampNeg) >>> ((8 : Int32) &&& 31)) &&& (3 : Int32)) = (1 : Int32) then (F_Mo_read_143  ((((v 2) + (2 : Int32)) + z1) + (1 : Int32)) (va_up (va_up (va_up (va_up (va_up (va_up (va_up (va_up v 13 (v 10)) 14 (v 11)) 15 (v 12)) 7 (v 6)) 8 ((v 2) - (v 2) / (32 : Int32) * (32 : Int32))) 9 ((v 9) + (1 : Int32))) 10 ((f 0) (((32 : Int32) * (v 6)) + ((v 2) - (v 2) / (32 : Int32) * (32 : Int32))).toNatClampNeg)) 11 (((v 2) + (2 : Int32)) + z1)) f) else (if ((((f 0) (((32 : Int32) * (v 6)) + ((v 2) - (v 2) / (32 : Int32) * (32 : Int32))).toNatClampNeg) >>> ((8 : Int32) &&& 31)) &&& (3 : Int32)) = (2 : Int32) then (Option.bind (F_Mo_gapOf ((f 0) (((32 : Int32) * (v 6)) + ((v 2) - (v 2) / (32 : Int32) * (32 : Int32))).toNatClampNeg)) (fun z2 => (F_Mo_read_143  (((v 2) + (2 : Int32)) + z2) (va_up (va_up (va_up (va_up (va_up (va_up (va_up (va_up v 13 (v 10)) 14 (v 11)) 15 (v 12)) 7 (v 6)) 8 ((v 2) - (v 2) / (32 : Int32) * (32 : Int32))) 9 ((v 9) + (1 : Int32))) 10 ((f 0) (((32 : Int32) * (v 6)) + ((v 2) - (v 2) / (32 : Int32) * (32 : Int32))).toNatClampNeg)) 11 (((v 2) + (2 : Int32)) + z1)) f))) else (F_Mo_read_143  (((v 2) + (2 : Int32)) + z1) (va_up (va_up (va_up (va_up (va_up (va_up (va_up (va_up v 13 (v 10)) 14 (v 11)) 15 (v 12)) 7 (v 6)) 8 ((v 2) - (v 2) / (32 : Int32) * (32 : Int32))) 9 ((v 9) + (1 : Int32))) 10 ((f 0) (((32 : Int32) * (v 6)) + ((v 2) - (v 2) / (32 : Int32) * (32 : Int32))).toNatClampNeg)) 11 (((v 2) + (2 : Int32)) + z1)) f))))))
set_option maxHeartbeats 4000000 in
set_option maxRecDepth 100000 in
theorem c_Mo_read (l : Launch) (G : dm_G) (g : Nat → Nat) (v : Nat → Int32) (f : Nat → Nat → Int32) (RES : (Nat → Int32) × (Nat → Nat → Int32)) (hF : F_Mo_read v f = some RES) : dm_Ct l y_Mo_read b_Mo_read 2 none rm_Mo_read G (tw G g v f) [.ref (g 0)] (fun ov w' => ov = none ∧ w' = (tw G g RES.1 RES.2)) := by
  refine dm_Ct.of (by decide +kernel) (Nat.le_of_ble_eq_true rfl) ?_
  intro p e s m below meth c A ls B hl hP hD hS
  have hx := B.1
  have hb := B.2.1
  have hl : lv_has ls 2 [(0, .ref (g 0))] := hl
  have K143 : ∀ (ls : Array Slot) (H : Heap) (locs : List Loc) (s1 : Int32) (v : Nat → Int32) (f : Nat → Nat → Int32), lv_has ls 2 [(0, .ref (g 0))] → va_P G.1 dm_cl (tw G g v f) H → va_D A (tw G g v f) → va_S A s.heap H locs → F_Mo_read_143  s1 v f = some RES → W p l e rm_Mo_read s m ([.ref (g 0)] : List Value).toArray below meth c H locs 0 0 (dm_Z below G s ([.ref (g 0)] : List Value).toArray A rm_Mo_read.cells rm_Mo_read.slots (fun ov w' => ov = none ∧ w' = (tw G g RES.1 RES.2))) (F0 m 143 ls [.int s1, .ref (g 0)]) := by
    intro ls H locs s1 v f hl hP hD hS hF
    have hF : (Option.bind (F_Mo_gapOf (v 10)) (fun z1 => (some ((va_up (va_up (va_up (va_up v 12 s1) 5 (((v 2) + (2 : Int32)) + z1)) 6 ((v 10) >>> ((20 : Int32) &&& 31))) 16 (0 : Int32)), f)))) = some RES := hF
    refine tw_p_0_12 (x := s1) B hP hD hS k_737 d_Mo_read_143 (fun H locs hP hD hS => ?_)
    refine lv_aload_n hx hb d_Mo_read_146 rfl (lv_at hl 0 rfl) ?_
    refine lv_aload_n hx hb d_Mo_read_147 rfl (lv_at hl 0 rfl) ?_
    refine tw_g_0_2 (x := (v 2)) B hP rfl k_727 d_Mo_read_148 ?_
    refine lv_iconst (v := (2 : Int32)) hx hb d_Mo_read_151 (by decide) ?_
    refine lv_iadd hx hb d_Mo_read_152 ?_
    refine lv_aload_n hx hb d_Mo_read_153 rfl (lv_at hl 0 rfl) ?_
    refine tw_g_0_10 (x := (v 10)) B hP rfl k_735 d_Mo_read_154 ?_
    obtain ⟨z1, hcz1, hF⟩ := dm_bind hF
    refine dm_callSw B [.int (v 10)] (c_Mo_gapOf l G (tw G g (va_up v 12 s1) f) (v 10) z1 hcz1) k_905 k_906 k_14 k_907 hd_Mo_gapOf rfl ⟨by decide, by decide⟩ hP hD hS hl.1 (rest := [.int ((v 2) + (2 : Int32)), .ref (g 0)]) rfl (Nat.le_of_ble_eq_true rfl) d_Mo_read_157 ⟨by decide, by decide⟩ (fun ov w' H locs hq hP hD hS => ?_)
    obtain ⟨rfl, rfl⟩ := hq
    have hP : va_P G.1 dm_cl (tw G g (va_up v 12 s1) f) H := hP
    have hD : va_D A (tw G g (va_up v 12 s1) f) := hD
    refine W.eq (g2 := F0 m 160 ls [.int z1, .int ((v 2) + (2 : Int32)), .ref (g 0)]) rfl ?_
    refine lv_iadd hx hb d_Mo_read_160 ?_
    refine tw_p_0_5 (x := (((v 2) + (2 : Int32)) + z1)) B hP hD hS k_730 d_Mo_read_161 (fun H locs hP hD hS => ?_)
    refine lv_aload_n hx hb d_Mo_read_164 rfl (lv_at hl 0 rfl) ?_
    refine lv_aload_n hx hb d_Mo_read_165 rfl (lv_at hl 0 rfl) ?_
    refine tw_g_0_10 (x := (v 10)) B hP rfl k_735 d_Mo_read_166 ?_
    refine lv_bipush (v := (20 : Int32)) hx hb d_Mo_read_169 (by decide) ?_
    refine lv_ishr hx hb d_Mo_read_171 ?_
    refine tw_p_0_6 (x := ((v 10) >>> ((20 : Int32) &&& 31))) B hP hD hS k_731 d_Mo_read_172 (fun H locs hP hD hS => ?_)
    refine lv_aload_n hx hb d_Mo_read_175 rfl (lv_at hl 0 rfl) ?_
    refine lv_iconst (v := (0 : Int32)) hx hb d_Mo_read_176 (by decide) ?_
    refine tw_p_0_16 (x := (0 : Int32)) B hP hD hS (by decide) k_741 d_Mo_read_177 (fun H locs hP hD hS => ?_)
    have hF := Option.some.inj hF
    subst hF
    exact dm_retv B d_Mo_read_180 (by decide) (by decide) hP hD hS ⟨rfl, rfl⟩
  have hF : (if (((32 : Int32) * (v 6)) + ((v 2) - (v 2) / (32 : Int32) * (32 : Int32))) < 0 ∨ 64 ≤ (((32 : Int32) * (v 6)) + ((v 2) - (v 2) / (32 : Int32) * (32 : Int32))).toNatClampNeg then none else (Option.bind (F_Mo_waitOf ((f 0) (((32 : Int32) * (v 6)) + ((v 2) - (v 2) / (32 : Int32) * (32 : Int32))).toNatClampNeg)) (fun z1 => (if ((((f 0) (((32 : Int32) * (v 6)) + ((v 2) - (v 2) / (32 : Int32) * (32 : Int32))).toNatClampNeg) >>> ((8 : Int32) &&& 31)) &&& (3 : Int32)) = (1 : Int32) then (F_Mo_read_143  ((((v 2) + (2 : Int32)) + z1) + (1 : Int32)) (va_up (va_up (va_up (va_up (va_up (va_up (va_up (va_up v 13 (v 10)) 14 (v 11)) 15 (v 12)) 7 (v 6)) 8 ((v 2) - (v 2) / (32 : Int32) * (32 : Int32))) 9 ((v 9) + (1 : Int32))) 10 ((f 0) (((32 : Int32) * (v 6)) + ((v 2) - (v 2) / (32 : Int32) * (32 : Int32))).toNatClampNeg)) 11 (((v 2) + (2 : Int32)) + z1)) f) else (if ((((f 0) (((32 : Int32) * (v 6)) + ((v 2) - (v 2) / (32 : Int32) * (32 : Int32))).toNatClampNeg) >>> ((8 : Int32) &&& 31)) &&& (3 : Int32)) = (2 : Int32) then (Option.bind (F_Mo_gapOf ((f 0) (((32 : Int32) * (v 6)) + ((v 2) - (v 2) / (32 : Int32) * (32 : Int32))).toNatClampNeg)) (fun z2 => (F_Mo_read_143  (((v 2) + (2 : Int32)) + z2) (va_up (va_up (va_up (va_up (va_up (va_up (va_up (va_up v 13 (v 10)) 14 (v 11)) 15 (v 12)) 7 (v 6)) 8 ((v 2) - (v 2) / (32 : Int32) * (32 : Int32))) 9 ((v 9) + (1 : Int32))) 10 ((f 0) (((32 : Int32) * (v 6)) + ((v 2) - (v 2) / (32 : Int32) * (32 : Int32))).toNatClampNeg)) 11 (((v 2) + (2 : Int32)) + z1)) f))) else (F_Mo_read_143  (((v 2) + (2 : Int32)) + z1) (va_up (va_up (va_up (va_up (va_up (va_up (va_up (va_up v 13 (v 10)) 14 (v 11)) 15 (v 12)) 7 (v 6)) 8 ((v 2) - (v 2) / (32 : Int32) * (32 : Int32))) 9 ((v 9) + (1 : Int32))) 10 ((f 0) (((32 : Int32) * (v 6)) + ((v 2) - (v 2) / (32 : Int32) * (32 : Int32))).toNatClampNeg)) 11 (((v 2) + (2 : Int32)) + z1)) f)))))) = some RES := hF
  refine lv_aload_n hx hb d_Mo_read_0 rfl (lv_at hl 0 rfl) ?_
  refine lv_aload_n hx hb d_Mo_read_1 rfl (lv_at hl 0 rfl) ?_
  refine tw_g_0_10 (x := (v 10)) B hP rfl k_735 d_Mo_read_2 ?_
  refine tw_p_0_13 (x := (v 10)) B hP hD hS k_738 d_Mo_read_5 (fun H locs hP hD hS => ?_)
  refine lv_aload_n hx hb d_Mo_read_8 rfl (lv_at hl 0 rfl) ?_
  refine lv_aload_n hx hb d_Mo_read_9 rfl (lv_at hl 0 rfl) ?_
  refine tw_g_0_11 (x := (v 11)) B hP rfl k_736 d_Mo_read_10 ?_
  refine tw_p_0_14 (x := (v 11)) B hP hD hS k_739 d_Mo_read_13 (fun H locs hP hD hS => ?_)
  refine lv_aload_n hx hb d_Mo_read_16 rfl (lv_at hl 0 rfl) ?_
  refine lv_aload_n hx hb d_Mo_read_17 rfl (lv_at hl 0 rfl) ?_
  refine tw_g_0_12 (x := (v 12)) B hP rfl k_737 d_Mo_read_18 ?_
  refine tw_p_0_15 (x := (v 12)) B hP hD hS k_740 d_Mo_read_21 (fun H locs hP hD hS => ?_)
  refine lv_aload_n hx hb d_Mo_read_24 rfl (lv_at hl 0 rfl) ?_
  refine lv_aload_n hx hb d_Mo_read_25 rfl (lv_at hl 0 rfl) ?_
  refine tw_g_0_6 (x := (v 6)) B hP rfl k_731 d_Mo_read_26 ?_
  refine tw_p_0_7 (x := (v 6)) B hP hD hS k_732 d_Mo_read_29 (fun H locs hP hD hS => ?_)
  refine lv_aload_n hx hb d_Mo_read_32 rfl (lv_at hl 0 rfl) ?_
  refine lv_aload_n hx hb d_Mo_read_33 rfl (lv_at hl 0 rfl) ?_
  refine tw_g_0_2 (x := (v 2)) B hP rfl k_727 d_Mo_read_34 ?_
  refine lv_bipush (v := (32 : Int32)) hx hb d_Mo_read_37 (by decide) ?_
  refine lv_irem hx hb d_Mo_read_39 (by decide) ?_
  refine tw_p_0_8 (x := ((v 2) - (v 2) / (32 : Int32) * (32 : Int32))) B hP hD hS k_733 d_Mo_read_40 (fun H locs hP hD hS => ?_)
  refine lv_aload_n hx hb d_Mo_read_43 rfl (lv_at hl 0 rfl) ?_
  refine lv_dup hx hb d_Mo_read_44 rfl ?_
  refine tw_g_0_9 (x := (v 9)) B hP rfl k_734 d_Mo_read_45 ?_
  refine lv_iconst (v := (1 : Int32)) hx hb d_Mo_read_48 (by decide) ?_
  refine lv_iadd hx hb d_Mo_read_49 ?_
  refine tw_p_0_9 (x := ((v 9) + (1 : Int32))) B hP hD hS k_734 d_Mo_read_50 (fun H locs hP hD hS => ?_)
  refine lv_aload_n hx hb d_Mo_read_53 rfl (lv_at hl 0 rfl) ?_
  refine lv_aload_n hx hb d_Mo_read_54 rfl (lv_at hl 0 rfl) ?_
  refine tw_g_0_0 B hP k_725 d_Mo_read_55 ?_
  refine lv_bipush (v := (32 : Int32)) hx hb d_Mo_read_58 (by decide) ?_
  refine lv_aload_n hx hb d_Mo_read_60 rfl (lv_at hl 0 rfl) ?_
  refine tw_g_0_7 (x := (v 6)) B hP rfl k_732 d_Mo_read_61 ?_
  refine lv_imul hx hb d_Mo_read_64 ?_
  refine lv_aload_n hx hb d_Mo_read_65 rfl (lv_at hl 0 rfl) ?_
  refine tw_g_0_8 (x := ((v 2) - (v 2) / (32 : Int32) * (32 : Int32))) B hP rfl k_733 d_Mo_read_66 ?_
  refine lv_iadd hx hb d_Mo_read_69 ?_
  obtain ⟨hi, hF⟩ := dm_chk hF
  refine tw_a_1 (F := (f 0)) B hP rfl hi d_Mo_read_70 ?_
  refine tw_p_0_10 (x := ((f 0) (((32 : Int32) * (v 6)) + ((v 2) - (v 2) / (32 : Int32) * (32 : Int32))).toNatClampNeg)) B hP hD hS k_735 d_Mo_read_71 (fun H locs hP hD hS => ?_)
  refine lv_aload_n hx hb d_Mo_read_74 rfl (lv_at hl 0 rfl) ?_
  refine tw_g_0_10 (x := ((f 0) (((32 : Int32) * (v 6)) + ((v 2) - (v 2) / (32 : Int32) * (32 : Int32))).toNatClampNeg)) B hP rfl k_735 d_Mo_read_75 ?_
  refine lv_bipush (v := (8 : Int32)) hx hb d_Mo_read_78 (by decide) ?_
  refine lv_ishr hx hb d_Mo_read_80 ?_
  refine lv_iconst (v := (3 : Int32)) hx hb d_Mo_read_81 (by decide) ?_
  refine lv_iand hx hb d_Mo_read_82 ?_
  refine lv_istore_n (lv' := [(1, .int ((((f 0) (((32 : Int32) * (v 6)) + ((v 2) - (v 2) / (32 : Int32) * (32 : Int32))).toNatClampNeg) >>> ((8 : Int32) &&& 31)) &&& (3 : Int32))), (0, .ref (g 0))]) hx hb d_Mo_read_83 rfl hl (Nat.le_of_ble_eq_true rfl) rfl (fun ls hl => ?_)
  have hl : lv_has ls 2 [(0, .ref (g 0)), (1, .int ((((f 0) (((32 : Int32) * (v 6)) + ((v 2) - (v 2) / (32 : Int32) * (32 : Int32))).toNatClampNeg) >>> ((8 : Int32) &&& 31)) &&& (3 : Int32)))] := lv_sub hl [1, 0] rfl
  refine lv_aload_n hx hb d_Mo_read_84 rfl (lv_at hl 0 rfl) ?_
  refine lv_aload_n hx hb d_Mo_read_85 rfl (lv_at hl 0 rfl) ?_
  refine tw_g_0_2 (x := (v 2)) B hP rfl k_727 d_Mo_read_86 ?_
  refine lv_iconst (v := (2 : Int32)) hx hb d_Mo_read_89 (by decide) ?_
  refine lv_iadd hx hb d_Mo_read_90 ?_
  refine lv_aload_n hx hb d_Mo_read_91 rfl (lv_at hl 0 rfl) ?_
  refine tw_g_0_10 (x := ((f 0) (((32 : Int32) * (v 6)) + ((v 2) - (v 2) / (32 : Int32) * (32 : Int32))).toNatClampNeg)) B hP rfl k_735 d_Mo_read_92 ?_
  obtain ⟨z1, hcz1, hF⟩ := dm_bind hF
  refine dm_callSw B [.int ((f 0) (((32 : Int32) * (v 6)) + ((v 2) - (v 2) / (32 : Int32) * (32 : Int32))).toNatClampNeg)] (c_Mo_waitOf l G (tw G g (va_up (va_up (va_up (va_up (va_up (va_up (va_up v 13 (v 10)) 14 (v 11)) 15 (v 12)) 7 (v 6)) 8 ((v 2) - (v 2) / (32 : Int32) * (32 : Int32))) 9 ((v 9) + (1 : Int32))) 10 ((f 0) (((32 : Int32) * (v 6)) + ((v 2) - (v 2) / (32 : Int32) * (32 : Int32))).toNatClampNeg)) f) ((f 0) (((32 : Int32) * (v 6)) + ((v 2) - (v 2) / (32 : Int32) * (32 : Int32))).toNatClampNeg) z1 hcz1) k_902 k_903 k_14 k_904 hd_Mo_waitOf rfl ⟨by decide, by decide⟩ hP hD hS hl.1 (rest := [.int ((v 2) + (2 : Int32)), .ref (g 0)]) rfl (Nat.le_of_ble_eq_true rfl) d_Mo_read_95 ⟨by decide, by decide⟩ (fun ov w' H locs hq hP hD hS => ?_)
  obtain ⟨rfl, rfl⟩ := hq
  have hP : va_P G.1 dm_cl (tw G g (va_up (va_up (va_up (va_up (va_up (va_up (va_up v 13 (v 10)) 14 (v 11)) 15 (v 12)) 7 (v 6)) 8 ((v 2) - (v 2) / (32 : Int32) * (32 : Int32))) 9 ((v 9) + (1 : Int32))) 10 ((f 0) (((32 : Int32) * (v 6)) + ((v 2) - (v 2) / (32 : Int32) * (32 : Int32))).toNatClampNeg)) f) H := hP
  have hD : va_D A (tw G g (va_up (va_up (va_up (va_up (va_up (va_up (va_up v 13 (v 10)) 14 (v 11)) 15 (v 12)) 7 (v 6)) 8 ((v 2) - (v 2) / (32 : Int32) * (32 : Int32))) 9 ((v 9) + (1 : Int32))) 10 ((f 0) (((32 : Int32) * (v 6)) + ((v 2) - (v 2) / (32 : Int32) * (32 : Int32))).toNatClampNeg)) f) := hD
  refine W.eq (g2 := F0 m 98 ls [.int z1, .int ((v 2) + (2 : Int32)), .ref (g 0)]) rfl ?_
  refine lv_iadd hx hb d_Mo_read_98 ?_
  refine tw_p_0_11 (x := (((v 2) + (2 : Int32)) + z1)) B hP hD hS k_736 d_Mo_read_99 (fun H locs hP hD hS => ?_)
  refine lv_aload_n hx hb d_Mo_read_102 rfl (lv_at hl 0 rfl) ?_
  refine lv_iload_n hx hb d_Mo_read_103 rfl (lv_at hl 1 rfl) ?_
  refine lv_iconst (v := (1 : Int32)) hx hb d_Mo_read_104 (by decide) ?_
  refine lv_icmp_ne (tgt := 117) hx hb d_Mo_read_105 (by decide) (fun (hh : ¬ ((((f 0) (((32 : Int32) * (v 6)) + ((v 2) - (v 2) / (32 : Int32) * (32 : Int32))).toNatClampNeg) >>> ((8 : Int32) &&& 31)) &&& (3 : Int32)) = (1 : Int32)) => ?_) (fun (hh : ((((f 0) (((32 : Int32) * (v 6)) + ((v 2) - (v 2) / (32 : Int32) * (32 : Int32))).toNatClampNeg) >>> ((8 : Int32) &&& 31)) &&& (3 : Int32)) = (1 : Int32)) => ?_)
  · rw [if_neg hh] at hF
    refine lv_iload_n hx hb d_Mo_read_117 rfl (lv_at hl 1 rfl) ?_
    refine lv_iconst (v := (2 : Int32)) hx hb d_Mo_read_118 (by decide) ?_
    refine lv_icmp_ne (tgt := 139) hx hb d_Mo_read_119 (by decide) (fun (hh : ¬ ((((f 0) (((32 : Int32) * (v 6)) + ((v 2) - (v 2) / (32 : Int32) * (32 : Int32))).toNatClampNeg) >>> ((8 : Int32) &&& 31)) &&& (3 : Int32)) = (2 : Int32)) => ?_) (fun (hh : ((((f 0) (((32 : Int32) * (v 6)) + ((v 2) - (v 2) / (32 : Int32) * (32 : Int32))).toNatClampNeg) >>> ((8 : Int32) &&& 31)) &&& (3 : Int32)) = (2 : Int32)) => ?_)
    · rw [if_neg hh] at hF
      refine lv_aload_n hx hb d_Mo_read_139 rfl (lv_at hl 0 rfl) ?_
      refine tw_g_0_11 (x := (((v 2) + (2 : Int32)) + z1)) B hP rfl k_736 d_Mo_read_140 ?_
      exact K143 ls _ _ (((v 2) + (2 : Int32)) + z1) (va_up (va_up (va_up (va_up (va_up (va_up (va_up (va_up v 13 (v 10)) 14 (v 11)) 15 (v 12)) 7 (v 6)) 8 ((v 2) - (v 2) / (32 : Int32) * (32 : Int32))) 9 ((v 9) + (1 : Int32))) 10 ((f 0) (((32 : Int32) * (v 6)) + ((v 2) - (v 2) / (32 : Int32) * (32 : Int32))).toNatClampNeg)) 11 (((v 2) + (2 : Int32)) + z1)) f (lv_sub hl [0] rfl) hP hD hS hF
    · rw [if_pos hh] at hF
      refine lv_aload_n hx hb d_Mo_read_122 rfl (lv_at hl 0 rfl) ?_
      refine tw_g_0_2 (x := (v 2)) B hP rfl k_727 d_Mo_read_123 ?_
      refine lv_iconst (v := (2 : Int32)) hx hb d_Mo_read_126 (by decide) ?_
      refine lv_iadd hx hb d_Mo_read_127 ?_
      refine lv_aload_n hx hb d_Mo_read_128 rfl (lv_at hl 0 rfl) ?_
      refine tw_g_0_10 (x := ((f 0) (((32 : Int32) * (v 6)) + ((v 2) - (v 2) / (32 : Int32) * (32 : Int32))).toNatClampNeg)) B hP rfl k_735 d_Mo_read_129 ?_
      obtain ⟨z2, hcz2, hF⟩ := dm_bind hF
      refine dm_callSw B [.int ((f 0) (((32 : Int32) * (v 6)) + ((v 2) - (v 2) / (32 : Int32) * (32 : Int32))).toNatClampNeg)] (c_Mo_gapOf l G (tw G g (va_up (va_up (va_up (va_up (va_up (va_up (va_up (va_up v 13 (v 10)) 14 (v 11)) 15 (v 12)) 7 (v 6)) 8 ((v 2) - (v 2) / (32 : Int32) * (32 : Int32))) 9 ((v 9) + (1 : Int32))) 10 ((f 0) (((32 : Int32) * (v 6)) + ((v 2) - (v 2) / (32 : Int32) * (32 : Int32))).toNatClampNeg)) 11 (((v 2) + (2 : Int32)) + z1)) f) ((f 0) (((32 : Int32) * (v 6)) + ((v 2) - (v 2) / (32 : Int32) * (32 : Int32))).toNatClampNeg) z2 hcz2) k_905 k_906 k_14 k_907 hd_Mo_gapOf rfl ⟨by decide, by decide⟩ hP hD hS hl.1 (rest := [.int ((v 2) + (2 : Int32)), .ref (g 0)]) rfl (Nat.le_of_ble_eq_true rfl) d_Mo_read_132 ⟨by decide, by decide⟩ (fun ov w' H locs hq hP hD hS => ?_)
      obtain ⟨rfl, rfl⟩ := hq
      have hP : va_P G.1 dm_cl (tw G g (va_up (va_up (va_up (va_up (va_up (va_up (va_up (va_up v 13 (v 10)) 14 (v 11)) 15 (v 12)) 7 (v 6)) 8 ((v 2) - (v 2) / (32 : Int32) * (32 : Int32))) 9 ((v 9) + (1 : Int32))) 10 ((f 0) (((32 : Int32) * (v 6)) + ((v 2) - (v 2) / (32 : Int32) * (32 : Int32))).toNatClampNeg)) 11 (((v 2) + (2 : Int32)) + z1)) f) H := hP
      have hD : va_D A (tw G g (va_up (va_up (va_up (va_up (va_up (va_up (va_up (va_up v 13 (v 10)) 14 (v 11)) 15 (v 12)) 7 (v 6)) 8 ((v 2) - (v 2) / (32 : Int32) * (32 : Int32))) 9 ((v 9) + (1 : Int32))) 10 ((f 0) (((32 : Int32) * (v 6)) + ((v 2) - (v 2) / (32 : Int32) * (32 : Int32))).toNatClampNeg)) 11 (((v 2) + (2 : Int32)) + z1)) f) := hD
      refine W.eq (g2 := F0 m 135 ls [.int z2, .int ((v 2) + (2 : Int32)), .ref (g 0)]) rfl ?_
      refine lv_iadd hx hb d_Mo_read_135 ?_
      refine lv_goto (tgt := 143) hx hb d_Mo_read_136 (by decide) ?_
      exact K143 ls _ _ (((v 2) + (2 : Int32)) + z2) (va_up (va_up (va_up (va_up (va_up (va_up (va_up (va_up v 13 (v 10)) 14 (v 11)) 15 (v 12)) 7 (v 6)) 8 ((v 2) - (v 2) / (32 : Int32) * (32 : Int32))) 9 ((v 9) + (1 : Int32))) 10 ((f 0) (((32 : Int32) * (v 6)) + ((v 2) - (v 2) / (32 : Int32) * (32 : Int32))).toNatClampNeg)) 11 (((v 2) + (2 : Int32)) + z1)) f (lv_sub hl [0] rfl) hP hD hS hF
  · rw [if_pos hh] at hF
    refine lv_aload_n hx hb d_Mo_read_108 rfl (lv_at hl 0 rfl) ?_
    refine tw_g_0_11 (x := (((v 2) + (2 : Int32)) + z1)) B hP rfl k_736 d_Mo_read_109 ?_
    refine lv_iconst (v := (1 : Int32)) hx hb d_Mo_read_112 (by decide) ?_
    refine lv_iadd hx hb d_Mo_read_113 ?_
    refine lv_goto (tgt := 143) hx hb d_Mo_read_114 (by decide) ?_
    exact K143 ls _ _ ((((v 2) + (2 : Int32)) + z1) + (1 : Int32)) (va_up (va_up (va_up (va_up (va_up (va_up (va_up (va_up v 13 (v 10)) 14 (v 11)) 15 (v 12)) 7 (v 6)) 8 ((v 2) - (v 2) / (32 : Int32) * (32 : Int32))) 9 ((v 9) + (1 : Int32))) 10 ((f 0) (((32 : Int32) * (v 6)) + ((v 2) - (v 2) / (32 : Int32) * (32 : Int32))).toNatClampNeg)) 11 (((v 2) + (2 : Int32)) + z1)) f (lv_sub hl [0] rfl) hP hD hS hF
abbrev b_Mo_row : ByteArray := prog_16_method_11_code
abbrev y_Mo_row : MethodName := { cls := "DelayMachineModel", name := "row", desc := "()I" }
theorem d_Mo_row_0 : decode b_Mo_row 0 = .ok (.aload_n 0, 1) := by decide +kernel
theorem d_Mo_row_1 : decode b_Mo_row 1 = .ok (.getfield 128, 3) := by decide +kernel
theorem d_Mo_row_4 : decode b_Mo_row 4 = .ok (.aload_n 0, 1) := by decide +kernel
theorem d_Mo_row_5 : decode b_Mo_row 5 = .ok (.getfield 23, 3) := by decide +kernel
theorem d_Mo_row_8 : decode b_Mo_row 8 = .ok (.isub, 1) := by decide +kernel
theorem d_Mo_row_9 : decode b_Mo_row 9 = .ok (.bipush (40), 2) := by decide +kernel
theorem d_Mo_row_11 : decode b_Mo_row 11 = .ok (.isub, 1) := by decide +kernel
theorem d_Mo_row_12 : decode b_Mo_row 12 = .ok (.istore_n 1, 1) := by decide +kernel
theorem d_Mo_row_13 : decode b_Mo_row 13 = .ok (.aload_n 0, 1) := by decide +kernel
theorem d_Mo_row_14 : decode b_Mo_row 14 = .ok (.getfield 23, 3) := by decide +kernel
theorem d_Mo_row_17 : decode b_Mo_row 17 = .ok (.ifCond .lt (24), 3) := by decide +kernel
theorem d_Mo_row_20 : decode b_Mo_row 20 = .ok (.iload_n 1, 1) := by decide +kernel
theorem d_Mo_row_21 : decode b_Mo_row 21 = .ok (.ifCond .lt (20), 3) := by decide +kernel
theorem d_Mo_row_24 : decode b_Mo_row 24 = .ok (.iload_n 1, 1) := by decide +kernel
theorem d_Mo_row_25 : decode b_Mo_row 25 = .ok (.bipush (8), 2) := by decide +kernel
theorem d_Mo_row_27 : decode b_Mo_row 27 = .ok (.irem, 1) := by decide +kernel
theorem d_Mo_row_28 : decode b_Mo_row 28 = .ok (.iconst 2, 1) := by decide +kernel
theorem d_Mo_row_29 : decode b_Mo_row 29 = .ok (.if_icmp .gt (12), 3) := by decide +kernel
theorem d_Mo_row_32 : decode b_Mo_row 32 = .ok (.iload_n 1, 1) := by decide +kernel
theorem d_Mo_row_33 : decode b_Mo_row 33 = .ok (.bipush (8), 2) := by decide +kernel
theorem d_Mo_row_35 : decode b_Mo_row 35 = .ok (.idiv, 1) := by decide +kernel
theorem d_Mo_row_36 : decode b_Mo_row 36 = .ok (.bipush (11), 2) := by decide +kernel
theorem d_Mo_row_38 : decode b_Mo_row 38 = .ok (.if_icmp .le (7), 3) := by decide +kernel
theorem d_Mo_row_41 : decode b_Mo_row 41 = .ok (.iconst (-1), 1) := by decide +kernel
theorem d_Mo_row_42 : decode b_Mo_row 42 = .ok (.goto (7), 3) := by decide +kernel
theorem d_Mo_row_45 : decode b_Mo_row 45 = .ok (.iload_n 1, 1) := by decide +kernel
theorem d_Mo_row_46 : decode b_Mo_row 46 = .ok (.bipush (8), 2) := by decide +kernel
theorem d_Mo_row_48 : decode b_Mo_row 48 = .ok (.idiv, 1) := by decide +kernel
theorem d_Mo_row_49 : decode b_Mo_row 49 = .ok (.ireturn, 1) := by decide +kernel
theorem hd_Mo_row : y_Mo_row.cls ≠ "java/lang/invoke/MethodHandle" ∧ y_Mo_row.cls ≠ "java/lang/invoke/VarHandle" ∧ (parseMethodDescriptor y_Mo_row.desc).map (fun d => d.parameters.length) = some 0 := by decide +kernel
abbrev rm_Mo_row : Room := { frames := 0, cells := 0, slots := 0, locals := 0 }
def F_Mo_row_41 (v : Nat → Int32) (f : Nat → Nat → Int32)    : Option (Int32) := (some (-1 : Int32))
def F_Mo_row (v : Nat → Int32) (f : Nat → Nat → Int32)  : Option (Int32) := (if (v 23) < (0 : Int32) then (F_Mo_row_41 v f) else (if (((v 2) - (v 23)) - (40 : Int32)) < (0 : Int32) then (F_Mo_row_41 v f) else (if (2 : Int32) < ((((v 2) - (v 23)) - (40 : Int32)) - (((v 2) - (v 23)) - (40 : Int32)) / (8 : Int32) * (8 : Int32)) then (F_Mo_row_41 v f) else (if ((((v 2) - (v 23)) - (40 : Int32)) / (8 : Int32)) ≤ (11 : Int32) then (some ((((v 2) - (v 23)) - (40 : Int32)) / (8 : Int32))) else (F_Mo_row_41 v f)))))
set_option maxHeartbeats 4000000 in
set_option maxRecDepth 100000 in
theorem c_Mo_row (l : Launch) (G : dm_G) (g : Nat → Nat) (v : Nat → Int32) (f : Nat → Nat → Int32) (RES : Int32) (hF : F_Mo_row v f = some RES) : dm_Ct l y_Mo_row b_Mo_row 2 (some .int) rm_Mo_row G (tw G g v f) [.ref (g 0)] (fun ov w' => ov = some (.int RES) ∧ w' = (tw G g v f)) := by
  refine dm_Ct.of (by decide +kernel) (Nat.le_of_ble_eq_true rfl) ?_
  intro p e s m below meth c A ls B hl hP hD hS
  have hx := B.1
  have hb := B.2.1
  have hl : lv_has ls 2 [(0, .ref (g 0))] := hl
  have K41 : ∀ (ls : Array Slot) (H : Heap) (locs : List Loc)  , lv_has ls 2 [] → va_P G.1 dm_cl (tw G g v f) H → va_D A (tw G g v f) → va_S A s.heap H locs → F_Mo_row_41 v f   = some RES → W p l e rm_Mo_row s m ([.ref (g 0)] : List Value).toArray below meth c H locs 0 0 (dm_Z below G s ([.ref (g 0)] : List Value).toArray A rm_Mo_row.cells rm_Mo_row.slots (fun ov w' => ov = some (.int RES) ∧ w' = (tw G g v f))) (F0 m 41 ls []) := by
    intro ls H locs  hl hP hD hS hF
    have hF : (some (-1 : Int32)) = some RES := hF
    refine lv_iconst (v := (-1 : Int32)) hx hb d_Mo_row_41 (by decide) ?_
    refine lv_goto (tgt := 49) hx hb d_Mo_row_42 (by decide) ?_
    have hF := Option.some.inj hF
    subst hF
    exact dm_ret B rfl d_Mo_row_49 (by decide) (by decide) hP hD hS ⟨rfl, rfl⟩
  have hF : (if (v 23) < (0 : Int32) then (F_Mo_row_41 v f) else (if (((v 2) - (v 23)) - (40 : Int32)) < (0 : Int32) then (F_Mo_row_41 v f) else (if (2 : Int32) < ((((v 2) - (v 23)) - (40 : Int32)) - (((v 2) - (v 23)) - (40 : Int32)) / (8 : Int32) * (8 : Int32)) then (F_Mo_row_41 v f) else (if ((((v 2) - (v 23)) - (40 : Int32)) / (8 : Int32)) ≤ (11 : Int32) then (some ((((v 2) - (v 23)) - (40 : Int32)) / (8 : Int32))) else (F_Mo_row_41 v f))))) = some RES := hF
  refine lv_aload_n hx hb d_Mo_row_0 rfl (lv_at hl 0 rfl) ?_
  refine tw_g_0_2 (x := (v 2)) B hP rfl k_727 d_Mo_row_1 ?_
  refine lv_aload_n hx hb d_Mo_row_4 rfl (lv_at hl 0 rfl) ?_
  refine tw_g_0_23 (x := (v 23)) B hP rfl k_748 d_Mo_row_5 ?_
  refine lv_isub hx hb d_Mo_row_8 ?_
  refine lv_bipush (v := (40 : Int32)) hx hb d_Mo_row_9 (by decide) ?_
  refine lv_isub hx hb d_Mo_row_11 ?_
  refine lv_istore_n (lv' := [(1, .int (((v 2) - (v 23)) - (40 : Int32))), (0, .ref (g 0))]) hx hb d_Mo_row_12 rfl hl (Nat.le_of_ble_eq_true rfl) rfl (fun ls hl => ?_)
  have hl : lv_has ls 2 [(0, .ref (g 0)), (1, .int (((v 2) - (v 23)) - (40 : Int32)))] := lv_sub hl [1, 0] rfl
  refine lv_aload_n hx hb d_Mo_row_13 rfl (lv_at hl 0 rfl) ?_
  refine tw_g_0_23 (x := (v 23)) B hP rfl k_748 d_Mo_row_14 ?_
  refine lv_if_lt (tgt := 41) hx hb d_Mo_row_17 (by decide) (fun (hh : (v 23) < (0 : Int32)) => ?_) (fun (hh : ¬ (v 23) < (0 : Int32)) => ?_)
  · rw [if_pos hh] at hF
    exact K41 ls _ _  (lv_sub hl [] rfl) hP hD hS hF
  · rw [if_neg hh] at hF
    refine lv_iload_n hx hb d_Mo_row_20 rfl (lv_at hl 1 rfl) ?_
    refine lv_if_lt (tgt := 41) hx hb d_Mo_row_21 (by decide) (fun (hh : (((v 2) - (v 23)) - (40 : Int32)) < (0 : Int32)) => ?_) (fun (hh : ¬ (((v 2) - (v 23)) - (40 : Int32)) < (0 : Int32)) => ?_)
    · rw [if_pos hh] at hF
      exact K41 ls _ _  (lv_sub hl [] rfl) hP hD hS hF
    · rw [if_neg hh] at hF
      refine lv_iload_n hx hb d_Mo_row_24 rfl (lv_at hl 1 rfl) ?_
      refine lv_bipush (v := (8 : Int32)) hx hb d_Mo_row_25 (by decide) ?_
      refine lv_irem hx hb d_Mo_row_27 (by decide) ?_
      refine lv_iconst (v := (2 : Int32)) hx hb d_Mo_row_28 (by decide) ?_
      refine lv_icmp_gt (tgt := 41) hx hb d_Mo_row_29 (by decide) (fun (hh : (2 : Int32) < ((((v 2) - (v 23)) - (40 : Int32)) - (((v 2) - (v 23)) - (40 : Int32)) / (8 : Int32) * (8 : Int32))) => ?_) (fun (hh : ¬ (2 : Int32) < ((((v 2) - (v 23)) - (40 : Int32)) - (((v 2) - (v 23)) - (40 : Int32)) / (8 : Int32) * (8 : Int32))) => ?_)
      · rw [if_pos hh] at hF
        exact K41 ls _ _  (lv_sub hl [] rfl) hP hD hS hF
      · rw [if_neg hh] at hF
        refine lv_iload_n hx hb d_Mo_row_32 rfl (lv_at hl 1 rfl) ?_
        refine lv_bipush (v := (8 : Int32)) hx hb d_Mo_row_33 (by decide) ?_
        refine lv_idiv hx hb d_Mo_row_35 (by decide) ?_
        refine lv_bipush (v := (11 : Int32)) hx hb d_Mo_row_36 (by decide) ?_
        refine lv_icmp_le (tgt := 45) hx hb d_Mo_row_38 (by decide) (fun (hh : ((((v 2) - (v 23)) - (40 : Int32)) / (8 : Int32)) ≤ (11 : Int32)) => ?_) (fun (hh : ¬ ((((v 2) - (v 23)) - (40 : Int32)) / (8 : Int32)) ≤ (11 : Int32)) => ?_)
        · rw [if_pos hh] at hF
          refine lv_iload_n hx hb d_Mo_row_45 rfl (lv_at hl 1 rfl) ?_
          refine lv_bipush (v := (8 : Int32)) hx hb d_Mo_row_46 (by decide) ?_
          refine lv_idiv hx hb d_Mo_row_48 (by decide) ?_
          have hF := Option.some.inj hF
          subst hF
          exact dm_ret B rfl d_Mo_row_49 (by decide) (by decide) hP hD hS ⟨rfl, rfl⟩
        · rw [if_neg hh] at hF
          exact K41 ls _ _  (lv_sub hl [] rfl) hP hD hS hF
