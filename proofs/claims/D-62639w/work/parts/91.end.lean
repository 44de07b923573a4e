theorem law_from {p : Program} {e : Env} {s : State} {m : MethodId} {below : List Frame} {meth : Method} {c : Code} (l : Launch) {b L : Nat} {xs : Nat → Int32} (LR : Nat → (Nat → Int32) → (Nat → Nat → Int32) → (Nat → Nat) → (Nat → Nat → Int32) → (Nat → Int32) → (Nat → Nat → Int32) → (Nat → Nat → Int32) → (Nat → Option Nat) → (Nat → Int32) → (Nat → Nat → Int32) → Prop) (ops : LOps LR) (h0 : LR 0 dm_v0 (fun _ _ => 0) (fun _ => 16) (fun _ _ => 0) (as_R.get as_some).1 (as_R.get as_some).2.1 (as_R.get as_some).2.2.1 (as_R.get as_some).2.2.2 tw_v0 tw_f0) (hL : L ≤ 3072) (C0 : lw_At p s m meth c b L xs) : W p l e room_1 s m #[Value.ref b] below meth c s.heap [] 0 0 (lw_Z below #[Value.ref b] s) (entryFrame m ([Value.ref b] : List Value).toArray 4) := by
  obtain ⟨hx, hb, hr, hml, hown, hts, hX, hbl, hlk, hgv⟩ := C0
  obtain ⟨G, hK⟩ := env_all hts hgv
  have hg : ∀ w ∈ dm_gt, w.before #[Value.ref b] s = true := fun w hw => hts w (List.mem_filter.mp hw).1
  have B : dm_B p s m #[Value.ref b] meth c code 4 ret "DelayMachineLaw" meth.name G (fun q => s.heap.size ≤ q) := ⟨hx, hb, hml, hown, hg, hr, hlk, rfl, hK, fun q h => h⟩
  have hl := lv_entry [Value.ref b] (n := 4) (Nat.le_of_ble_eq_true rfl)
  rw [lg_entry_eq]
  have hl : lv_has _ 4 [(0, .ref b)] := hl
  have hP : va_P G.1 dm_cl [] s.heap := fun k q hq => by cases hq
  have hD : va_D (fun q => s.heap.size ≤ q) [] := ⟨fun i j p q hp => (by cases hp), fun k q hq => (by cases hq)⟩
  have hS : va_S (fun q => s.heap.size ≤ q) s.heap s.heap [] := va_S.rf
  refine dm_new (ci := 0) (fs := [.null, .null]) B rfl in_DM t_DM t_DM_ok k_24 k_25 k_1 hP hD hS (by decide +kernel) (by decide) (by decide) d_law_0 (fun q1 H hP hD hS => ?_)
  refine lv_dup hx hb d_law_3 rfl ?_
  refine dm_callIp (wr := []) B [] (c_DM_init l G q1) k_26 k_27 k_1 k_28 rfl hd_DM_init rfl ⟨by decide, by decide⟩ hP hD hS (List.Perm.refl _) hl.1 (rest := [.ref q1]) rfl (Nat.le_of_ble_eq_true rfl) d_law_4 ⟨by decide, by decide⟩ (fun ov w' H locs hq hP hD hS => ?_)
  obtain ⟨g, h, rfl, hY0, hK0, rfl, rfl⟩ := hq
  have hP : va_P G.1 dm_cl (aw G g (G.2.2.1, 0, 0, fun _ => 0) (fun _ _ => 0) (mw G g h dm_v0 (fun _ _ => 0) (fun _ => 16)) (G.2.2.1, 0, 0, fun _ => 0) (as_R.get as_some).1 (as_R.get as_some).2.1 (as_R.get as_some).2.2.1 (as_R.get as_some).2.2.2) H := hP
  have hD : va_D (fun q => s.heap.size ≤ q) (aw G g (G.2.2.1, 0, 0, fun _ => 0) (fun _ _ => 0) (mw G g h dm_v0 (fun _ _ => 0) (fun _ => 16)) (G.2.2.1, 0, 0, fun _ => 0) (as_R.get as_some).1 (as_R.get as_some).2.1 (as_R.get as_some).2.2.1 (as_R.get as_some).2.2.2) := hD
  refine W.eq (g2 := F0 m 7 _ [.ref (g 90)]) rfl ?_
  refine lv_astore_n (lv' := [(1, .ref (g 90)), (0, .ref b)]) hx hb d_law_7 rfl hl (Nat.le_of_ble_eq_true rfl) rfl (fun ls hl => ?_)
  refine dm_new (ci := 13) (fs := [.null, .null, .int (0 : Int32), .int (0 : Int32), .int (0 : Int32), .int (0 : Int32), .int (0 : Int32), .int (0 : Int32), .int (0 : Int32), .int (0 : Int32), .int (0 : Int32), .int (0 : Int32), .int (0 : Int32), .int (0 : Int32), .int (0 : Int32), .int (0 : Int32), .int (0 : Int32), .int (0 : Int32), .int (0 : Int32), .int (0 : Int32), .int (0 : Int32), .null, .null, .int (0 : Int32), .int (0 : Int32), .int (0 : Int32), .null, .int (0 : Int32), .int (0 : Int32), .null, .null, .null, .null, .null, .int (0 : Int32), .null, .null, .null, .null, .null, .null, .null, .null, .null, .int (0 : Int32), .null, .null]) B rfl in_Mo t_Mo t_Mo_ok k_719 k_720 k_14 hP hD hS (by decide +kernel) (by decide) (by decide) d_law_8 (fun q2 H hP hD hS => ?_)
  refine lv_dup hx hb d_law_11 rfl ?_
  refine dm_callIp (wr := (aw G g (G.2.2.1, 0, 0, fun _ => 0) (fun _ _ => 0) (mw G g h dm_v0 (fun _ _ => 0) (fun _ => 16)) (G.2.2.1, 0, 0, fun _ => 0) (as_R.get as_some).1 (as_R.get as_some).2.1 (as_R.get as_some).2.2.1 (as_R.get as_some).2.2.2)) B [] (c_Mo_init l G q2) k_721 k_722 k_14 k_723 rfl hd_Mo_init rfl ⟨by decide, by decide⟩ hP hD hS (List.Perm.refl _) hl.1 (rest := [.ref q2]) rfl (Nat.le_of_ble_eq_true rfl) d_law_12 ⟨by decide, by decide⟩ (fun ov w' H locs hq hP hD hS => ?_)
  obtain ⟨gt, rfl, rfl, rfl⟩ := hq
  refine W.eq (g2 := F0 m 15 _ [.ref (gt 0)]) rfl ?_
  refine lv_astore_n (lv' := [(2, .ref (gt 0)), (1, .ref (g 90)), (0, .ref b)]) hx hb d_law_15 rfl hl (Nat.le_of_ble_eq_true rfl) rfl (fun ls hl => ?_)
  refine lv_iconst (v := (0 : Int32)) hx hb d_law_16 (by decide) ?_
  refine lv_istore_n (lv' := [(3, .int (0 : Int32)), (2, .ref (gt 0)), (1, .ref (g 90)), (0, .ref b)]) hx hb d_law_17 rfl hl (Nat.le_of_ble_eq_true rfl) rfl (fun ls hl => ?_)
  have hl : lv_has ls 4 [(3, .int (nI 0)), (2, .ref (gt 0)), (1, .ref (g 90)), (0, .ref b)] := hl
  exact law_loop l LR ops hL (fun q h => h) B hX hbl (fun h2 => absurd hbl (Nat.not_lt.mpr h2)) 512 0 0 _ _ ls H locs h dm_v0 (fun _ _ => 0) (fun _ => 16) (G.2.2.1, 0, 0, fun _ => 0) (fun _ _ => 0) (G.2.2.1, 0, 0, fun _ => 0) _ _ _ _ tw_v0 tw_f0 (by omega) (by omega) (by omega) (by decide) (by decide) h0 hY0 hK0 ⟨hl.1, hl.2.1, fun q hq => hl.2.2 q (by simp only [List.mem_cons, List.not_mem_nil, or_false] at hq ⊢; rcases hq with rfl | rfl | rfl | rfl <;> simp)⟩ hP hD hS
