theorem env_pr {args : Array Value} {s : State} {ty : FieldType} (h : (Cond.arrayClass ty).before args s = true) (hr : ∀ c : ClassId, s.vm.findClass ("[" ++ ty.toString) = some c → va_RA s c ty) : ∃ cA : ClassId, ArrOfT s cA ty ∧ va_RA s cA ty := by
  obtain ⟨cA, kA, comp, h1, h2, h3⟩ := Cond.arrayClass_spec h
  exact ⟨cA, fun N z => ⟨(fun k h => by cases h), kA, h2, comp, h3⟩, hr cA h1⟩
theorem env_ob {args : Array Value} {s : State} {C : String} (h : (Cond.arrayOver (.object C)).before args s = true) : ∃ cA : ClassId, ArrOfT s cA (.object C) ∧ va_RA s cA (.object C) := by
  obtain ⟨comp, cA, kA, h0, -, h2, h3, h4⟩ := Cond.arrayOver_spec h
  exact ⟨cA, fun N z => ⟨(fun k h => by cases h), kA, h2, comp, h3⟩, kA, comp, h2, h3, h0, h4⟩

theorem env_K {args : Array Value} {s : State} (hts : ∀ w ∈ lw_tbl, w.before args s = true) : ∃ (D : va_G) (dT : Nat → ClassId), va_K D dm_cl [(dT 0, .int), (dT 1, .short), (dT 2, .boolean), (dT 3, .object "DelayMachine$Line"), (dT 4, .object "DelayMachine$Source"), (dT 5, .object "DelayMachine$Destination"), (dT 6, .object "java/lang/Object")] s := by
  have hg : ∀ w ∈ dm_gt, w.before args s = true := fun w hw => hts w (List.mem_filter.mp hw).1
  have hn : ∀ w ∈ dm_nw, w.before args s = true := fun w hw => hts w (List.mem_append_right _ (List.mem_filter.mp hw).1)
  obtain ⟨c0, i0, e0⟩ := u_known (T := F_DM) (N := 2) hg in_DM (hg _ k_25)
  obtain ⟨c1, i1, e1⟩ := u_known (T := F_Ma) (N := 21) hg in_Ma (hg _ k_33)
  obtain ⟨c2, i2, e2⟩ := u_known (T := F_Mu) (N := 2) hg in_Mu (hg _ k_41)
  obtain ⟨c3, i3, e3⟩ := u_known (T := F_Re) (N := 7) hg in_Re (hg _ k_57)
  obtain ⟨c4, i4, e4⟩ := u_known (T := F_Wi) (N := 4) hg in_Wi (hg _ k_93)
  obtain ⟨c5, i5, e5⟩ := u_known (T := F_Li) (N := 1) hg in_Li (hg _ k_201)
  obtain ⟨c6, i6, e6⟩ := u_known (T := F_Pr) (N := 1) hg in_Pr (hg _ k_214)
  obtain ⟨c7, i7, e7⟩ := u_known (T := F_Rk) (N := 2) hg in_Rk (hg _ k_224)
  obtain ⟨c8, i8, e8⟩ := u_known (T := F_Do) (N := 2) hg in_Do (hg _ k_237)
  obtain ⟨c9, i9, e9⟩ := u_known (T := F_As) (N := 11) hg in_As (hg _ k_250)
  obtain ⟨c10, i10, e10⟩ := u_known (T := F_AL) (N := 3) hg in_AL (hg _ k_256)
  obtain ⟨c11, i11, e11⟩ := u_known (T := F_St) (N := 5) hg in_St (hg _ k_497)
  obtain ⟨c12, i12, e12⟩ := u_known (T := F_Pl) (N := 5) hg in_Pl (hg _ k_647)
  obtain ⟨c13, i13, e13⟩ := u_known (T := F_Mo) (N := 47) hg in_Mo (hg _ k_720)
  obtain ⟨a0, f0⟩ := env_pr (hg _ k_55) (fun _ h => h)
  obtain ⟨a1, f1⟩ := env_pr (hg _ k_87) (fun _ h => h)
  obtain ⟨a2, f2⟩ := env_pr (hg _ k_322) (fun _ h => h)
  obtain ⟨a3, f3⟩ := env_ob (hn _ k_39)
  obtain ⟨a4, f4⟩ := env_ob (hn _ k_89)
  obtain ⟨a5, f5⟩ := env_ob (hn _ k_91)
  obtain ⟨a6, f6⟩ := env_ob (hn _ k_572)
  refine ⟨(fun c => ([c0, c1, c2, c3, c4, c5, c6, c7, c8, c9, c10, c11, c12, c13] : List ClassId).getD c 0, fun c => ([i0, i1, i2, i3, i4, i5, i6, i7, i8, i9, i10, i11, i12, i13] : List (Nat → Nat)).getD c (fun _ => 0)), fun c => ([a0, a1, a2, a3, a4, a5, a6] : List ClassId).getD c 0, fun c q hq => ?_, fun k q hq => ?_⟩
  · have hc : c < 14 := (List.getElem?_eq_some_iff.mp hq).1
    have hc2 : c = 0 ∨ c = 1 ∨ c = 2 ∨ c = 3 ∨ c = 4 ∨ c = 5 ∨ c = 6 ∨ c = 7 ∨ c = 8 ∨ c = 9 ∨ c = 10 ∨ c = 11 ∨ c = 12 ∨ c = 13 := by omega
    rcases hc2 with rfl | rfl | rfl | rfl | rfl | rfl | rfl | rfl | rfl | rfl | rfl | rfl | rfl | rfl
    · cases hq; exact e0
    · cases hq; exact e1
    · cases hq; exact e2
    · cases hq; exact e3
    · cases hq; exact e4
    · cases hq; exact e5
    · cases hq; exact e6
    · cases hq; exact e7
    · cases hq; exact e8
    · cases hq; exact e9
    · cases hq; exact e10
    · cases hq; exact e11
    · cases hq; exact e12
    · cases hq; exact e13
  · have hk : k < 7 := (List.getElem?_eq_some_iff.mp hq).1
    have hk2 : k = 0 ∨ k = 1 ∨ k = 2 ∨ k = 3 ∨ k = 4 ∨ k = 5 ∨ k = 6 := by omega
    rcases hk2 with rfl | rfl | rfl | rfl | rfl | rfl | rfl
    · cases hq; exact f0
    · cases hq; exact f1
    · cases hq; exact f2
    · cases hq; exact f3
    · cases hq; exact f4
    · cases hq; exact f5
    · cases hq; exact f6
theorem env_fw {args : Array Value} {s : State} (hts : ∀ w ∈ lw_tbl, w.before args s = true) : ∀ q ∈ dm_fwl, va_Fw q.1 q.2.1 q.2.2 s := by
  have hn : ∀ w ∈ dm_nw, w.before args s = true := fun w hw => hts w (List.mem_append_right _ (List.mem_filter.mp hw).1)
  intro q hq
  simp only [List.mem_cons, List.not_mem_nil, or_false] at hq
  rcases hq with rfl | rfl | rfl | rfl
  · exact va_Fw.of (hn _ k_393) (hts ((Jvm.Cond.interfaceMethod "DelayMachine$Source" "DelayMachine$Source" "word" "(I)S")) (List.mem_append_right _ (List.mem_of_getElem? (i := 392) (by decide +kernel)))) (hts ((Jvm.Cond.publicMethod ({ cls := "DelayMachine$Presented", name := "word", desc := "(I)S" } : Jvm.MethodName))) (List.mem_append_right _ (List.mem_of_getElem? (i := 398) (by decide +kernel)))) (hts ((Jvm.Cond.unhidden "DelayMachine$Presented" "word" "(I)S")) (List.mem_append_right _ (List.mem_of_getElem? (i := 396) (by decide +kernel)))) (hn _ k_394)
  · exact va_Fw.of (hn _ k_393) (hts ((Jvm.Cond.interfaceMethod "DelayMachine$Source" "DelayMachine$Source" "word" "(I)S")) (List.mem_append_right _ (List.mem_of_getElem? (i := 392) (by decide +kernel)))) (hts ((Jvm.Cond.publicMethod ({ cls := "DelayMachine$Reckoned", name := "word", desc := "(I)S" } : Jvm.MethodName))) (List.mem_append_right _ (List.mem_of_getElem? (i := 408) (by decide +kernel)))) (hts ((Jvm.Cond.unhidden "DelayMachine$Reckoned" "word" "(I)S")) (List.mem_append_right _ (List.mem_of_getElem? (i := 406) (by decide +kernel)))) (hn _ k_404)
  · exact va_Fw.of (hn _ k_422) (hts ((Jvm.Cond.interfaceMethod "DelayMachine$Destination" "DelayMachine$Destination" "take" "(IS)V")) (List.mem_append_right _ (List.mem_of_getElem? (i := 421) (by decide +kernel)))) (hts ((Jvm.Cond.publicMethod ({ cls := "DelayMachine$Presented", name := "take", desc := "(IS)V" } : Jvm.MethodName))) (List.mem_append_right _ (List.mem_of_getElem? (i := 460) (by decide +kernel)))) (hts ((Jvm.Cond.unhidden "DelayMachine$Presented" "take" "(IS)V")) (List.mem_append_right _ (List.mem_of_getElem? (i := 458) (by decide +kernel)))) (hn _ k_456)
  · exact va_Fw.of (hn _ k_422) (hts ((Jvm.Cond.interfaceMethod "DelayMachine$Destination" "DelayMachine$Destination" "take" "(IS)V")) (List.mem_append_right _ (List.mem_of_getElem? (i := 421) (by decide +kernel)))) (hts ((Jvm.Cond.publicMethod ({ cls := "DelayMachine$Done", name := "take", desc := "(IS)V" } : Jvm.MethodName))) (List.mem_append_right _ (List.mem_of_getElem? (i := 427) (by decide +kernel)))) (hts ((Jvm.Cond.unhidden "DelayMachine$Done" "take" "(IS)V")) (List.mem_append_right _ (List.mem_of_getElem? (i := 425) (by decide +kernel)))) (hn _ k_423)
theorem dm_Nof {w : Cond} (h : dm_isN w = true) {A : Array Value} {U : State} (hb : w.before A U = true) : va_Nw w U := by
  cases w with
  | fieldLinkNest a i b n d h => exact va_Nw.of rfl hb
  | methodLinkNest a i x h => exact va_Nw.of rfl hb
  | castable a b => exact va_Nw.of rfl hb
  | declares x => exact va_Nw.of rfl hb
  | arrayOver t =>
    cases t with
    | object C => exact va_AO.of hb
    | _ => simp [dm_isN] at h
  | _ => simp [dm_isN] at h
/-- all at once -/
theorem env_all {b : Nat} {s : State} (hts : ∀ w ∈ lw_tbl, w.before #[Value.ref b] s = true) (hgv : (Jvm.Cond.and given_1 narrow_1).before #[Value.ref b] s = true) : ∃ G : dm_G, dm_K G (fun q => s.heap.size ≤ q) s := by
  obtain ⟨D, dT, hK⟩ := env_K hts
  have hg : ∀ w ∈ dm_gt, w.before #[Value.ref b] s = true := fun w hw => hts w (List.mem_filter.mp hw).1
  have hn : ∀ w ∈ dm_nw, w.before #[Value.ref b] s = true := fun w hw => hts w (List.mem_append_right _ (List.mem_filter.mp hw).1)
  have hs := flat_of_before _ hgv
  obtain ⟨mi, hmi⟩ := va_Mi.of (hs (.isRef (.mirror "[Ljava/lang/Object;")) (by decide +kernel))
  have hA : ∀ a : Nat, a < s.heap.size → ¬ (fun q => s.heap.size ≤ q) a := fun a h h2 => absurd h (Nat.not_lt.mpr h2)
  obtain ⟨d0, hd0, hT⟩ := va_Tof (f := fun _ => .null) (N := 0) (A := fun q => s.heap.size ≤ q) (by decide) (hs (.arrayOf (.static "java/util/ArrayList" "DEFAULTCAPACITY_EMPTY_ELEMENTDATA" "[Ljava/lang/Object;") (.object "java/lang/Object")) (by decide +kernel)) (va_eqt (hs (.eq (.length (.static "java/util/ArrayList" "DEFAULTCAPACITY_EMPTY_ELEMENTDATA" "[Ljava/lang/Object;")) (.int 0)) (by decide +kernel))) (fun j hj => absurd hj (Nat.not_lt_zero _)) hA
  have hZ := va_Zref (hts ((Jvm.Cond.laysStatic "java/util/ArrayList" "DEFAULTCAPACITY_EMPTY_ELEMENTDATA" "[Ljava/lang/Object;")) (List.mem_append_right _ (List.mem_of_getElem? (i := 268) (by decide +kernel)))) (hg _ k_13) hd0 hA
  exact ⟨(D, dT, d0, mi), hK, fun w hw => dm_Nof (List.mem_filter.mp hw).2 (hn w hw), env_fw hts, hmi, hZ, hT⟩

