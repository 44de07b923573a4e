theorem dm_chk {c : Prop} [Decidable c] {α : Type} {x : Option α} {r : α} (h : (if c then none else x) = some r) : ¬ c ∧ x = some r := by
  by_cases hc : c
  · rw [if_pos hc] at h; cases h
  · rw [if_neg hc] at h; exact ⟨hc, h⟩
theorem dm_ck1 {c : Prop} [Decidable c] {α : Type} {x : Option α} {r : α} (h : (if c then x else none) = some r) : c ∧ x = some r := by
  by_cases hc : c
  · rw [if_pos hc] at h; exact ⟨hc, h⟩
  · rw [if_neg hc] at h; cases h
theorem dm_bind {α β : Type} {x : Option α} {k : α → Option β} {r : β} (h : x.bind k = some r) : ∃ z, x = some z ∧ k z = some r := by
  cases x with
  | none => cases h
  | some z => exact ⟨z, rfl, h⟩
theorem dm_b01 {x : Int32} (h : x = 0 ∨ x = 1) : narrow .boolean (.int x) = .int x ∧ fits .boolean (.int x) = true := by
  rcases h with rfl | rfl <;> exact ⟨by decide, by decide⟩
theorem dm_nsh {x : Int32} (h : x.toInt16.toInt32 = x) : narrow .short (.int x) = .int x := congrArg Value.int h
theorem dm_ra {U : State} {c1 c2 : ClassId} {ty : FieldType} (h1 : va_RA U c1 ty) (h2 : va_RA U c2 ty) : c1 = c2 := by
  cases ty with
  | object C =>
    obtain ⟨_, _, _, _, _, h1⟩ := h1
    obtain ⟨_, _, _, _, _, h2⟩ := h2
    exact Option.some.inj (h1.symm.trans h2)
  | _ => exact Option.some.inj (h1.symm.trans h2)
section dm_steps
variable {p : Program} {l : Launch} {e : Env} {R : Room} {s : State} {m : MethodId} {args : Array Value} {below : List Frame} {meth : Method} {c : Code} {H : Heap} {locs : List Loc} {cells slots : Nat} {Q : State → Prop}
variable {cc : ByteArray} {nL : Nat} {ret0 : Option FieldType} {own nm : String} {G : dm_G} {A : Nat → Prop} {w0 : va_W} {a : Nat} {pc : Nat} {ls : Array Slot} {rest : List Value} {index : Nat} {C : String} {T : u_T} {N ci : Nat} {fs : List Value} {v : Value}
theorem dm_get (B : dm_B p s m args meth c cc nL ret0 own nm G A) (hP : va_P G.1 dm_cl w0 H) (q0 : Nat) (he : w0[q0]? = some (a, .inr (ci, fs))) (hc : dm_cl[ci]? = some (C, T, N)) (hin : ∀ w ∈ u_ws C T N, w ∈ dm_gt) (k : Nat) (hk : k < N) (hl : Cond.fieldLink own index (T k).1 (T k).2.1 (T k).2.2.1 ∈ dm_gt) (hv : fs[k]? = some v) (hdg : decode cc pc = .ok (.getfield index, 3))
    (kk : W p l e R s m args below meth c H locs cells slots Q (F0 m (pc + 3) ls (v :: rest))) : W p l e R s m args below meth c H locs cells slots Q (F0 m pc ls (.ref a :: rest)) := by
  obtain ⟨hx, hb, hml, hown, hts, hr, hlk, hnm, hK, hA⟩ := B
  exact va_get hx hb hts hin hown hK.1 hP q0 he hc k hk (hts _ hl) (fun _ h => h) hv hdg kk
theorem dm_getN {host : String} (B : dm_B p s m args meth c cc nL ret0 own nm G A) (hP : va_P G.1 dm_cl w0 H) (q0 : Nat) (he : w0[q0]? = some (a, .inr (ci, fs))) (hc : dm_cl[ci]? = some (C, T, N)) (hin : ∀ w ∈ u_ws C T N, w ∈ dm_gt) (k : Nat) (hk : k < N) (hl : Cond.fieldLinkNest own index (T k).1 (T k).2.1 (T k).2.2.1 host ∈ dm_nw) (hv : fs[k]? = some v) (hdg : decode cc pc = .ok (.getfield index, 3))
    (kk : W p l e R s m args below meth c H locs cells slots Q (F0 m (pc + 3) ls (v :: rest))) : W p l e R s m args below meth c H locs cells slots Q (F0 m pc ls (.ref a :: rest)) := by
  obtain ⟨hx, hb, hml, hown, hts, hr, hlk, hnm, hK, hA⟩ := B
  exact va_getN hx hb hts hin hown hK.1 hP q0 he hc k hk ((hK.2.1 _ hl).use rfl) (fun _ h => h) hv hdg kk
theorem dm_put (B : dm_B p s m args meth c cc nL ret0 own nm G A) (hP : va_P G.1 dm_cl w0 H) (hD : va_D A w0) (hS : va_S A s.heap H locs) (q0 : Nat) (he : w0[q0]? = some (a, .inr (ci, fs))) (hc : dm_cl[ci]? = some (C, T, N)) (hin : ∀ w ∈ u_ws C T N, w ∈ dm_gt) (ty0 : Nat → FieldType) (hty : ∀ k, k < N → parseFieldDescriptor (T k).2.2.1 = some (ty0 k)) (hnm : ∀ a, a < N → ∀ b, b < N → a ≠ b → (T a).2.1 ≠ (T b).2.1) (k : Nat) (hk : k < N) (hl : Cond.fieldLink own index (T k).1 (T k).2.1 (T k).2.2.1 ∈ dm_gt) (hfin : (T k).2.2.2 = false) (hn : narrow (ty0 k) v = v) (hfit : fits (ty0 k) v = true) (hlen : k < fs.length) (hdg : decode cc pc = .ok (.putfield index, 3))
    (kk : ∀ (H1 : Heap) (locs1 : List Loc), va_P G.1 dm_cl (w0.set q0 (a, .inr (ci, fs.set k v))) H1 → va_D A (w0.set q0 (a, .inr (ci, fs.set k v))) → va_S A s.heap H1 locs1 → W p l e R s m args below meth c H1 locs1 cells slots Q (F0 m (pc + 3) ls rest)) : W p l e R s m args below meth c H locs cells slots Q (F0 m pc ls (v :: .ref a :: rest)) := by
  obtain ⟨hx, hb, hml, hown, hts, hr, hlk, hnm', hK, hA⟩ := B
  exact va_put hx hb hts hin ty0 hty hnm hown hK.1 hP hD hS q0 he hc k hk (hts _ hl) (fun _ h => h) hfin (hty k hk) hn hfit hlen hdg kk
theorem dm_putN {host : String} (B : dm_B p s m args meth c cc nL ret0 own nm G A) (hP : va_P G.1 dm_cl w0 H) (hD : va_D A w0) (hS : va_S A s.heap H locs) (q0 : Nat) (he : w0[q0]? = some (a, .inr (ci, fs))) (hc : dm_cl[ci]? = some (C, T, N)) (hin : ∀ w ∈ u_ws C T N, w ∈ dm_gt) (ty0 : Nat → FieldType) (hty : ∀ k, k < N → parseFieldDescriptor (T k).2.2.1 = some (ty0 k)) (hnm : ∀ a, a < N → ∀ b, b < N → a ≠ b → (T a).2.1 ≠ (T b).2.1) (k : Nat) (hk : k < N) (hl : Cond.fieldLinkNest own index (T k).1 (T k).2.1 (T k).2.2.1 host ∈ dm_nw) (hfin : (T k).2.2.2 = false) (hn : narrow (ty0 k) v = v) (hfit : fits (ty0 k) v = true) (hlen : k < fs.length) (hdg : decode cc pc = .ok (.putfield index, 3))
    (kk : ∀ (H1 : Heap) (locs1 : List Loc), va_P G.1 dm_cl (w0.set q0 (a, .inr (ci, fs.set k v))) H1 → va_D A (w0.set q0 (a, .inr (ci, fs.set k v))) → va_S A s.heap H1 locs1 → W p l e R s m args below meth c H1 locs1 cells slots Q (F0 m (pc + 3) ls rest)) : W p l e R s m args below meth c H locs cells slots Q (F0 m pc ls (v :: .ref a :: rest)) := by
  obtain ⟨hx, hb, hml, hown, hts, hr, hlk, hnm', hK, hA⟩ := B
  exact va_putN hx hb hts hin ty0 hty hnm hown hK.1 hP hD hS q0 he hc k hk ((hK.2.1 _ hl).use rfl) (fun _ h => h) hfin (hty k hk) hn hfit hlen hdg kk
theorem dm_putF (B : dm_B p s m args meth c cc nL ret0 own "<init>" G A) (hP : va_P G.1 dm_cl w0 H) (hD : va_D A w0) (hS : va_S A s.heap H locs) (q0 : Nat) (he : w0[q0]? = some (a, .inr (ci, fs))) (hc : dm_cl[ci]? = some (C, T, N)) (hin : ∀ w ∈ u_ws C T N, w ∈ dm_gt) (ty0 : Nat → FieldType) (hty : ∀ k, k < N → parseFieldDescriptor (T k).2.2.1 = some (ty0 k)) (hnm : ∀ a, a < N → ∀ b, b < N → a ≠ b → (T a).2.1 ≠ (T b).2.1) (k : Nat) (hk : k < N) (hl : Cond.fieldLink own index (T k).1 (T k).2.1 (T k).2.2.1 ∈ dm_gt) (hfin : (T k).2.2.2 = true) (hdecl : (T k).1 = own) (hn : narrow (ty0 k) v = v) (hfit : fits (ty0 k) v = true) (hlen : k < fs.length) (hdg : decode cc pc = .ok (.putfield index, 3))
    (kk : ∀ (H1 : Heap) (locs1 : List Loc), va_P G.1 dm_cl (w0.set q0 (a, .inr (ci, fs.set k v))) H1 → va_D A (w0.set q0 (a, .inr (ci, fs.set k v))) → va_S A s.heap H1 locs1 → W p l e R s m args below meth c H1 locs1 cells slots Q (F0 m (pc + 3) ls rest)) : W p l e R s m args below meth c H locs cells slots Q (F0 m pc ls (v :: .ref a :: rest)) := by
  obtain ⟨hx, hb, hml, hown, hts, hr, hlk, hnm', hK, hA⟩ := B
  exact va_putF hx hb hts hin ty0 hty hnm hown hK.1 hP hD hS q0 he hc k hk (hts _ hl) (fun _ h => h) hfin hnm' hdecl (hty k hk) hn hfit hlen hdg kk
theorem dm_iald (B : dm_B p s m args meth c cc nL ret0 own nm G A) (hP : va_P G.1 dm_cl w0 H) (q0 : Nat) {n : Nat} {f : Nat → Int32} (ha : w0[q0]? = some (a, .inl (G.2.1 0, n, .inl f))) {i : Int32} (hin : vp_in i n) (hdg : decode cc pc = .ok (.iaload, 1))
    (kk : W p l e R s m args below meth c H locs cells slots Q (F0 m (pc + 1) ls (.int (f i.toNatClampNeg) :: rest))) : W p l e R s m args below meth c H locs cells slots Q (F0 m pc ls (.int i :: .ref a :: rest)) := va_iald B.1 B.2.1 B.2.2.2.2.2.2.2.2.1.1 hP q0 0 ha rfl hin hdg kk
theorem dm_sald (B : dm_B p s m args meth c cc nL ret0 own nm G A) (hP : va_P G.1 dm_cl w0 H) (q0 : Nat) {n : Nat} {f : Nat → Int32} (ha : w0[q0]? = some (a, .inl (G.2.1 1, n, .inl f))) {i : Int32} (hin : vp_in i n) (hdg : decode cc pc = .ok (.saload, 1))
    (kk : W p l e R s m args below meth c H locs cells slots Q (F0 m (pc + 1) ls (.int (f i.toNatClampNeg) :: rest))) : W p l e R s m args below meth c H locs cells slots Q (F0 m pc ls (.int i :: .ref a :: rest)) := va_sald B.1 B.2.1 B.2.2.2.2.2.2.2.2.1.1 hP q0 1 ha rfl hin hdg kk
theorem dm_zald (B : dm_B p s m args meth c cc nL ret0 own nm G A) (hP : va_P G.1 dm_cl w0 H) (q0 : Nat) {n : Nat} {f : Nat → Int32} (ha : w0[q0]? = some (a, .inl (G.2.1 2, n, .inl f))) {i : Int32} (hin : vp_in i n) (hdg : decode cc pc = .ok (.baload, 1))
    (kk : W p l e R s m args below meth c H locs cells slots Q (F0 m (pc + 1) ls (.int (f i.toNatClampNeg) :: rest))) : W p l e R s m args below meth c H locs cells slots Q (F0 m pc ls (.int i :: .ref a :: rest)) := va_zald B.1 B.2.1 B.2.2.2.2.2.2.2.2.1.1 hP q0 2 ha rfl hin hdg kk
theorem dm_iast (B : dm_B p s m args meth c cc nL ret0 own nm G A) (hP : va_P G.1 dm_cl w0 H) (hD : va_D A w0) (hS : va_S A s.heap H locs) (q0 : Nat) {n : Nat} {f : Nat → Int32} (ha : w0[q0]? = some (a, .inl (G.2.1 0, n, .inl f))) {i x : Int32} (hin : vp_in i n) (hdg : decode cc pc = .ok (.iastore, 1))
    (kk : ∀ (H1 : Heap) (locs1 : List Loc), va_P G.1 dm_cl (w0.set q0 (a, .inl (G.2.1 0, n, .inl (upd f i.toNatClampNeg x)))) H1 → va_D A (w0.set q0 (a, .inl (G.2.1 0, n, .inl (upd f i.toNatClampNeg x)))) → va_S A s.heap H1 locs1 → W p l e R s m args below meth c H1 locs1 cells slots Q (F0 m (pc + 1) ls rest)) : W p l e R s m args below meth c H locs cells slots Q (F0 m pc ls (.int x :: .int i :: .ref a :: rest)) := va_iast B.1 B.2.1 B.2.2.2.2.2.2.2.2.1.1 hP hD hS q0 0 ha rfl hin hdg kk
theorem dm_sast (B : dm_B p s m args meth c cc nL ret0 own nm G A) (hP : va_P G.1 dm_cl w0 H) (hD : va_D A w0) (hS : va_S A s.heap H locs) (q0 : Nat) {n : Nat} {f : Nat → Int32} (ha : w0[q0]? = some (a, .inl (G.2.1 1, n, .inl f))) {i x : Int32} (hin : vp_in i n) (hdg : decode cc pc = .ok (.sastore, 1))
    (kk : ∀ (H1 : Heap) (locs1 : List Loc), va_P G.1 dm_cl (w0.set q0 (a, .inl (G.2.1 1, n, .inl (upd f i.toNatClampNeg x.toInt16.toInt32)))) H1 → va_D A (w0.set q0 (a, .inl (G.2.1 1, n, .inl (upd f i.toNatClampNeg x.toInt16.toInt32)))) → va_S A s.heap H1 locs1 → W p l e R s m args below meth c H1 locs1 cells slots Q (F0 m (pc + 1) ls rest)) : W p l e R s m args below meth c H locs cells slots Q (F0 m pc ls (.int x :: .int i :: .ref a :: rest)) := va_sast B.1 B.2.1 B.2.2.2.2.2.2.2.2.1.1 hP hD hS q0 1 ha rfl hin hdg kk
theorem dm_zast (B : dm_B p s m args meth c cc nL ret0 own nm G A) (hP : va_P G.1 dm_cl w0 H) (hD : va_D A w0) (hS : va_S A s.heap H locs) (q0 : Nat) {n : Nat} {f : Nat → Int32} (ha : w0[q0]? = some (a, .inl (G.2.1 2, n, .inl f))) {i x : Int32} (hin : vp_in i n) (hdg : decode cc pc = .ok (.bastore, 1))
    (kk : ∀ (H1 : Heap) (locs1 : List Loc), va_P G.1 dm_cl (w0.set q0 (a, .inl (G.2.1 2, n, .inl (upd f i.toNatClampNeg (x &&& 1))))) H1 → va_D A (w0.set q0 (a, .inl (G.2.1 2, n, .inl (upd f i.toNatClampNeg (x &&& 1))))) → va_S A s.heap H1 locs1 → W p l e R s m args below meth c H1 locs1 cells slots Q (F0 m (pc + 1) ls rest)) : W p l e R s m args below meth c H locs cells slots Q (F0 m pc ls (.int x :: .int i :: .ref a :: rest)) := va_zast B.1 B.2.1 B.2.2.2.2.2.2.2.2.1.1 hP hD hS q0 2 ha rfl hin hdg kk
theorem dm_alen (B : dm_B p s m args meth c cc nL ret0 own nm G A) (hP : va_P G.1 dm_cl w0 H) (q0 t0 : Nat) {cA : ClassId} {x : vp_A} (ha : w0[q0]? = some (a, .inl (cA, x))) {ty : FieldType} (ht : (dm_ty G)[t0]? = some (cA, ty)) {v : Int32} (hv : Int32.ofNat x.1 = v) (hdg : decode cc pc = .ok (.arraylength, 1))
    (kk : W p l e R s m args below meth c H locs cells slots Q (F0 m (pc + 1) ls (.int v :: rest))) : W p l e R s m args below meth c H locs cells slots Q (F0 m pc ls (.ref a :: rest)) := va_alen B.1 B.2.1 B.2.2.2.2.2.2.2.2.1.1 hP q0 t0 ha ht hv hdg kk
theorem dm_aald (B : dm_B p s m args meth c cc nL ret0 own nm G A) (hP : va_P G.1 dm_cl w0 H) (q0 t0 : Nat) {cA : ClassId} {E : String} {n : Nat} {f : Nat → Option Nat} (ha : w0[q0]? = some (a, .inl (cA, n, .inr (.inr (.inr (.inr f)))))) (ht : (dm_ty G)[t0]? = some (cA, .object E)) {i : Int32} (hin : vp_in i n) {v : Value} (hv : va_rf (f i.toNatClampNeg) = v) (hdg : decode cc pc = .ok (.aaload, 1))
    (kk : W p l e R s m args below meth c H locs cells slots Q (F0 m (pc + 1) ls (v :: rest))) : W p l e R s m args below meth c H locs cells slots Q (F0 m pc ls (.int i :: .ref a :: rest)) := va_aldq B.1 B.2.1 B.2.2.2.2.2.2.2.2.1.1 hP q0 t0 ha ht hin hdg (by rw [hv]; exact kk)
theorem dm_newa (B : dm_B p s m args meth c cc nL ret0 own nm G A) {atype : ArrayType} (harr : Cond.arrayClass (newarray.typeOf atype) ∈ dm_gt) {ty : FieldType} (hty : newarray.typeOf atype = ty) (t0 : Nat) {cA : ClassId} (ht : (dm_ty G)[t0]? = some (cA, ty)) (hP : va_P G.1 dm_cl w0 H) (hD : va_D A w0) (hS : va_S A s.heap H locs)
    {n : Int32} {N' : Nat} {a0 : vp_A} (ha : ∀ cA : ClassId, vp_cell cA a0 = arrV cA N' (fun _ => defaultValue ty)) (hn : ¬ n < 0) (hN : n.toNatClampNeg = N') (hbytes : N' * componentBytes ty ≤ 536870912) (hcells : cells + 1 ≤ R.cells) (hslots : slots + N' ≤ R.slots) (hdg : decode cc pc = .ok (.newarray atype, 2))
    (kk : ∀ (q : Nat) (H1 : Heap), va_P G.1 dm_cl (w0 ++ [(q, .inl (cA, a0))]) H1 → va_D A (w0 ++ [(q, .inl (cA, a0))]) → va_S A s.heap H1 locs → W p l e R s m args below meth c H1 locs (cells + 1) (slots + N') Q (F0 m (pc + 2) ls (.ref q :: rest))) : W p l e R s m args below meth c H locs cells slots Q (F0 m pc ls (.int n :: rest)) := by
  obtain ⟨hx, hb, hml, hown, hts, hr, hlk, hnm', hK, hA⟩ := B
  refine va_newa hx hb (hts _ harr) hty hK.1 hP hD hS hA ha hn hN hbytes hcells hslots hdg (fun q cB H1 hK1 hP1 hD1 hS1 => ?_)
  have e : cB = cA := dm_ra (hK1.2 (dm_ty G).length (cB, ty) (by simp)).2 (hK.1.2 t0 (cA, ty) ht).2
  subst e
  exact kk q H1 hP1 hD1 hS1
theorem dm_newq (B : dm_B p s m args meth c cc nL ret0 own nm G A) {E : String} (hcl : Cond.classLink own index E ∈ dm_gt) (hov : Cond.arrayOver (.object E) ∈ dm_nw) (t0 : Nat) {cA : ClassId} (ht : (dm_ty G)[t0]? = some (cA, .object E)) (hP : va_P G.1 dm_cl w0 H) (hD : va_D A w0) (hS : va_S A s.heap H locs)
    {n : Int32} {N' : Nat} (hn : ¬ n < 0) (hN : n.toNatClampNeg = N') (hbytes : N' * 4 ≤ 536870912) (hcells : cells + 1 ≤ R.cells) (hslots : slots + N' ≤ R.slots) (hdg : decode cc pc = .ok (.anewarray index, 3))
    (kk : ∀ (q : Nat) (H1 : Heap), va_P G.1 dm_cl (w0 ++ [(q, .inl (cA, N', .inr (.inr (.inr (.inr (fun _ => none))))))]) H1 → va_D A (w0 ++ [(q, .inl (cA, N', .inr (.inr (.inr (.inr (fun _ => none))))))]) → va_S A s.heap H1 locs → W p l e R s m args below meth c H1 locs (cells + 1) (slots + N') Q (F0 m (pc + 3) ls (.ref q :: rest))) : W p l e R s m args below meth c H locs cells slots Q (F0 m pc ls (.int n :: rest)) := by
  obtain ⟨hx, hb, hml, hown, hts, hr, hlk, hnm', hK, hA⟩ := B
  refine va_newq hx hb hown (hts _ hcl) (hK.2.1 _ hov) hK.1 hP hD hS hA hn hN hbytes hcells hslots hdg (fun q cB H1 hK1 hP1 hD1 hS1 => ?_)
  have e : cB = cA := dm_ra (hK1.2 (dm_ty G).length (cB, .object E) (by simp)).2 (hK.1.2 t0 (cA, .object E) ht).2
  subst e
  exact kk q H1 hP1 hD1 hS1
theorem dm_new (B : dm_B p s m args meth c cc nL ret0 own nm G A) (hc : dm_cl[ci]? = some (C, T, N)) (hin : ∀ w ∈ u_ws C T N, w ∈ dm_gt) (ty0 : Nat → FieldType) (hty : ∀ k, k < N → parseFieldDescriptor (T k).2.2.1 = some (ty0 k)) (hcl : Cond.classLink own index C ∈ dm_gt) (hinst : Cond.instantiable C N ∈ dm_gt) (hini : Cond.initialized C ∈ dm_gt) (hP : va_P G.1 dm_cl w0 H) (hD : va_D A w0) (hS : va_S A s.heap H locs)
    (hfs : ∀ j, j < N → defaultValue (ty0 j) = vp_V fs j) (hcells : cells + 1 ≤ R.cells) (hslots : slots + N ≤ R.slots) (hdg : decode cc pc = .ok (.new index, 3))
    (kk : ∀ (q : Nat) (H1 : Heap), va_P G.1 dm_cl (w0 ++ [(q, .inr (ci, fs))]) H1 → va_D A (w0 ++ [(q, .inr (ci, fs))]) → va_S A s.heap H1 locs → W p l e R s m args below meth c H1 locs (cells + 1) (slots + N) Q (F0 m (pc + 3) ls (.ref q :: rest))) : W p l e R s m args below meth c H locs cells slots Q (F0 m pc ls rest) := by
  obtain ⟨hx, hb, hml, hown, hts, hr, hlk, hnm', hK, hA⟩ := B
  exact va_new hx hb hts hin ty0 hty hown (hts _ hcl) (hts _ hinst) (hts _ hini) hK.1 hP hD hS hA hc hfs hcells hslots hdg kk
theorem dm_oi (B : dm_B p s m args meth c cc nL ret0 own nm G A) (hl : Cond.methodLink own index objectInit ∈ dm_gt) (hi : Cond.instanceMethod objectInit ∈ dm_gt) (hco : Cond.code objectInit ⟨#[0xb1]⟩ 1 none ∈ dm_gt) (hsz : ls.size = nL) (hdg : decode cc pc = .ok (.invokespecial index, 3)) (hframes : 1 ≤ R.frames) (hrest : (rest.map fun v => v.category).sum + 12 ≤ R.locals)
    (kk : W p l e R s m args below meth c H locs cells slots Q (F0 m (pc + 3) ls rest)) : W p l e R s m args below meth c H locs cells slots Q (F0 m pc ls (.ref a :: rest)) := by
  obtain ⟨hx, hb, hml, hown, hts, hr, hlk, hnm', hK, hA⟩ := B
  exact W.objInit hx hb hown (hts _ hl) (hts _ hi) (hts _ hco) rfl (by rw [hml]; exact hsz) rfl hdg hframes (by simpa [JFrame.monitorRoom] using hrest) kk
theorem dm_ldc {x : Int32} (B : dm_B p s m args meth c cc nL ret0 own nm G A) (hl : Cond.constant own index x ∈ dm_gt) (hdg : decode cc pc = .ok (.ldc index, 2)) (kk : W p l e R s m args below meth c H locs cells slots Q (F0 m (pc + 2) ls (.int x :: rest))) : W p l e R s m args below meth c H locs cells slots Q (F0 m pc ls rest) := lv_ldc B.1 B.2.1 B.2.2.2.1 (B.2.2.2.2.1 _ hl) hdg kk
end dm_steps
