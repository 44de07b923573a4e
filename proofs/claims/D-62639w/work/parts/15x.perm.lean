/-! calls where the callee's world is a part of the caller's, up to order -/
theorem dm_nd {ws : va_W} : (∀ (i j : Nat) (p q : Nat × va_E), ws[i]? = some p → ws[j]? = some q → p.1 = q.1 → i = j) ↔ (ws.map (fun q => q.1)).Nodup := by
  constructor
  · intro h
    rw [List.Nodup, List.pairwise_iff_getElem]
    intro i j hi hj hij e
    simp only [List.length_map] at hi hj
    simp only [List.getElem_map] at e
    have := h i j ws[i] ws[j] (List.getElem?_eq_getElem hi) (List.getElem?_eq_getElem hj) e
    omega
  · intro h i j p q hi hj e
    rw [List.Nodup, List.pairwise_iff_getElem] at h
    obtain ⟨hi', ei⟩ := List.getElem?_eq_some_iff.mp hi
    obtain ⟨hj', ej⟩ := List.getElem?_eq_some_iff.mp hj
    rcases Nat.lt_trichotomy i j with hij | hij | hij
    · have h1 := h i j (by simpa using hi') (by simpa using hj') hij
      simp only [List.getElem_map, ei, ej] at h1
      exact absurd e h1
    · exact hij
    · have h1 := h j i (by simpa using hj') (by simpa using hi') hij
      simp only [List.getElem_map, ei, ej] at h1
      exact absurd e.symm h1
theorem dm_Dn {A : Nat → Prop} {ws : va_W} : va_D A ws ↔ (ws.map (fun q => q.1)).Nodup ∧ ∀ q ∈ ws, A q.1 := by
  constructor
  · intro h
    exact ⟨dm_nd.mp h.1, fun q hq => by obtain ⟨k, hk⟩ := List.getElem?_of_mem hq; exact h.2 k q hk⟩
  · intro h
    exact ⟨dm_nd.mpr h.1, fun k q hk => h.2 q (List.mem_of_getElem? hk)⟩
theorem dm_Pm {D : va_G} {cl : List vw_C} {ws : va_W} {H : Heap} : va_P D cl ws H ↔ ∀ q ∈ ws, va_at D cl q H := by
  constructor
  · intro h q hq
    obtain ⟨k, hk⟩ := List.getElem?_of_mem hq
    exact h k q hk
  · intro h k q hk
    exact h q (List.mem_of_getElem? hk)
theorem dm_pP {D : va_G} {cl : List vw_C} {w w' : va_W} {H : Heap} (hp : w.Perm w') (h : va_P D cl w H) : va_P D cl w' H := dm_Pm.mpr fun q hq => dm_Pm.mp h q (hp.mem_iff.mpr hq)
theorem dm_pD {A : Nat → Prop} {w w' : va_W} (hp : w.Perm w') (h : va_D A w) : va_D A w' := by
  have h := dm_Dn.mp h
  exact dm_Dn.mpr ⟨(hp.map _).nodup_iff.mp h.1, fun q hq => h.2 q (hp.mem_iff.mpr hq)⟩
/-- a part is dropped -/
theorem dm_dP {D : va_G} {cl : List vw_C} {w w' x : va_W} {H : Heap} (hp : w.Perm (w' ++ x)) (h : va_P D cl w H) : va_P D cl w' H := dm_Pm.mpr fun q hq => dm_Pm.mp h q (hp.mem_iff.mpr (List.mem_append_left _ hq))
theorem dm_dD {A : Nat → Prop} {w w' x : va_W} (hp : w.Perm (w' ++ x)) (h : va_D A w) : va_D A w' := by
  have h := dm_Dn.mp (dm_pD hp h)
  refine dm_Dn.mpr ⟨?_, fun q hq => h.2 q (List.mem_append_left _ hq)⟩
  have h1 := h.1
  rw [List.map_append] at h1
  exact (List.nodup_append.mp h1).1
theorem dm_joinA {A : Nat → Prop} {D : va_G} {cl : List vw_C} {wr wc w1 : va_W} {H H1 : Heap} (hP : va_P D cl (wr ++ wc) H) (hD : va_D A (wr ++ wc)) (hk : ∀ q : Nat, q < H.size → ¬ va_A wc H.size q → H1[q]? = H[q]?) (hF : ∀ q, va_A wc H.size q → A q) (hP1 : va_P D cl w1 H1) (hD1 : va_D (va_A wc H.size) w1) : va_P D cl (wr ++ w1) H1 ∧ va_D A (wr ++ w1) := by
  have hPm := dm_Pm.mp hP
  have hDn := dm_Dn.mp hD
  have hD1n := dm_Dn.mp hD1
  have hnd := hDn.1
  rw [List.map_append] at hnd
  have hap := List.nodup_append.mp hnd
  have hno : ∀ q ∈ wr, ¬ va_A wc H.size q.1 := by
    intro q hq hA
    rcases hA with ⟨k, e, hk'⟩ | hA
    · exact hap.2.2 q.1 (List.mem_map.mpr ⟨q, hq, rfl⟩) q.1 (List.mem_map.mpr ⟨_, List.mem_of_getElem? hk', rfl⟩) rfl
    · exact absurd (va_at.lt (hPm q (List.mem_append_left _ hq))) (Nat.not_lt.mpr hA)
  refine ⟨dm_Pm.mpr fun q hq => ?_, dm_Dn.mpr ⟨?_, fun q hq => ?_⟩⟩
  · rcases List.mem_append.mp hq with h | h
    · exact va_at.kept (hPm q (List.mem_append_left _ h)) (hk q.1 (va_at.lt (hPm q (List.mem_append_left _ h))) (hno q h))
    · exact dm_Pm.mp hP1 q h
  · rw [List.map_append]
    refine List.nodup_append.mpr ⟨hap.1, hD1n.1, ?_⟩
    intro a ha b hb e
    obtain ⟨q, hq, rfl⟩ := List.mem_map.mp ha
    obtain ⟨r, hr, rfl⟩ := List.mem_map.mp hb
    exact hno q hq (e ▸ hD1n.2 r hr)
  · rcases List.mem_append.mp hq with h | h
    · exact hDn.2 q (List.mem_append_left _ h)
    · exact hF _ (hD1n.2 q h)
section dm_callsp
variable {p : Program} {l : Launch} {e : Env} {R : Room} {s : State} {m : MethodId} {args : Array Value} {below : List Frame} {meth : Method} {c : Code} {H : Heap} {locs : List Loc} {cells slots : Nat} {Q : State → Prop}
variable {cc : ByteArray} {nL : Nat} {ret0 : Option FieldType} {own nm : String} {G : dm_G} {A : Nat → Prop} {y : MethodName} {bytes : ByteArray} {maxL : Nat} {ret : Option FieldType} {rm : Room} {w0 wc wr : va_W} {b : Nat} {Post : Option Value → va_W → Prop} {pc : Nat} {ls : Array Slot} {st rest : List Value} {index n : Nat}
theorem dm_Frp (hp : w0.Perm (wr ++ wc)) (hD : va_D A w0) (hS : va_S A s.heap H locs) (hA : ∀ q, s.heap.size ≤ q → A q) : ∀ q, va_A wc H.size q → A q := by
  intro q hq
  rcases hq with ⟨k, e, hk⟩ | hq
  · exact (dm_Dn.mp hD).2 _ (hp.mem_iff.mpr (List.mem_append_right _ (List.mem_of_getElem? hk)))
  · exact hA q (Nat.le_trans hS.1 hq)
theorem dm_prep {av : List Value} {U : State} (hp : w0.Perm (wr ++ wc)) (hK : dm_K G A s) (hP : va_P G.1 dm_cl w0 H) (hD : va_D A w0) (hS : va_S A s.heap H locs) (hF : ∀ q, va_A wc H.size q → A q) (hU : U.heap = H) (hW : s.WarmedH U.vm) : dm_Pc G H.size wc av av.toArray U := by
  have hpc : w0.Perm (wc ++ wr) := hp.trans List.perm_append_comm
  exact ⟨rfl, by rw [hU], by rw [hU]; exact dm_dP hpc hP, (dm_dD hpc hD).self, hK.call hW hU hS hF⟩
theorem dm_back3p {st0 : List Value} {a : Array Value} (hr : va_Run p l e R s m args below meth c H locs cells slots rm.cells rm.slots (F0 m pc ls st0) rest (dm_Qc G (va_A wc H.size) Post a) (va_A wc H.size)) (hP : va_P G.1 dm_cl w0 H) (hD : va_D A w0) (hS : va_S A s.heap H locs) (hF : ∀ q, va_A wc H.size q → A q)
    (hp : w0.Perm (wr ++ wc))
    (kk : ∀ (ov : Option Value) (w' : va_W) (H1 : Heap) (locs1 : List Loc), Post ov w' → va_P G.1 dm_cl (wr ++ w') H1 → va_D A (wr ++ w') → va_S A s.heap H1 locs1 → W p l e R s m args below meth c H1 locs1 (cells + rm.cells) (slots + rm.slots) Q (F0 m (pc + 3) ls (ov.toList ++ rest))) : W p l e R s m args below meth c H locs cells slots Q (F0 m pc ls st0) := by
  intro T hT X
  obtain ⟨v, st₀, t, T', L, h0, X', hL, e1, e2, hq, go⟩ := hr T hT X
  obtain ⟨⟨ov, w', hv, hPost, hP1, hD1⟩, hFr⟩ := hq
  cases hv
  subst h0
  obtain ⟨hPj, hDj⟩ := dm_joinA (dm_pP hp hP) (dm_pD hp hD) hFr.2 hF hP1 hD1
  have hS1 : va_S A s.heap t.heap (locs ++ L) := by
    refine ⟨Nat.le_trans hS.1 hFr.1, fun q hq hA => ?_, fun x hx => ?_⟩
    · rw [hFr.2 q (Nat.lt_of_lt_of_le hq hS.1) (fun h => hA (hF q h))]; exact hS.2.1 q hq hA
    · rcases List.mem_append.mp hx with h | h
      · exact hS.2.2 x h
      · exact hF _ (hL x h)
  obtain ⟨t2, a1, b1⟩ := kk v w' t.heap (locs ++ L) hPost hPj hDj hS1 T' e1 X'
  exact ⟨t2, go t2 a1, b1⟩
theorem dm_back5p {st0 : List Value} {a : Array Value} (hr : va_Run5 p l e R s m args below meth c H locs cells slots rm.cells rm.slots (F0 m pc ls st0) rest (dm_Qc G (va_A wc H.size) Post a) (va_A wc H.size)) (hP : va_P G.1 dm_cl w0 H) (hD : va_D A w0) (hS : va_S A s.heap H locs) (hF : ∀ q, va_A wc H.size q → A q)
    (hp : w0.Perm (wr ++ wc))
    (kk : ∀ (ov : Option Value) (w' : va_W) (H1 : Heap) (locs1 : List Loc), Post ov w' → va_P G.1 dm_cl (wr ++ w') H1 → va_D A (wr ++ w') → va_S A s.heap H1 locs1 → W p l e R s m args below meth c H1 locs1 (cells + rm.cells) (slots + rm.slots) Q (F0 m (pc + 5) ls (ov.toList ++ rest))) : W p l e R s m args below meth c H locs cells slots Q (F0 m pc ls st0) := by
  intro T hT X
  obtain ⟨v, st₀, t, T', L, h0, X', hL, e1, e2, hq, go⟩ := hr T hT X
  obtain ⟨⟨ov, w', hv, hPost, hP1, hD1⟩, hFr⟩ := hq
  cases hv
  subst h0
  obtain ⟨hPj, hDj⟩ := dm_joinA (dm_pP hp hP) (dm_pD hp hD) hFr.2 hF hP1 hD1
  have hS1 : va_S A s.heap t.heap (locs ++ L) := by
    refine ⟨Nat.le_trans hS.1 hFr.1, fun q hq hA => ?_, fun x hx => ?_⟩
    · rw [hFr.2 q (Nat.lt_of_lt_of_le hq hS.1) (fun h => hA (hF q h))]; exact hS.2.1 q hq hA
    · rcases List.mem_append.mp hx with h | h
      · exact hS.2.2 x h
      · exact hF _ (hL x h)
  obtain ⟨t2, a1, b1⟩ := kk v w' t.heap (locs ++ L) hPost hPj hDj hS1 T' e1 X'
  exact ⟨t2, go t2 a1, b1⟩
theorem dm_callVp (B : dm_B p s m args meth c cc nL ret0 own nm G A) (As : List Value) (hM : dm_Ct l y bytes maxL ret rm G wc (.ref b :: As) Post)
    (hl : Cond.methodLink own index y ∈ dm_gt) (hi : Cond.instanceMethod y ∈ dm_gt) (hse : Cond.selects y.cls y y ∈ dm_gt) (hini : Cond.initialized y.cls ∈ dm_gt) (hco : Cond.code y bytes maxL ret ∈ dm_gt)
    (hd : y.cls ≠ "java/lang/invoke/MethodHandle" ∧ y.cls ≠ "java/lang/invoke/VarHandle" ∧ (parseMethodDescriptor y.desc).map (fun d => d.parameters.length) = some n) (hn : As.length = n) (hR : rm.frames + 1 ≤ R.frames ∧ 8 + (maxL + 11) + rm.locals ≤ R.locals)
    {ci N : Nat} {T : u_T} {fs : List Value} (kr : Nat) (hrc : wc[kr]? = some (b, .inr (ci, fs))) (hcl : dm_cl[ci]? = some (y.cls, T, N))
    (hP : va_P G.1 dm_cl w0 H) (hD : va_D A w0) (hS : va_S A s.heap H locs) (hp : w0.Perm (wr ++ wc))
    (hsz : ls.size = nL) (hst : st = As.reverse ++ .ref b :: rest) (hrest : (rest.map fun v => v.category).sum ≤ 8) (hdg : decode cc pc = .ok (.invokevirtual index, 3)) (hf : cells + rm.cells ≤ R.cells ∧ slots + rm.slots ≤ R.slots)
    (kk : ∀ (ov : Option Value) (w' : va_W) (H1 : Heap) (locs1 : List Loc), Post ov w' → va_P G.1 dm_cl (wr ++ w') H1 → va_D A (wr ++ w') → va_S A s.heap H1 locs1 → W p l e R s m args below meth c H1 locs1 (cells + rm.cells) (slots + rm.slots) Q (F0 m (pc + 3) ls (ov.toList ++ rest))) : W p l e R s m args below meth c H locs cells slots Q (F0 m pc ls st) := by
  obtain ⟨hx, hb, hml, hown, hts, hr, hlk, hnm, hK, hA⟩ := B
  have hF := dm_Frp hp hD hS hA
  subst hst
  have hP0 : va_P G.1 dm_cl wc H := dm_dP (hp.trans List.perm_append_comm) hP
  exact dm_back3p (va_runV (As := As) (rest := rest) ⟨hx, hb, hml, hown, hts⟩ (hM H.size) ⟨callB_of n hts (dm_goodC hco) rfl rfl rfl (hts _ hini) (hts _ hl) hd hR, hts _ hi, hts _ hse⟩ ⟨dm_blind, va_recv hK.1 hP0 hcl hrc, fun U hU hW => dm_prep hp hK hP hD hS hF hU hW⟩ rfl hn hsz rfl (by simpa [JFrame.monitorRoom] using hrest) hdg hf) hP hD hS hF hp kk
theorem dm_callVNp {host : String} (B : dm_B p s m args meth c cc nL ret0 own nm G A) (As : List Value) (hM : dm_Ct l y bytes maxL ret rm G wc (.ref b :: As) Post)
    (hl : Cond.methodLinkNest own index y host ∈ dm_nw) (hi : Cond.instanceMethod y ∈ dm_gt) (hse : Cond.selects y.cls y y ∈ dm_gt) (hini : Cond.initialized y.cls ∈ dm_gt) (hco : Cond.code y bytes maxL ret ∈ dm_gt)
    (hd : y.cls ≠ "java/lang/invoke/MethodHandle" ∧ y.cls ≠ "java/lang/invoke/VarHandle" ∧ (parseMethodDescriptor y.desc).map (fun d => d.parameters.length) = some n) (hn : As.length = n) (hR : rm.frames + 1 ≤ R.frames ∧ 8 + (maxL + 11) + rm.locals ≤ R.locals)
    {ci N : Nat} {T : u_T} {fs : List Value} (kr : Nat) (hrc : wc[kr]? = some (b, .inr (ci, fs))) (hcl : dm_cl[ci]? = some (y.cls, T, N))
    (hP : va_P G.1 dm_cl w0 H) (hD : va_D A w0) (hS : va_S A s.heap H locs) (hp : w0.Perm (wr ++ wc))
    (hsz : ls.size = nL) (hst : st = As.reverse ++ .ref b :: rest) (hrest : (rest.map fun v => v.category).sum ≤ 8) (hdg : decode cc pc = .ok (.invokevirtual index, 3)) (hf : cells + rm.cells ≤ R.cells ∧ slots + rm.slots ≤ R.slots)
    (kk : ∀ (ov : Option Value) (w' : va_W) (H1 : Heap) (locs1 : List Loc), Post ov w' → va_P G.1 dm_cl (wr ++ w') H1 → va_D A (wr ++ w') → va_S A s.heap H1 locs1 → W p l e R s m args below meth c H1 locs1 (cells + rm.cells) (slots + rm.slots) Q (F0 m (pc + 3) ls (ov.toList ++ rest))) : W p l e R s m args below meth c H locs cells slots Q (F0 m pc ls st) := by
  obtain ⟨hx, hb, hml, hown, hts, hr, hlk, hnm, hK, hA⟩ := B
  have hF := dm_Frp hp hD hS hA
  subst hst
  have hP0 : va_P G.1 dm_cl wc H := dm_dP (hp.trans List.perm_append_comm) hP
  exact dm_back3p (va_runVN (As := As) (rest := rest) ⟨hx, hb, hml, hown, hts⟩ (hM H.size) ⟨va_cnB n hts (dm_goodC hco) rfl rfl rfl (hK.2.1 _ hl) (hts _ hini) hd hR, hts _ hi, hts _ hse⟩ ⟨dm_blind, va_recv hK.1 hP0 hcl hrc, fun U hU hW => dm_prep hp hK hP hD hS hF hU hW⟩ rfl hn hsz rfl (by simpa [JFrame.monitorRoom] using hrest) hdg hf) hP hD hS hF hp kk
theorem dm_callIp (B : dm_B p s m args meth c cc nL ret0 own nm G A) (As : List Value) (hM : dm_Ct l y bytes maxL none rm G wc (.ref b :: As) Post)
    (hl : Cond.methodLink own index y ∈ dm_gt) (hi : Cond.instanceMethod y ∈ dm_gt) (hini : Cond.initialized y.cls ∈ dm_gt) (hco : Cond.code y bytes maxL none ∈ dm_gt) (hy1 : y.name = "<init>")
    (hd : y.cls ≠ "java/lang/invoke/MethodHandle" ∧ y.cls ≠ "java/lang/invoke/VarHandle" ∧ (parseMethodDescriptor y.desc).map (fun d => d.parameters.length) = some n) (hn : As.length = n) (hR : rm.frames + 1 ≤ R.frames ∧ 8 + (maxL + 11) + rm.locals ≤ R.locals)
    (hP : va_P G.1 dm_cl w0 H) (hD : va_D A w0) (hS : va_S A s.heap H locs) (hp : w0.Perm (wr ++ wc))
    (hsz : ls.size = nL) (hst : st = As.reverse ++ .ref b :: rest) (hrest : (rest.map fun v => v.category).sum ≤ 8) (hdg : decode cc pc = .ok (.invokespecial index, 3)) (hf : cells + rm.cells ≤ R.cells ∧ slots + rm.slots ≤ R.slots)
    (kk : ∀ (ov : Option Value) (w' : va_W) (H1 : Heap) (locs1 : List Loc), Post ov w' → va_P G.1 dm_cl (wr ++ w') H1 → va_D A (wr ++ w') → va_S A s.heap H1 locs1 → W p l e R s m args below meth c H1 locs1 (cells + rm.cells) (slots + rm.slots) Q (F0 m (pc + 3) ls (ov.toList ++ rest))) : W p l e R s m args below meth c H locs cells slots Q (F0 m pc ls st) := by
  obtain ⟨hx, hb, hml, hown, hts, hr, hlk, hnm, hK, hA⟩ := B
  have hF := dm_Frp hp hD hS hA
  subst hst
  exact dm_back3p (va_runI (As := As) (rest := rest) ⟨hx, hb, hml, hown, hts⟩ (hM H.size) ⟨callB_of n hts (dm_goodC hco) rfl rfl rfl (hts _ hini) (hts _ hl) hd hR, hy1, hts _ hi⟩ ⟨dm_blind, fun U hU hW => dm_prep hp hK hP hD hS hF hU hW⟩ rfl hn hsz rfl (by simpa [JFrame.monitorRoom] using hrest) hdg hf) hP hD hS hF hp kk
theorem dm_callINp {host : String} (B : dm_B p s m args meth c cc nL ret0 own nm G A) (As : List Value) (hM : dm_Ct l y bytes maxL none rm G wc (.ref b :: As) Post)
    (hl : Cond.methodLinkNest own index y host ∈ dm_nw) (hi : Cond.instanceMethod y ∈ dm_gt) (hini : Cond.initialized y.cls ∈ dm_gt) (hco : Cond.code y bytes maxL none ∈ dm_gt) (hy1 : y.name = "<init>")
    (hd : y.cls ≠ "java/lang/invoke/MethodHandle" ∧ y.cls ≠ "java/lang/invoke/VarHandle" ∧ (parseMethodDescriptor y.desc).map (fun d => d.parameters.length) = some n) (hn : As.length = n) (hR : rm.frames + 1 ≤ R.frames ∧ 8 + (maxL + 11) + rm.locals ≤ R.locals)
    (hP : va_P G.1 dm_cl w0 H) (hD : va_D A w0) (hS : va_S A s.heap H locs) (hp : w0.Perm (wr ++ wc))
    (hsz : ls.size = nL) (hst : st = As.reverse ++ .ref b :: rest) (hrest : (rest.map fun v => v.category).sum ≤ 8) (hdg : decode cc pc = .ok (.invokespecial index, 3)) (hf : cells + rm.cells ≤ R.cells ∧ slots + rm.slots ≤ R.slots)
    (kk : ∀ (ov : Option Value) (w' : va_W) (H1 : Heap) (locs1 : List Loc), Post ov w' → va_P G.1 dm_cl (wr ++ w') H1 → va_D A (wr ++ w') → va_S A s.heap H1 locs1 → W p l e R s m args below meth c H1 locs1 (cells + rm.cells) (slots + rm.slots) Q (F0 m (pc + 3) ls (ov.toList ++ rest))) : W p l e R s m args below meth c H locs cells slots Q (F0 m pc ls st) := by
  obtain ⟨hx, hb, hml, hown, hts, hr, hlk, hnm, hK, hA⟩ := B
  have hF := dm_Frp hp hD hS hA
  subst hst
  exact dm_back3p (va_runIN (As := As) (rest := rest) ⟨hx, hb, hml, hown, hts⟩ (hM H.size) ⟨va_cnB n hts (dm_goodC hco) rfl rfl rfl (hK.2.1 _ hl) (hts _ hini) hd hR, hy1, hts _ hi⟩ ⟨dm_blind, fun U hU hW => dm_prep hp hK hP hD hS hF hU hW⟩ rfl hn hsz rfl (by simpa [JFrame.monitorRoom] using hrest) hdg hf) hP hD hS hF hp kk
theorem dm_callSp (B : dm_B p s m args meth c cc nL ret0 own nm G A) (As : List Value) (hM : dm_Ct l y bytes maxL ret rm G wc As Post)
    (hl : Cond.methodLink own index y ∈ dm_gt) (hi : Cond.static y ∈ dm_gt) (hini : Cond.initialized y.cls ∈ dm_gt) (hco : Cond.code y bytes maxL ret ∈ dm_gt)
    (hd : y.cls ≠ "java/lang/invoke/MethodHandle" ∧ y.cls ≠ "java/lang/invoke/VarHandle" ∧ (parseMethodDescriptor y.desc).map (fun d => d.parameters.length) = some n) (hn : As.length = n) (hR : rm.frames + 1 ≤ R.frames ∧ 8 + (maxL + 11) + rm.locals ≤ R.locals)
    (hP : va_P G.1 dm_cl w0 H) (hD : va_D A w0) (hS : va_S A s.heap H locs) (hp : w0.Perm (wr ++ wc))
    (hsz : ls.size = nL) (hst : st = As.reverse ++ rest) (hrest : (rest.map fun v => v.category).sum ≤ 8) (hdg : decode cc pc = .ok (.invokestatic index, 3)) (hf : cells + rm.cells ≤ R.cells ∧ slots + rm.slots ≤ R.slots)
    (kk : ∀ (ov : Option Value) (w' : va_W) (H1 : Heap) (locs1 : List Loc), Post ov w' → va_P G.1 dm_cl (wr ++ w') H1 → va_D A (wr ++ w') → va_S A s.heap H1 locs1 → W p l e R s m args below meth c H1 locs1 (cells + rm.cells) (slots + rm.slots) Q (F0 m (pc + 3) ls (ov.toList ++ rest))) : W p l e R s m args below meth c H locs cells slots Q (F0 m pc ls st) := by
  obtain ⟨hx, hb, hml, hown, hts, hr, hlk, hnm, hK, hA⟩ := B
  have hF := dm_Frp hp hD hS hA
  subst hst
  exact dm_back3p (va_runS (As := As) (rest := rest) ⟨hx, hb, hml, hown, hts⟩ (hM H.size) ⟨callB_of n hts (dm_goodC hco) rfl rfl rfl (hts _ hini) (hts _ hl) hd hR, hts _ hi⟩ ⟨dm_blind, fun U hU hW => dm_prep hp hK hP hD hS hF hU hW⟩ rfl hn hsz rfl (by simpa [JFrame.monitorRoom] using hrest) hdg hf) hP hD hS hF hp kk
theorem dm_callFp {x : MethodName} {C : String} {count : Nat} (B : dm_B p s m args meth c cc nL ret0 own nm G A) (As : List Value) (hM : dm_Ct l y bytes maxL ret rm G wc (.ref b :: As) Post)
    (hl : Cond.methodLink own index x ∈ dm_gt) (hi : Cond.instanceMethod y ∈ dm_gt) (hse : Cond.selects C x y ∈ dm_gt) (hini : Cond.initialized y.cls ∈ dm_gt) (hco : Cond.code y bytes maxL ret ∈ dm_gt) (hfw : (C, x, y) ∈ dm_fwl)
    (hd : (parseMethodDescriptor x.desc).map (fun d => d.parameters.length) = some n) (hn : As.length = n) (hR : rm.frames + 1 ≤ R.frames ∧ 8 + (maxL + 11) + rm.locals ≤ R.locals)
    {ci N : Nat} {T : u_T} {fs : List Value} (kr : Nat) (hrc : wc[kr]? = some (b, .inr (ci, fs))) (hcl : dm_cl[ci]? = some (C, T, N))
    (hP : va_P G.1 dm_cl w0 H) (hD : va_D A w0) (hS : va_S A s.heap H locs) (hp : w0.Perm (wr ++ wc))
    (hsz : ls.size = nL) (hst : st = As.reverse ++ .ref b :: rest) (hrest : (rest.map fun v => v.category).sum ≤ 8) (hdg : decode cc pc = .ok (.invokeinterface index count, 5)) (hf : cells + rm.cells ≤ R.cells ∧ slots + rm.slots ≤ R.slots)
    (kk : ∀ (ov : Option Value) (w' : va_W) (H1 : Heap) (locs1 : List Loc), Post ov w' → va_P G.1 dm_cl (wr ++ w') H1 → va_D A (wr ++ w') → va_S A s.heap H1 locs1 → W p l e R s m args below meth c H1 locs1 (cells + rm.cells) (slots + rm.slots) Q (F0 m (pc + 5) ls (ov.toList ++ rest))) : W p l e R s m args below meth c H locs cells slots Q (F0 m pc ls st) := by
  obtain ⟨hx, hb, hml, hown, hts, hr, hlk, hnm, hK, hA⟩ := B
  have hF := dm_Frp hp hD hS hA
  subst hst
  have hP0 : va_P G.1 dm_cl wc H := dm_dP (hp.trans List.perm_append_comm) hP
  have hG : GoodIn dm_gt (va_wsF own index C x y (Cond.code y bytes maxL ret :: dm_gt)) := by
    intro w hw
    rcases List.mem_append.mp hw with h | h
    · have hm : w ∈ dm_gt := by
        simp only [List.mem_cons, List.not_mem_nil, or_false] at h
        rcases h with rfl | rfl | rfl | rfl
        · exact hl
        · exact hse
        · exact hi
        · exact hini
      exact ⟨hm, dm_gtGood _ hm⟩
    · exact dm_goodC hco w h
  exact dm_back5p (va_runF (As := As) (rest := rest) (hK.1.1 ci _ hcl).2 ⟨hx, hb, hml, hown, hts⟩ (hM H.size) (va_cwF n hts hG rfl rfl rfl (hK.2.2.1 _ hfw) ⟨(dm_fwx _ hfw).1, (dm_fwx _ hfw).2, hd⟩ hR) ⟨dm_blind, va_recv hK.1 hP0 hcl hrc, fun U hU hW => dm_prep hp hK hP hD hS hF hU hW⟩ rfl hn hsz rfl (by simpa [JFrame.monitorRoom] using hrest) hdg hf) hP hD hS hF hp kk
end dm_callsp
