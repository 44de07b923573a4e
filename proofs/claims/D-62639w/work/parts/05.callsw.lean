/-! calls where the callee's world is the caller's whole world -/
section dm_callsw
variable {p : Program} {l : Launch} {e : Env} {R : Room} {s : State} {m : MethodId} {args : Array Value} {below : List Frame} {meth : Method} {c : Code} {H : Heap} {locs : List Loc} {cells slots : Nat} {Q : State → Prop}
variable {cc : ByteArray} {nL : Nat} {ret0 : Option FieldType} {own nm : String} {G : dm_G} {A : Nat → Prop} {y : MethodName} {bytes : ByteArray} {maxL : Nat} {ret : Option FieldType} {rm : Room} {w0 : va_W} {b : Nat} {Post : Option Value → va_W → Prop} {pc : Nat} {ls : Array Slot} {st rest : List Value} {index n : Nat}
theorem dm_Frw (hD : va_D A w0) (hS : va_S A s.heap H locs) (hA : ∀ q, s.heap.size ≤ q → A q) : ∀ q, va_A w0 H.size q → A q := by
  intro q hq
  rcases hq with ⟨k, e, hk⟩ | hq
  · exact hD.2 k _ hk
  · exact hA q (Nat.le_trans hS.1 hq)
theorem dm_prew {av : List Value} {U : State} (hK : dm_K G A s) (hP : va_P G.1 dm_cl w0 H) (hD : va_D A w0) (hS : va_S A s.heap H locs) (hF : ∀ q, va_A w0 H.size q → A q) (hU : U.heap = H) (hW : s.WarmedH U.vm) : dm_Pc G H.size w0 av av.toArray U :=
  ⟨rfl, by rw [hU], by rw [hU]; exact hP, hD.self, hK.call hW hU hS hF⟩
theorem dm_back3w {st0 : List Value} {a : Array Value} (hr : va_Run p l e R s m args below meth c H locs cells slots rm.cells rm.slots (F0 m pc ls st0) rest (dm_Qc G (va_A w0 H.size) Post a) (va_A w0 H.size)) (hP : va_P G.1 dm_cl w0 H) (hD : va_D A w0) (hS : va_S A s.heap H locs) (hF : ∀ q, va_A w0 H.size q → A q)
    (kk : ∀ (ov : Option Value) (w' : va_W) (H1 : Heap) (locs1 : List Loc), Post ov w' → va_P G.1 dm_cl (w') H1 → va_D A (w') → va_S A s.heap H1 locs1 → W p l e R s m args below meth c H1 locs1 (cells + rm.cells) (slots + rm.slots) Q (F0 m (pc + 3) ls (ov.toList ++ rest))) : W p l e R s m args below meth c H locs cells slots Q (F0 m pc ls st0) := by
  intro T hT X
  obtain ⟨v, st₀, t, T', L, h0, X', hL, e1, e2, hq, go⟩ := hr T hT X
  obtain ⟨⟨ov, w', hv, hPost, hP1, hD1⟩, hFr⟩ := hq
  cases hv
  subst h0
  have hDj : va_D A w' := hD1.weaken (fun _ q _ h => hF _ h)
  have hS1 : va_S A s.heap t.heap (locs ++ L) := by
    refine ⟨Nat.le_trans hS.1 hFr.1, fun q hq hA => ?_, fun x hx => ?_⟩
    · rw [hFr.2 q (Nat.lt_of_lt_of_le hq hS.1) (fun h => hA (hF q h))]; exact hS.2.1 q hq hA
    · rcases List.mem_append.mp hx with h | h
      · exact hS.2.2 x h
      · exact hF _ (hL x h)
  obtain ⟨t2, a1, b1⟩ := kk v w' t.heap (locs ++ L) hPost hP1 hDj hS1 T' e1 X'
  exact ⟨t2, go t2 a1, b1⟩
theorem dm_back5w {st0 : List Value} {a : Array Value} (hr : va_Run5 p l e R s m args below meth c H locs cells slots rm.cells rm.slots (F0 m pc ls st0) rest (dm_Qc G (va_A w0 H.size) Post a) (va_A w0 H.size)) (hP : va_P G.1 dm_cl w0 H) (hD : va_D A w0) (hS : va_S A s.heap H locs) (hF : ∀ q, va_A w0 H.size q → A q)
    (kk : ∀ (ov : Option Value) (w' : va_W) (H1 : Heap) (locs1 : List Loc), Post ov w' → va_P G.1 dm_cl (w') H1 → va_D A (w') → va_S A s.heap H1 locs1 → W p l e R s m args below meth c H1 locs1 (cells + rm.cells) (slots + rm.slots) Q (F0 m (pc + 5) ls (ov.toList ++ rest))) : W p l e R s m args below meth c H locs cells slots Q (F0 m pc ls st0) := by
  intro T hT X
  obtain ⟨v, st₀, t, T', L, h0, X', hL, e1, e2, hq, go⟩ := hr T hT X
  obtain ⟨⟨ov, w', hv, hPost, hP1, hD1⟩, hFr⟩ := hq
  cases hv
  subst h0
  have hDj : va_D A w' := hD1.weaken (fun _ q _ h => hF _ h)
  have hS1 : va_S A s.heap t.heap (locs ++ L) := by
    refine ⟨Nat.le_trans hS.1 hFr.1, fun q hq hA => ?_, fun x hx => ?_⟩
    · rw [hFr.2 q (Nat.lt_of_lt_of_le hq hS.1) (fun h => hA (hF q h))]; exact hS.2.1 q hq hA
    · rcases List.mem_append.mp hx with h | h
      · exact hS.2.2 x h
      · exact hF _ (hL x h)
  obtain ⟨t2, a1, b1⟩ := kk v w' t.heap (locs ++ L) hPost hP1 hDj hS1 T' e1 X'
  exact ⟨t2, go t2 a1, b1⟩
theorem dm_callVw (B : dm_B p s m args meth c cc nL ret0 own nm G A) (As : List Value) (hM : dm_Ct l y bytes maxL ret rm G w0 (.ref b :: As) Post)
    (hl : Cond.methodLink own index y ∈ dm_gt) (hi : Cond.instanceMethod y ∈ dm_gt) (hse : Cond.selects y.cls y y ∈ dm_gt) (hini : Cond.initialized y.cls ∈ dm_gt) (hco : Cond.code y bytes maxL ret ∈ dm_gt)
    (hd : y.cls ≠ "java/lang/invoke/MethodHandle" ∧ y.cls ≠ "java/lang/invoke/VarHandle" ∧ (parseMethodDescriptor y.desc).map (fun d => d.parameters.length) = some n) (hn : As.length = n) (hR : rm.frames + 1 ≤ R.frames ∧ 8 + (maxL + 11) + rm.locals ≤ R.locals)
    {ci N : Nat} {T : u_T} {fs : List Value} (kr : Nat) (hrc : w0[kr]? = some (b, .inr (ci, fs))) (hcl : dm_cl[ci]? = some (y.cls, T, N))
    (hP : va_P G.1 dm_cl w0 H) (hD : va_D A w0) (hS : va_S A s.heap H locs)
    (hsz : ls.size = nL) (hst : st = As.reverse ++ .ref b :: rest) (hrest : (rest.map fun v => v.category).sum ≤ 8) (hdg : decode cc pc = .ok (.invokevirtual index, 3)) (hf : cells + rm.cells ≤ R.cells ∧ slots + rm.slots ≤ R.slots)
    (kk : ∀ (ov : Option Value) (w' : va_W) (H1 : Heap) (locs1 : List Loc), Post ov w' → va_P G.1 dm_cl (w') H1 → va_D A (w') → va_S A s.heap H1 locs1 → W p l e R s m args below meth c H1 locs1 (cells + rm.cells) (slots + rm.slots) Q (F0 m (pc + 3) ls (ov.toList ++ rest))) : W p l e R s m args below meth c H locs cells slots Q (F0 m pc ls st) := by
  obtain ⟨hx, hb, hml, hown, hts, hr, hlk, hnm, hK, hA⟩ := B
  have hF := dm_Frw hD hS hA
  subst hst
  exact dm_back3w (va_runV (As := As) (rest := rest) ⟨hx, hb, hml, hown, hts⟩ (hM H.size) ⟨callB_of n hts (dm_goodC hco) rfl rfl rfl (hts _ hini) (hts _ hl) hd hR, hts _ hi, hts _ hse⟩ ⟨dm_blind, va_recv hK.1 hP hcl hrc, fun U hU hW => dm_prew hK hP hD hS hF hU hW⟩ rfl hn hsz rfl (by simpa [JFrame.monitorRoom] using hrest) hdg hf) hP hD hS hF kk
theorem dm_callVNw {host : String} (B : dm_B p s m args meth c cc nL ret0 own nm G A) (As : List Value) (hM : dm_Ct l y bytes maxL ret rm G w0 (.ref b :: As) Post)
    (hl : Cond.methodLinkNest own index y host ∈ dm_nw) (hi : Cond.instanceMethod y ∈ dm_gt) (hse : Cond.selects y.cls y y ∈ dm_gt) (hini : Cond.initialized y.cls ∈ dm_gt) (hco : Cond.code y bytes maxL ret ∈ dm_gt)
    (hd : y.cls ≠ "java/lang/invoke/MethodHandle" ∧ y.cls ≠ "java/lang/invoke/VarHandle" ∧ (parseMethodDescriptor y.desc).map (fun d => d.parameters.length) = some n) (hn : As.length = n) (hR : rm.frames + 1 ≤ R.frames ∧ 8 + (maxL + 11) + rm.locals ≤ R.locals)
    {ci N : Nat} {T : u_T} {fs : List Value} (kr : Nat) (hrc : w0[kr]? = some (b, .inr (ci, fs))) (hcl : dm_cl[ci]? = some (y.cls, T, N))
    (hP : va_P G.1 dm_cl w0 H) (hD : va_D A w0) (hS : va_S A s.heap H locs)
    (hsz : ls.size = nL) (hst : st = As.reverse ++ .ref b :: rest) (hrest : (rest.map fun v => v.category).sum ≤ 8) (hdg : decode cc pc = .ok (.invokevirtual index, 3)) (hf : cells + rm.cells ≤ R.cells ∧ slots + rm.slots ≤ R.slots)
    (kk : ∀ (ov : Option Value) (w' : va_W) (H1 : Heap) (locs1 : List Loc), Post ov w' → va_P G.1 dm_cl (w') H1 → va_D A (w') → va_S A s.heap H1 locs1 → W p l e R s m args below meth c H1 locs1 (cells + rm.cells) (slots + rm.slots) Q (F0 m (pc + 3) ls (ov.toList ++ rest))) : W p l e R s m args below meth c H locs cells slots Q (F0 m pc ls st) := by
  obtain ⟨hx, hb, hml, hown, hts, hr, hlk, hnm, hK, hA⟩ := B
  have hF := dm_Frw hD hS hA
  subst hst
  exact dm_back3w (va_runVN (As := As) (rest := rest) ⟨hx, hb, hml, hown, hts⟩ (hM H.size) ⟨va_cnB n hts (dm_goodC hco) rfl rfl rfl (hK.2.1 _ hl) (hts _ hini) hd hR, hts _ hi, hts _ hse⟩ ⟨dm_blind, va_recv hK.1 hP hcl hrc, fun U hU hW => dm_prew hK hP hD hS hF hU hW⟩ rfl hn hsz rfl (by simpa [JFrame.monitorRoom] using hrest) hdg hf) hP hD hS hF kk
theorem dm_callIw (B : dm_B p s m args meth c cc nL ret0 own nm G A) (As : List Value) (hM : dm_Ct l y bytes maxL none rm G w0 (.ref b :: As) Post)
    (hl : Cond.methodLink own index y ∈ dm_gt) (hi : Cond.instanceMethod y ∈ dm_gt) (hini : Cond.initialized y.cls ∈ dm_gt) (hco : Cond.code y bytes maxL none ∈ dm_gt) (hy1 : y.name = "<init>")
    (hd : y.cls ≠ "java/lang/invoke/MethodHandle" ∧ y.cls ≠ "java/lang/invoke/VarHandle" ∧ (parseMethodDescriptor y.desc).map (fun d => d.parameters.length) = some n) (hn : As.length = n) (hR : rm.frames + 1 ≤ R.frames ∧ 8 + (maxL + 11) + rm.locals ≤ R.locals)
    (hP : va_P G.1 dm_cl w0 H) (hD : va_D A w0) (hS : va_S A s.heap H locs)
    (hsz : ls.size = nL) (hst : st = As.reverse ++ .ref b :: rest) (hrest : (rest.map fun v => v.category).sum ≤ 8) (hdg : decode cc pc = .ok (.invokespecial index, 3)) (hf : cells + rm.cells ≤ R.cells ∧ slots + rm.slots ≤ R.slots)
    (kk : ∀ (ov : Option Value) (w' : va_W) (H1 : Heap) (locs1 : List Loc), Post ov w' → va_P G.1 dm_cl (w') H1 → va_D A (w') → va_S A s.heap H1 locs1 → W p l e R s m args below meth c H1 locs1 (cells + rm.cells) (slots + rm.slots) Q (F0 m (pc + 3) ls (ov.toList ++ rest))) : W p l e R s m args below meth c H locs cells slots Q (F0 m pc ls st) := by
  obtain ⟨hx, hb, hml, hown, hts, hr, hlk, hnm, hK, hA⟩ := B
  have hF := dm_Frw hD hS hA
  subst hst
  exact dm_back3w (va_runI (As := As) (rest := rest) ⟨hx, hb, hml, hown, hts⟩ (hM H.size) ⟨callB_of n hts (dm_goodC hco) rfl rfl rfl (hts _ hini) (hts _ hl) hd hR, hy1, hts _ hi⟩ ⟨dm_blind, fun U hU hW => dm_prew hK hP hD hS hF hU hW⟩ rfl hn hsz rfl (by simpa [JFrame.monitorRoom] using hrest) hdg hf) hP hD hS hF kk
theorem dm_callINw {host : String} (B : dm_B p s m args meth c cc nL ret0 own nm G A) (As : List Value) (hM : dm_Ct l y bytes maxL none rm G w0 (.ref b :: As) Post)
    (hl : Cond.methodLinkNest own index y host ∈ dm_nw) (hi : Cond.instanceMethod y ∈ dm_gt) (hini : Cond.initialized y.cls ∈ dm_gt) (hco : Cond.code y bytes maxL none ∈ dm_gt) (hy1 : y.name = "<init>")
    (hd : y.cls ≠ "java/lang/invoke/MethodHandle" ∧ y.cls ≠ "java/lang/invoke/VarHandle" ∧ (parseMethodDescriptor y.desc).map (fun d => d.parameters.length) = some n) (hn : As.length = n) (hR : rm.frames + 1 ≤ R.frames ∧ 8 + (maxL + 11) + rm.locals ≤ R.locals)
    (hP : va_P G.1 dm_cl w0 H) (hD : va_D A w0) (hS : va_S A s.heap H locs)
    (hsz : ls.size = nL) (hst : st = As.reverse ++ .ref b :: rest) (hrest : (rest.map fun v => v.category).sum ≤ 8) (hdg : decode cc pc = .ok (.invokespecial index, 3)) (hf : cells + rm.cells ≤ R.cells ∧ slots + rm.slots ≤ R.slots)
    (kk : ∀ (ov : Option Value) (w' : va_W) (H1 : Heap) (locs1 : List Loc), Post ov w' → va_P G.1 dm_cl (w') H1 → va_D A (w') → va_S A s.heap H1 locs1 → W p l e R s m args below meth c H1 locs1 (cells + rm.cells) (slots + rm.slots) Q (F0 m (pc + 3) ls (ov.toList ++ rest))) : W p l e R s m args below meth c H locs cells slots Q (F0 m pc ls st) := by
  obtain ⟨hx, hb, hml, hown, hts, hr, hlk, hnm, hK, hA⟩ := B
  have hF := dm_Frw hD hS hA
  subst hst
  exact dm_back3w (va_runIN (As := As) (rest := rest) ⟨hx, hb, hml, hown, hts⟩ (hM H.size) ⟨va_cnB n hts (dm_goodC hco) rfl rfl rfl (hK.2.1 _ hl) (hts _ hini) hd hR, hy1, hts _ hi⟩ ⟨dm_blind, fun U hU hW => dm_prew hK hP hD hS hF hU hW⟩ rfl hn hsz rfl (by simpa [JFrame.monitorRoom] using hrest) hdg hf) hP hD hS hF kk
theorem dm_callSw (B : dm_B p s m args meth c cc nL ret0 own nm G A) (As : List Value) (hM : dm_Ct l y bytes maxL ret rm G w0 As Post)
    (hl : Cond.methodLink own index y ∈ dm_gt) (hi : Cond.static y ∈ dm_gt) (hini : Cond.initialized y.cls ∈ dm_gt) (hco : Cond.code y bytes maxL ret ∈ dm_gt)
    (hd : y.cls ≠ "java/lang/invoke/MethodHandle" ∧ y.cls ≠ "java/lang/invoke/VarHandle" ∧ (parseMethodDescriptor y.desc).map (fun d => d.parameters.length) = some n) (hn : As.length = n) (hR : rm.frames + 1 ≤ R.frames ∧ 8 + (maxL + 11) + rm.locals ≤ R.locals)
    (hP : va_P G.1 dm_cl w0 H) (hD : va_D A w0) (hS : va_S A s.heap H locs)
    (hsz : ls.size = nL) (hst : st = As.reverse ++ rest) (hrest : (rest.map fun v => v.category).sum ≤ 8) (hdg : decode cc pc = .ok (.invokestatic index, 3)) (hf : cells + rm.cells ≤ R.cells ∧ slots + rm.slots ≤ R.slots)
    (kk : ∀ (ov : Option Value) (w' : va_W) (H1 : Heap) (locs1 : List Loc), Post ov w' → va_P G.1 dm_cl (w') H1 → va_D A (w') → va_S A s.heap H1 locs1 → W p l e R s m args below meth c H1 locs1 (cells + rm.cells) (slots + rm.slots) Q (F0 m (pc + 3) ls (ov.toList ++ rest))) : W p l e R s m args below meth c H locs cells slots Q (F0 m pc ls st) := by
  obtain ⟨hx, hb, hml, hown, hts, hr, hlk, hnm, hK, hA⟩ := B
  have hF := dm_Frw hD hS hA
  subst hst
  exact dm_back3w (va_runS (As := As) (rest := rest) ⟨hx, hb, hml, hown, hts⟩ (hM H.size) ⟨callB_of n hts (dm_goodC hco) rfl rfl rfl (hts _ hini) (hts _ hl) hd hR, hts _ hi⟩ ⟨dm_blind, fun U hU hW => dm_prew hK hP hD hS hF hU hW⟩ rfl hn hsz rfl (by simpa [JFrame.monitorRoom] using hrest) hdg hf) hP hD hS hF kk
theorem dm_callFw {x : MethodName} {C : String} {count : Nat} (B : dm_B p s m args meth c cc nL ret0 own nm G A) (As : List Value) (hM : dm_Ct l y bytes maxL ret rm G w0 (.ref b :: As) Post)
    (hl : Cond.methodLink own index x ∈ dm_gt) (hi : Cond.instanceMethod y ∈ dm_gt) (hse : Cond.selects C x y ∈ dm_gt) (hini : Cond.initialized y.cls ∈ dm_gt) (hco : Cond.code y bytes maxL ret ∈ dm_gt) (hfw : (C, x, y) ∈ dm_fwl)
    (hd : (parseMethodDescriptor x.desc).map (fun d => d.parameters.length) = some n) (hn : As.length = n) (hR : rm.frames + 1 ≤ R.frames ∧ 8 + (maxL + 11) + rm.locals ≤ R.locals)
    {ci N : Nat} {T : u_T} {fs : List Value} (kr : Nat) (hrc : w0[kr]? = some (b, .inr (ci, fs))) (hcl : dm_cl[ci]? = some (C, T, N))
    (hP : va_P G.1 dm_cl w0 H) (hD : va_D A w0) (hS : va_S A s.heap H locs)
    (hsz : ls.size = nL) (hst : st = As.reverse ++ .ref b :: rest) (hrest : (rest.map fun v => v.category).sum ≤ 8) (hdg : decode cc pc = .ok (.invokeinterface index count, 5)) (hf : cells + rm.cells ≤ R.cells ∧ slots + rm.slots ≤ R.slots)
    (kk : ∀ (ov : Option Value) (w' : va_W) (H1 : Heap) (locs1 : List Loc), Post ov w' → va_P G.1 dm_cl (w') H1 → va_D A (w') → va_S A s.heap H1 locs1 → W p l e R s m args below meth c H1 locs1 (cells + rm.cells) (slots + rm.slots) Q (F0 m (pc + 5) ls (ov.toList ++ rest))) : W p l e R s m args below meth c H locs cells slots Q (F0 m pc ls st) := by
  obtain ⟨hx, hb, hml, hown, hts, hr, hlk, hnm, hK, hA⟩ := B
  have hF := dm_Frw hD hS hA
  subst hst
  have hG : GoodIn dm_gt (va_wsF own index C x y (Cond.code y bytes maxL ret :: dm_gt)) := by
    intro w hw
    rcases List.mem_append.mp hw with h | h
    · have hm : w ∈ dm_gt := by
        simp only [List.mem_cons, List.not_mem_nil, or_false] at h
        rcases h with rfl | rfl | rfl | rfl
        · exact hl
        · exact hse
        · exact hi
        · exact hini
      exact ⟨hm, dm_gtGood _ hm⟩
    · exact dm_goodC hco w h
  exact dm_back5w (va_runF (As := As) (rest := rest) (hK.1.1 ci _ hcl).2 ⟨hx, hb, hml, hown, hts⟩ (hM H.size) (va_cwF n hts hG rfl rfl rfl (hK.2.2.1 _ hfw) ⟨(dm_fwx _ hfw).1, (dm_fwx _ hfw).2, hd⟩ hR) ⟨dm_blind, va_recv hK.1 hP hcl hrc, fun U hU hW => dm_prew hK hP hD hS hF hU hW⟩ rfl hn hsz rfl (by simpa [JFrame.monitorRoom] using hrest) hdg hf) hP hD hS hF kk
end dm_callsw
