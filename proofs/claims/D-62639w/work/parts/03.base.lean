/-- what is known of the launch: class numbers and slots; array classes; the empty list's array; the mirror of Object[] -/
abbrev dm_G : Type := va_G × (Nat → ClassId) × Nat × Nat
abbrev dm_ty (G : dm_G) : List (ClassId × FieldType) := [(G.2.1 0, .int), (G.2.1 1, .short), (G.2.1 2, .boolean), (G.2.1 3, .object "DelayMachine$Line"), (G.2.1 4, .object "DelayMachine$Source"), (G.2.1 5, .object "DelayMachine$Destination"), (G.2.1 6, .object "java/lang/Object")]
/-- words that stay too, by rows of their own -/
def dm_isN : Cond → Bool
  | .fieldLinkNest .. => true
  | .methodLinkNest .. => true
  | .castable .. => true
  | .declares .. => true
  | .arrayOver (.object _) => true
  | _ => false
def dm_nw : List Cond := tables_1.filter dm_isN
theorem dm_nwi {w : Cond} (h : w ∈ tables_1) (hg : dm_isN w = true) : w ∈ dm_nw := List.mem_filter.mpr ⟨h, hg⟩
theorem dm_Nwarm {w : Cond} (h : dm_isN w = true) {s U : State} (hW : s.WarmedH U.vm) (hz : va_Nw w s) : va_Nw w U := by
  cases w with
  | fieldLinkNest a i b n d h => exact va_Nw.warmF hW hz
  | methodLinkNest a i x h => exact va_Nw.warmM hW hz
  | castable a b => exact va_Nw.warmC hW hz
  | declares x => exact va_Nw.warmD hW hz
  | arrayOver t =>
    cases t with
    | object C => exact va_AO.moved hW.alike hz
    | _ => simp [dm_isN] at h
  | _ => simp [dm_isN] at h
abbrev dm_mw (c n d : String) : MethodName := { cls := c, name := n, desc := d }
/-- calls through the two interfaces: receiver's class, named method, selected method -/
abbrev dm_fwl : List (String × MethodName × MethodName) := [("DelayMachine$Presented", dm_mw "DelayMachine$Source" "word" "(I)S", dm_mw "DelayMachine$Presented" "word" "(I)S"), ("DelayMachine$Reckoned", dm_mw "DelayMachine$Source" "word" "(I)S", dm_mw "DelayMachine$Reckoned" "word" "(I)S"), ("DelayMachine$Presented", dm_mw "DelayMachine$Destination" "take" "(IS)V", dm_mw "DelayMachine$Presented" "take" "(IS)V"), ("DelayMachine$Done", dm_mw "DelayMachine$Destination" "take" "(IS)V", dm_mw "DelayMachine$Done" "take" "(IS)V")]
theorem dm_fwx : ∀ q ∈ dm_fwl, q.2.1.cls ≠ "java/lang/invoke/MethodHandle" ∧ q.2.1.cls ≠ "java/lang/invoke/VarHandle" := by decide +kernel
/-- all that a method takes for granted of tables and of the list's empty array -/
def dm_K (G : dm_G) (A : Nat → Prop) (U : State) : Prop :=
  va_K G.1 dm_cl (dm_ty G) U ∧ (∀ w ∈ dm_nw, va_Nw w U) ∧ (∀ q ∈ dm_fwl, va_Fw q.1 q.2.1 q.2.2 U) ∧ va_Mi "[Ljava/lang/Object;" G.2.2.2 U ∧
  va_Z "java/util/ArrayList" "DEFAULTCAPACITY_EMPTY_ELEMENTDATA" "[Ljava/lang/Object;" (.ref G.2.2.1) A U U.heap ∧ va_T (.object "java/lang/Object") G.2.2.1 0 (fun _ => .null) A U U.heap
theorem dm_K.move {G : dm_G} {A : Nat → Prop} {u U : State} (hW : u.WarmedH U.vm) (hh : U.heap = u.heap) (h : dm_K G A u) : dm_K G A U := by
  obtain ⟨h1, h2, h3, h4, h5, h6⟩ := h
  refine ⟨va_K.moved hW.alike h1, fun w hw => dm_Nwarm (List.mem_filter.mp hw).2 hW (h2 w hw), fun q hq => va_Fw.moved (dm_fwx q hq) hW.alike (h3 q hq), va_Mi.moved hW.alike h4, ?_, ?_⟩
  · rw [hh]; exact va_Z.moved hW.alike h5
  · rw [hh]; exact va_T.moved hW.alike h6
/-- for a callee: fewer cells may change, and nothing outside has -/
theorem dm_K.call {G : dm_G} {A B : Nat → Prop} {s U : State} {H : Heap} {locs : List Loc} (hW : s.WarmedH U.vm) (hU : U.heap = H) (hS : va_S A s.heap H locs) (hAB : ∀ q, B q → A q) (h : dm_K G A s) : dm_K G B U := by
  obtain ⟨h1, h2, h3, h4, h5, h6⟩ := h
  refine ⟨va_K.moved hW.alike h1, fun w hw => dm_Nwarm (List.mem_filter.mp hw).2 hW (h2 w hw), fun q hq => va_Fw.moved (dm_fwx q hq) hW.alike (h3 q hq), va_Mi.moved hW.alike h4, ?_, ?_⟩
  · rw [hU]; exact (va_Z.kept (va_Z.moved hW.alike h5) hS.2.1).narrow hAB
  · rw [hU]; exact (va_T.kept (va_T.moved hW.alike h6) hS.2.1).narrow hAB
/-- a method's start: its world w, and what is known -/
def dm_Pc (G : dm_G) (sz : Nat) (w : va_W) (av : List Value) : Array Value → State → Prop := fun v U => v = av.toArray ∧ U.heap.size = sz ∧ va_P G.1 dm_cl w U.heap ∧ va_D (va_A w sz) w ∧ dm_K G (va_A w sz) U
/-- its end: the answer and the new world, as Post says; nothing else has changed -/
def dm_Qc (G : dm_G) (A : Nat → Prop) (Post : Option Value → va_W → Prop) : Array Value → State → Outcome → State → Prop := fun _ st oc t => (∃ (ov : Option Value) (w' : va_W), oc = .returned ov ∧ Post ov w' ∧ va_P G.1 dm_cl w' t.heap ∧ va_D A w') ∧ va_F A st t
/-- a contract -/
def dm_Ct (l : Launch) (y : MethodName) (bytes : ByteArray) (maxL : Nat) (ret : Option FieldType) (rm : Room) (G : dm_G) (w : va_W) (av : List Value) (Post : Option Value → va_W → Prop) : Prop :=
  ∀ sz : Nat, Met l y (Cond.code y bytes maxL ret :: dm_gt) rm (dm_Pc G sz w av) (dm_Qc G (va_A w sz) Post) rm.cells rm.slots (va_A w sz)
/-- what holds in a method's body, from its first instruction on -/
def dm_B (p : Program) (s : State) (m : MethodId) (args : Array Value) (meth : Method) (c : Code) (cc : ByteArray) (nL : Nat) (ret : Option FieldType) (own nm : String) (G : dm_G) (A : Nat → Prop) : Prop :=
  p.tables.exec = Jvm.exec ∧ c.code = cc ∧ c.maxLocals = nL ∧ s.vm.findClass own = some m.cls ∧ (∀ w ∈ dm_gt, w.before args s = true) ∧ meth.sig.returnType = ret ∧ meth.locks = false ∧ meth.name = nm ∧ dm_K G A s ∧ ∀ q, s.heap.size ≤ q → A q
abbrev dm_Z (below : List Frame) (G : dm_G) (s : State) (args : Array Value) (A : Nat → Prop) (mc ms : Nat) (Post : Option Value → va_W → Prop) : State → Prop := MQ below (dm_Qc G A Post) args s mc ms A
theorem dm_Ct.of {l : Launch} {y : MethodName} {bytes : ByteArray} {maxL : Nat} {ret : Option FieldType} {rm : Room} {G : dm_G} {w : va_W} {av : List Value} {Post : Option Value → va_W → Prop} (hy : plainFor y = true) (hn : (lg_sl av).length ≤ maxL)
    (body : ∀ (p : Program) (e : Env) (s : State) (m : MethodId) (below : List Frame) (meth : Method) (c : Code) (A : Nat → Prop) (ls : Array Slot), dm_B p s m av.toArray meth c bytes maxL ret y.cls y.name G A → lv_has ls maxL (lv_args 0 av) → va_P G.1 dm_cl w s.heap → va_D A w → va_S A s.heap s.heap [] →
      W p l e rm s m av.toArray below meth c s.heap [] 0 0 (dm_Z below G s av.toArray A rm.cells rm.slots Post) (F0 m 0 ls [])) : dm_Ct l y bytes maxL ret rm G w av Post := by
  intro sz
  refine va_MetF (cc := bytes) (maxL := maxL) (ret := ret) hy rfl ?_
  intro p e s m args below meth c s₁ B hml hv
  obtain ⟨rfl, rfl, hP, hD, hK⟩ := hv
  have hts := atoms_spec (ws := Cond.code y bytes maxL ret :: dm_gt) B.pre
  have hl := lv_entry av (n := maxL) hn
  rw [lg_entry_eq]
  exact body p e s m below meth c _ _ ⟨B.exec, B.bytes, hml, findClass_of_methodNamed B.named, fun w hw => hts w (List.mem_cons_of_mem _ hw), B.returns, B.notSynchronized, (name_of_methodNamed B.named B.method).1, hK, fun q h => Or.inr h⟩ hl hP hD va_S.rf
theorem dm_gtGood : ∀ w ∈ dm_gt, (w.onTables && w.keeps) = true ∨ ∃ ty, w = .arrayClass ty := fun w h => good_of_word (List.mem_filter.mp h).2
theorem dm_goodC {y : MethodName} {b : ByteArray} {n : Nat} {r : Option FieldType} (h : Cond.code y b n r ∈ dm_gt) : GoodIn dm_gt (Cond.code y b n r :: dm_gt) := by
  intro w hw
  rcases List.mem_cons.mp hw with rfl | hw
  · exact ⟨h, dm_gtGood _ h⟩
  · exact ⟨hw, dm_gtGood _ hw⟩
section dm_calls
variable {p : Program} {l : Launch} {e : Env} {R : Room} {s : State} {m : MethodId} {args : Array Value} {below : List Frame} {meth : Method} {c : Code} {H : Heap} {locs : List Loc} {cells slots : Nat} {Q : State → Prop}
variable {cc : ByteArray} {nL : Nat} {ret0 : Option FieldType} {own nm : String} {G : dm_G} {A : Nat → Prop} {y : MethodName} {bytes : ByteArray} {maxL : Nat} {ret : Option FieldType} {rm : Room} {w0 wc wr : va_W} {b : Nat} {Post : Option Value → va_W → Prop} {pc : Nat} {ls : Array Slot} {st rest : List Value} {index n : Nat}
theorem dm_blind {sz : Nat} {av : List Value} : FrameBlind (dm_Pc G sz wc av) := by
  intro a U g mk h
  obtain ⟨h1, h2, h3, h4, h5⟩ := h
  exact ⟨h1, h2, h3, h4, h5.move (State.WarmedH.refl U) rfl⟩
/-- behind a call, of whatever kind -/
theorem dm_back3 {st0 : List Value} {a : Array Value} (hr : va_Run p l e R s m args below meth c H locs cells slots rm.cells rm.slots (F0 m pc ls st0) rest (dm_Qc G (va_A wc H.size) Post a) (va_A wc H.size)) (hP : va_P G.1 dm_cl w0 H) (hD : va_D A w0) (hS : va_S A s.heap H locs) (hF : ∀ q, va_A wc H.size q → A q)
    (isC isR : List Nat) (hC : isC.map (fun i => w0[i]?) = wc.map some) (hR : isR.map (fun i => w0[i]?) = wr.map some) (hn : va_nd isR = true) (hdis : ∀ i ∈ isR, i ∉ isC)
    (kk : ∀ (ov : Option Value) (w' : va_W) (H1 : Heap) (locs1 : List Loc), Post ov w' → va_P G.1 dm_cl (wr ++ w') H1 → va_D A (wr ++ w') → va_S A s.heap H1 locs1 → W p l e R s m args below meth c H1 locs1 (cells + rm.cells) (slots + rm.slots) Q (F0 m (pc + 3) ls (ov.toList ++ rest))) : W p l e R s m args below meth c H locs cells slots Q (F0 m pc ls st0) := by
  intro T hT X
  obtain ⟨v, st₀, t, T', L, h0, X', hL, e1, e2, hq, go⟩ := hr T hT X
  obtain ⟨⟨ov, w', hv, hPost, hP1, hD1⟩, hFr⟩ := hq
  cases hv
  subst h0
  obtain ⟨hPj, hDj⟩ := va_join hP hD isC isR hC hR hn hdis hFr.2 hF hP1 hD1
  have hS1 : va_S A s.heap t.heap (locs ++ L) := by
    refine ⟨Nat.le_trans hS.1 hFr.1, fun q hq hA => ?_, fun x hx => ?_⟩
    · rw [hFr.2 q (Nat.lt_of_lt_of_le hq hS.1) (fun h => hA (hF q h))]; exact hS.2.1 q hq hA
    · rcases List.mem_append.mp hx with h | h
      · exact hS.2.2 x h
      · exact hF _ (hL x h)
  obtain ⟨t2, a1, b1⟩ := kk v w' t.heap (locs ++ L) hPost hPj hDj hS1 T' e1 X'
  exact ⟨t2, go t2 a1, b1⟩
theorem dm_back5 {st0 : List Value} {a : Array Value} (hr : va_Run5 p l e R s m args below meth c H locs cells slots rm.cells rm.slots (F0 m pc ls st0) rest (dm_Qc G (va_A wc H.size) Post a) (va_A wc H.size)) (hP : va_P G.1 dm_cl w0 H) (hD : va_D A w0) (hS : va_S A s.heap H locs) (hF : ∀ q, va_A wc H.size q → A q)
    (isC isR : List Nat) (hC : isC.map (fun i => w0[i]?) = wc.map some) (hR : isR.map (fun i => w0[i]?) = wr.map some) (hn : va_nd isR = true) (hdis : ∀ i ∈ isR, i ∉ isC)
    (kk : ∀ (ov : Option Value) (w' : va_W) (H1 : Heap) (locs1 : List Loc), Post ov w' → va_P G.1 dm_cl (wr ++ w') H1 → va_D A (wr ++ w') → va_S A s.heap H1 locs1 → W p l e R s m args below meth c H1 locs1 (cells + rm.cells) (slots + rm.slots) Q (F0 m (pc + 5) ls (ov.toList ++ rest))) : W p l e R s m args below meth c H locs cells slots Q (F0 m pc ls st0) := by
  intro T hT X
  obtain ⟨v, st₀, t, T', L, h0, X', hL, e1, e2, hq, go⟩ := hr T hT X
  obtain ⟨⟨ov, w', hv, hPost, hP1, hD1⟩, hFr⟩ := hq
  cases hv
  subst h0
  obtain ⟨hPj, hDj⟩ := va_join hP hD isC isR hC hR hn hdis hFr.2 hF hP1 hD1
  have hS1 : va_S A s.heap t.heap (locs ++ L) := by
    refine ⟨Nat.le_trans hS.1 hFr.1, fun q hq hA => ?_, fun x hx => ?_⟩
    · rw [hFr.2 q (Nat.lt_of_lt_of_le hq hS.1) (fun h => hA (hF q h))]; exact hS.2.1 q hq hA
    · rcases List.mem_append.mp hx with h | h
      · exact hS.2.2 x h
      · exact hF _ (hL x h)
  obtain ⟨t2, a1, b1⟩ := kk v w' t.heap (locs ++ L) hPost hPj hDj hS1 T' e1 X'
  exact ⟨t2, go t2 a1, b1⟩
/-- the start of a callee -/
theorem dm_pre {av : List Value} {U : State} (hK : dm_K G A s) (hP : va_P G.1 dm_cl w0 H) (hD : va_D A w0) (hS : va_S A s.heap H locs) (hF : ∀ q, va_A wc H.size q → A q) (isC : List Nat) (hnC : va_nd isC = true) (hC : isC.map (fun i => w0[i]?) = wc.map some) (hU : U.heap = H) (hW : s.WarmedH U.vm) : dm_Pc G H.size wc av av.toArray U := by
  refine ⟨rfl, by rw [hU], ?_, ?_, hK.call hW hU hS hF⟩
  · rw [hU]
    intro k q hk
    obtain ⟨i, -, hi⟩ := va_in_of isC hC hk
    exact hP i q hi
  · exact (hD.sub isC hnC hC).self
/-- invokevirtual of a method of the receiver's own class -/
theorem dm_callV (B : dm_B p s m args meth c cc nL ret0 own nm G A) (As : List Value) (hM : dm_Ct l y bytes maxL ret rm G wc (.ref b :: As) Post)
    (hl : Cond.methodLink own index y ∈ dm_gt) (hi : Cond.instanceMethod y ∈ dm_gt) (hse : Cond.selects y.cls y y ∈ dm_gt) (hini : Cond.initialized y.cls ∈ dm_gt) (hco : Cond.code y bytes maxL ret ∈ dm_gt)
    (hd : y.cls ≠ "java/lang/invoke/MethodHandle" ∧ y.cls ≠ "java/lang/invoke/VarHandle" ∧ (parseMethodDescriptor y.desc).map (fun d => d.parameters.length) = some n) (hn : As.length = n) (hR : rm.frames + 1 ≤ R.frames ∧ 8 + (maxL + 11) + rm.locals ≤ R.locals)
    {ci N : Nat} {T : u_T} {fs : List Value} (kr : Nat) (hrc : wc[kr]? = some (b, .inr (ci, fs))) (hcl : dm_cl[ci]? = some (y.cls, T, N))
    (hP : va_P G.1 dm_cl w0 H) (hD : va_D A w0) (hS : va_S A s.heap H locs) (isC isR : List Nat) (hnC : va_nd isC = true) (hC : isC.map (fun i => w0[i]?) = wc.map some) (hRr : isR.map (fun i => w0[i]?) = wr.map some) (hnR : va_nd isR = true) (hdis : ∀ i ∈ isR, i ∉ isC)
    (hsz : ls.size = nL) (hst : st = As.reverse ++ .ref b :: rest) (hrest : (rest.map fun v => v.category).sum ≤ 8) (hdg : decode cc pc = .ok (.invokevirtual index, 3)) (hf : cells + rm.cells ≤ R.cells ∧ slots + rm.slots ≤ R.slots)
    (kk : ∀ (ov : Option Value) (w' : va_W) (H1 : Heap) (locs1 : List Loc), Post ov w' → va_P G.1 dm_cl (wr ++ w') H1 → va_D A (wr ++ w') → va_S A s.heap H1 locs1 → W p l e R s m args below meth c H1 locs1 (cells + rm.cells) (slots + rm.slots) Q (F0 m (pc + 3) ls (ov.toList ++ rest))) : W p l e R s m args below meth c H locs cells slots Q (F0 m pc ls st) := by
  obtain ⟨hx, hb, hml, hown, hts, hr, hlk, hnm, hK, hA⟩ := B
  have hF := va_free hD hS hA isC hC
  subst hst
  have hP0 : va_P G.1 dm_cl wc H := fun k q hk => by obtain ⟨i, -, hi⟩ := va_in_of isC hC hk; exact hP i q hi
  exact dm_back3 (va_runV (As := As) (rest := rest) ⟨hx, hb, hml, hown, hts⟩ (hM H.size) ⟨callB_of n hts (dm_goodC hco) rfl rfl rfl (hts _ hini) (hts _ hl) hd hR, hts _ hi, hts _ hse⟩ ⟨dm_blind, va_recv hK.1 hP0 hcl hrc, fun U hU hW => dm_pre hK hP hD hS hF isC hnC hC hU hW⟩ rfl hn hsz rfl (by simpa [JFrame.monitorRoom] using hrest) hdg hf) hP hD hS hF isC isR hC hRr hnR hdis kk
/-- the same, of a private method of a class of the nest -/
theorem dm_callVN {host : String} (B : dm_B p s m args meth c cc nL ret0 own nm G A) (As : List Value) (hM : dm_Ct l y bytes maxL ret rm G wc (.ref b :: As) Post)
    (hl : Cond.methodLinkNest own index y host ∈ dm_nw) (hi : Cond.instanceMethod y ∈ dm_gt) (hse : Cond.selects y.cls y y ∈ dm_gt) (hini : Cond.initialized y.cls ∈ dm_gt) (hco : Cond.code y bytes maxL ret ∈ dm_gt)
    (hd : y.cls ≠ "java/lang/invoke/MethodHandle" ∧ y.cls ≠ "java/lang/invoke/VarHandle" ∧ (parseMethodDescriptor y.desc).map (fun d => d.parameters.length) = some n) (hn : As.length = n) (hR : rm.frames + 1 ≤ R.frames ∧ 8 + (maxL + 11) + rm.locals ≤ R.locals)
    {ci N : Nat} {T : u_T} {fs : List Value} (kr : Nat) (hrc : wc[kr]? = some (b, .inr (ci, fs))) (hcl : dm_cl[ci]? = some (y.cls, T, N))
    (hP : va_P G.1 dm_cl w0 H) (hD : va_D A w0) (hS : va_S A s.heap H locs) (isC isR : List Nat) (hnC : va_nd isC = true) (hC : isC.map (fun i => w0[i]?) = wc.map some) (hRr : isR.map (fun i => w0[i]?) = wr.map some) (hnR : va_nd isR = true) (hdis : ∀ i ∈ isR, i ∉ isC)
    (hsz : ls.size = nL) (hst : st = As.reverse ++ .ref b :: rest) (hrest : (rest.map fun v => v.category).sum ≤ 8) (hdg : decode cc pc = .ok (.invokevirtual index, 3)) (hf : cells + rm.cells ≤ R.cells ∧ slots + rm.slots ≤ R.slots)
    (kk : ∀ (ov : Option Value) (w' : va_W) (H1 : Heap) (locs1 : List Loc), Post ov w' → va_P G.1 dm_cl (wr ++ w') H1 → va_D A (wr ++ w') → va_S A s.heap H1 locs1 → W p l e R s m args below meth c H1 locs1 (cells + rm.cells) (slots + rm.slots) Q (F0 m (pc + 3) ls (ov.toList ++ rest))) : W p l e R s m args below meth c H locs cells slots Q (F0 m pc ls st) := by
  obtain ⟨hx, hb, hml, hown, hts, hr, hlk, hnm, hK, hA⟩ := B
  have hF := va_free hD hS hA isC hC
  subst hst
  have hP0 : va_P G.1 dm_cl wc H := fun k q hk => by obtain ⟨i, -, hi⟩ := va_in_of isC hC hk; exact hP i q hi
  exact dm_back3 (va_runVN (As := As) (rest := rest) ⟨hx, hb, hml, hown, hts⟩ (hM H.size) ⟨va_cnB n hts (dm_goodC hco) rfl rfl rfl (hK.2.1 _ hl) (hts _ hini) hd hR, hts _ hi, hts _ hse⟩ ⟨dm_blind, va_recv hK.1 hP0 hcl hrc, fun U hU hW => dm_pre hK hP hD hS hF isC hnC hC hU hW⟩ rfl hn hsz rfl (by simpa [JFrame.monitorRoom] using hrest) hdg hf) hP hD hS hF isC isR hC hRr hnR hdis kk
/-- invokespecial of a constructor -/
theorem dm_callI (B : dm_B p s m args meth c cc nL ret0 own nm G A) (As : List Value) (hM : dm_Ct l y bytes maxL none rm G wc (.ref b :: As) Post)
    (hl : Cond.methodLink own index y ∈ dm_gt) (hi : Cond.instanceMethod y ∈ dm_gt) (hini : Cond.initialized y.cls ∈ dm_gt) (hco : Cond.code y bytes maxL none ∈ dm_gt) (hy1 : y.name = "<init>")
    (hd : y.cls ≠ "java/lang/invoke/MethodHandle" ∧ y.cls ≠ "java/lang/invoke/VarHandle" ∧ (parseMethodDescriptor y.desc).map (fun d => d.parameters.length) = some n) (hn : As.length = n) (hR : rm.frames + 1 ≤ R.frames ∧ 8 + (maxL + 11) + rm.locals ≤ R.locals)
    (hP : va_P G.1 dm_cl w0 H) (hD : va_D A w0) (hS : va_S A s.heap H locs) (isC isR : List Nat) (hnC : va_nd isC = true) (hC : isC.map (fun i => w0[i]?) = wc.map some) (hRr : isR.map (fun i => w0[i]?) = wr.map some) (hnR : va_nd isR = true) (hdis : ∀ i ∈ isR, i ∉ isC)
    (hsz : ls.size = nL) (hst : st = As.reverse ++ .ref b :: rest) (hrest : (rest.map fun v => v.category).sum ≤ 8) (hdg : decode cc pc = .ok (.invokespecial index, 3)) (hf : cells + rm.cells ≤ R.cells ∧ slots + rm.slots ≤ R.slots)
    (kk : ∀ (ov : Option Value) (w' : va_W) (H1 : Heap) (locs1 : List Loc), Post ov w' → va_P G.1 dm_cl (wr ++ w') H1 → va_D A (wr ++ w') → va_S A s.heap H1 locs1 → W p l e R s m args below meth c H1 locs1 (cells + rm.cells) (slots + rm.slots) Q (F0 m (pc + 3) ls (ov.toList ++ rest))) : W p l e R s m args below meth c H locs cells slots Q (F0 m pc ls st) := by
  obtain ⟨hx, hb, hml, hown, hts, hr, hlk, hnm, hK, hA⟩ := B
  have hF := va_free hD hS hA isC hC
  subst hst
  exact dm_back3 (va_runI (As := As) (rest := rest) ⟨hx, hb, hml, hown, hts⟩ (hM H.size) ⟨callB_of n hts (dm_goodC hco) rfl rfl rfl (hts _ hini) (hts _ hl) hd hR, hy1, hts _ hi⟩ ⟨dm_blind, fun U hU hW => dm_pre hK hP hD hS hF isC hnC hC hU hW⟩ rfl hn hsz rfl (by simpa [JFrame.monitorRoom] using hrest) hdg hf) hP hD hS hF isC isR hC hRr hnR hdis kk
theorem dm_callIN {host : String} (B : dm_B p s m args meth c cc nL ret0 own nm G A) (As : List Value) (hM : dm_Ct l y bytes maxL none rm G wc (.ref b :: As) Post)
    (hl : Cond.methodLinkNest own index y host ∈ dm_nw) (hi : Cond.instanceMethod y ∈ dm_gt) (hini : Cond.initialized y.cls ∈ dm_gt) (hco : Cond.code y bytes maxL none ∈ dm_gt) (hy1 : y.name = "<init>")
    (hd : y.cls ≠ "java/lang/invoke/MethodHandle" ∧ y.cls ≠ "java/lang/invoke/VarHandle" ∧ (parseMethodDescriptor y.desc).map (fun d => d.parameters.length) = some n) (hn : As.length = n) (hR : rm.frames + 1 ≤ R.frames ∧ 8 + (maxL + 11) + rm.locals ≤ R.locals)
    (hP : va_P G.1 dm_cl w0 H) (hD : va_D A w0) (hS : va_S A s.heap H locs) (isC isR : List Nat) (hnC : va_nd isC = true) (hC : isC.map (fun i => w0[i]?) = wc.map some) (hRr : isR.map (fun i => w0[i]?) = wr.map some) (hnR : va_nd isR = true) (hdis : ∀ i ∈ isR, i ∉ isC)
    (hsz : ls.size = nL) (hst : st = As.reverse ++ .ref b :: rest) (hrest : (rest.map fun v => v.category).sum ≤ 8) (hdg : decode cc pc = .ok (.invokespecial index, 3)) (hf : cells + rm.cells ≤ R.cells ∧ slots + rm.slots ≤ R.slots)
    (kk : ∀ (ov : Option Value) (w' : va_W) (H1 : Heap) (locs1 : List Loc), Post ov w' → va_P G.1 dm_cl (wr ++ w') H1 → va_D A (wr ++ w') → va_S A s.heap H1 locs1 → W p l e R s m args below meth c H1 locs1 (cells + rm.cells) (slots + rm.slots) Q (F0 m (pc + 3) ls (ov.toList ++ rest))) : W p l e R s m args below meth c H locs cells slots Q (F0 m pc ls st) := by
  obtain ⟨hx, hb, hml, hown, hts, hr, hlk, hnm, hK, hA⟩ := B
  have hF := va_free hD hS hA isC hC
  subst hst
  exact dm_back3 (va_runIN (As := As) (rest := rest) ⟨hx, hb, hml, hown, hts⟩ (hM H.size) ⟨va_cnB n hts (dm_goodC hco) rfl rfl rfl (hK.2.1 _ hl) (hts _ hini) hd hR, hy1, hts _ hi⟩ ⟨dm_blind, fun U hU hW => dm_pre hK hP hD hS hF isC hnC hC hU hW⟩ rfl hn hsz rfl (by simpa [JFrame.monitorRoom] using hrest) hdg hf) hP hD hS hF isC isR hC hRr hnR hdis kk
/-- invokestatic -/
theorem dm_callS (B : dm_B p s m args meth c cc nL ret0 own nm G A) (As : List Value) (hM : dm_Ct l y bytes maxL ret rm G wc As Post)
    (hl : Cond.methodLink own index y ∈ dm_gt) (hi : Cond.static y ∈ dm_gt) (hini : Cond.initialized y.cls ∈ dm_gt) (hco : Cond.code y bytes maxL ret ∈ dm_gt)
    (hd : y.cls ≠ "java/lang/invoke/MethodHandle" ∧ y.cls ≠ "java/lang/invoke/VarHandle" ∧ (parseMethodDescriptor y.desc).map (fun d => d.parameters.length) = some n) (hn : As.length = n) (hR : rm.frames + 1 ≤ R.frames ∧ 8 + (maxL + 11) + rm.locals ≤ R.locals)
    (hP : va_P G.1 dm_cl w0 H) (hD : va_D A w0) (hS : va_S A s.heap H locs) (isC isR : List Nat) (hnC : va_nd isC = true) (hC : isC.map (fun i => w0[i]?) = wc.map some) (hRr : isR.map (fun i => w0[i]?) = wr.map some) (hnR : va_nd isR = true) (hdis : ∀ i ∈ isR, i ∉ isC)
    (hsz : ls.size = nL) (hst : st = As.reverse ++ rest) (hrest : (rest.map fun v => v.category).sum ≤ 8) (hdg : decode cc pc = .ok (.invokestatic index, 3)) (hf : cells + rm.cells ≤ R.cells ∧ slots + rm.slots ≤ R.slots)
    (kk : ∀ (ov : Option Value) (w' : va_W) (H1 : Heap) (locs1 : List Loc), Post ov w' → va_P G.1 dm_cl (wr ++ w') H1 → va_D A (wr ++ w') → va_S A s.heap H1 locs1 → W p l e R s m args below meth c H1 locs1 (cells + rm.cells) (slots + rm.slots) Q (F0 m (pc + 3) ls (ov.toList ++ rest))) : W p l e R s m args below meth c H locs cells slots Q (F0 m pc ls st) := by
  obtain ⟨hx, hb, hml, hown, hts, hr, hlk, hnm, hK, hA⟩ := B
  have hF := va_free hD hS hA isC hC
  subst hst
  exact dm_back3 (va_runS (As := As) (rest := rest) ⟨hx, hb, hml, hown, hts⟩ (hM H.size) ⟨callB_of n hts (dm_goodC hco) rfl rfl rfl (hts _ hini) (hts _ hl) hd hR, hts _ hi⟩ ⟨dm_blind, fun U hU hW => dm_pre hK hP hD hS hF isC hnC hC hU hW⟩ rfl hn hsz rfl (by simpa [JFrame.monitorRoom] using hrest) hdg hf) hP hD hS hF isC isR hC hRr hnR hdis kk
/-- invokeinterface on a receiver of class C -/
theorem dm_callF {x : MethodName} {C : String} {count : Nat} (B : dm_B p s m args meth c cc nL ret0 own nm G A) (As : List Value) (hM : dm_Ct l y bytes maxL ret rm G wc (.ref b :: As) Post)
    (hl : Cond.methodLink own index x ∈ dm_gt) (hi : Cond.instanceMethod y ∈ dm_gt) (hse : Cond.selects C x y ∈ dm_gt) (hini : Cond.initialized y.cls ∈ dm_gt) (hco : Cond.code y bytes maxL ret ∈ dm_gt) (hfw : (C, x, y) ∈ dm_fwl)
    (hd : (parseMethodDescriptor x.desc).map (fun d => d.parameters.length) = some n) (hn : As.length = n) (hR : rm.frames + 1 ≤ R.frames ∧ 8 + (maxL + 11) + rm.locals ≤ R.locals)
    {ci N : Nat} {T : u_T} {fs : List Value} (kr : Nat) (hrc : wc[kr]? = some (b, .inr (ci, fs))) (hcl : dm_cl[ci]? = some (C, T, N))
    (hP : va_P G.1 dm_cl w0 H) (hD : va_D A w0) (hS : va_S A s.heap H locs) (isC isR : List Nat) (hnC : va_nd isC = true) (hC : isC.map (fun i => w0[i]?) = wc.map some) (hRr : isR.map (fun i => w0[i]?) = wr.map some) (hnR : va_nd isR = true) (hdis : ∀ i ∈ isR, i ∉ isC)
    (hsz : ls.size = nL) (hst : st = As.reverse ++ .ref b :: rest) (hrest : (rest.map fun v => v.category).sum ≤ 8) (hdg : decode cc pc = .ok (.invokeinterface index count, 5)) (hf : cells + rm.cells ≤ R.cells ∧ slots + rm.slots ≤ R.slots)
    (kk : ∀ (ov : Option Value) (w' : va_W) (H1 : Heap) (locs1 : List Loc), Post ov w' → va_P G.1 dm_cl (wr ++ w') H1 → va_D A (wr ++ w') → va_S A s.heap H1 locs1 → W p l e R s m args below meth c H1 locs1 (cells + rm.cells) (slots + rm.slots) Q (F0 m (pc + 5) ls (ov.toList ++ rest))) : W p l e R s m args below meth c H locs cells slots Q (F0 m pc ls st) := by
  obtain ⟨hx, hb, hml, hown, hts, hr, hlk, hnm, hK, hA⟩ := B
  have hF := va_free hD hS hA isC hC
  subst hst
  have hP0 : va_P G.1 dm_cl wc H := fun k q hk => by obtain ⟨i, -, hi⟩ := va_in_of isC hC hk; exact hP i q hi
  have hG : GoodIn dm_gt (va_wsF own index C x y (Cond.code y bytes maxL ret :: dm_gt)) := by
    intro w hw
    rcases List.mem_append.mp hw with h | h
    · have hm : w ∈ dm_gt := by
        simp only [List.mem_cons, List.not_mem_nil, or_false] at h
        rcases h with rfl | rfl | rfl | rfl
        · exact hl
        · exact hse
        · exact hi
        · exact hini
      exact ⟨hm, dm_gtGood _ hm⟩
    · exact dm_goodC hco w h
  exact dm_back5 (va_runF (As := As) (rest := rest) (hK.1.1 ci _ hcl).2 ⟨hx, hb, hml, hown, hts⟩ (hM H.size) (va_cwF n hts hG rfl rfl rfl (hK.2.2.1 _ hfw) ⟨(dm_fwx _ hfw).1, (dm_fwx _ hfw).2, hd⟩ hR) ⟨dm_blind, va_recv hK.1 hP0 hcl hrc, fun U hU hW => dm_pre hK hP hD hS hF isC hnC hC hU hW⟩ rfl hn hsz rfl (by simpa [JFrame.monitorRoom] using hrest) hdg hf) hP hD hS hF isC isR hC hRr hnR hdis kk
/-- returns -/
theorem dm_ret {v : Int32} {ty : FieldType} {mc ms : Nat} {w' : va_W} (B : dm_B p s m args meth c cc nL (some ty) own nm G A) (hn : narrow ty (.int v) = .int v) (hdg : decode cc pc = .ok (.ireturn, 1)) (hc : cells ≤ mc) (hs : slots ≤ ms) (hP : va_P G.1 dm_cl w' H) (hD : va_D A w') (hS : va_S A s.heap H locs) (hPost : Post (some (.int v)) w') : W p l e R s m args below meth c H locs cells slots (dm_Z below G s args A mc ms Post) (F0 m pc ls [.int v]) := by
  obtain ⟨hx, hb, hml, hown, hts, hr, hlk, hnm, hK, hA⟩ := B
  exact W.widen hc hs (W.zret hx hb hr hn (fun t ht hW => ⟨⟨_, w', rfl, hPost, by rw [ht]; exact hP, hD⟩, hS.F ht⟩) hS.2.2 hdg hlk)
theorem dm_retv {mc ms : Nat} {w' : va_W} (B : dm_B p s m args meth c cc nL none own nm G A) (hdg : decode cc pc = .ok (.return_, 1)) (hc : cells ≤ mc) (hs : slots ≤ ms) (hP : va_P G.1 dm_cl w' H) (hD : va_D A w') (hS : va_S A s.heap H locs) (hPost : Post none w') : W p l e R s m args below meth c H locs cells slots (dm_Z below G s args A mc ms Post) (F0 m pc ls []) := by
  obtain ⟨hx, hb, hml, hown, hts, hr, hlk, hnm, hK, hA⟩ := B
  exact W.widen hc hs (W.vret hx hb hr (fun t ht hW => ⟨⟨_, w', rfl, hPost, by rw [ht]; exact hP, hD⟩, hS.F ht⟩) hS.2.2 hdg hlk)
theorem dm_reta {v : Value} {rt : FieldType} {mc ms : Nat} {w' : va_W} (B : dm_B p s m args meth c cc nL (some rt) own nm G A) (hrt : (∃ n, rt = .object n) ∨ ∃ t, rt = .array t) (hv : v = .null ∨ ∃ a, v = .ref a) (hdg : decode cc pc = .ok (.areturn, 1)) (hc : cells ≤ mc) (hs : slots ≤ ms) (hP : va_P G.1 dm_cl w' H) (hD : va_D A w') (hS : va_S A s.heap H locs) (hPost : Post (some v) w') : W p l e R s m args below meth c H locs cells slots (dm_Z below G s args A mc ms Post) (F0 m pc ls [v]) := by
  obtain ⟨hx, hb, hml, hown, hts, hr, hlk, hnm, hK, hA⟩ := B
  exact W.widen hc hs (W.aret hx hb hr hrt hv (fun t ht hW => ⟨⟨_, w', rfl, hPost, by rw [ht]; exact hP, hD⟩, hS.F ht⟩) hS.2.2 hdg hlk)
end dm_calls
