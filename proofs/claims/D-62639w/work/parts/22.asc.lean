section aw_tail
variable {p : Program} {l : Launch} {e : Env} {R : Room} {s : State} {m : MethodId} {args : Array Value} {below : List Frame} {meth : Method} {c : Code} {H : Heap} {locs : List Loc} {cells slots : Nat} {Q : State → Prop}
variable {cc : ByteArray} {nL : Nat} {ret0 : Option FieldType} {own nm : String} {G : dm_G} {A : Nat → Prop} {pc : Nat} {ls : Array Slot} {rest : List Value} {index : Nat}
variable {g : Nat → Nat} {Y : aK} {t : Nat → Nat → Int32} {T : va_W} {K : aK} {v : Nat → Int32} {f : Nat → Nat → Int32} {u : Nat → Nat → Int32} {la : Nat → Option Nat}
/-- the assembler's own part -/
def awp (G : dm_G) (g : Nat → Nat) (Y : aK) (t : Nat → Nat → Int32) (K : aK) (v : Nat → Int32) (f : Nat → Nat → Int32) (u : Nat → Nat → Int32) (la : Nat → Option Nat) : va_W := aw G g Y t [] K v f u la
theorem aw_pre : aw G g Y t T K v f u la = awp G g Y t K v f u la ++ T := by simp [aw, awp]
theorem aw_tl {x : Nat × va_E} {k : Nat} (h : T[k]? = some x) : (aw G g Y t T K v f u la)[(awp G g Y t K v f u la).length + k]? = some x := by
  rw [aw_pre, List.getElem?_append_right (Nat.le_add_right _ _), Nat.add_sub_cancel_left]
  exact h
theorem aw_ts {x : Nat × va_E} {k : Nat} : (aw G g Y t T K v f u la).set ((awp G g Y t K v f u la).length + k) x = aw G g Y t (T.set k x) K v f u la := by
  rw [aw_pre, aw_pre, List.set_append_right _ _ (Nat.le_add_right _ _), Nat.add_sub_cancel_left]

theorem aw_os {o : Nat} {od : Nat → Nat → Int32} {F : Nat → Int32} (B : dm_B p s m args meth c cc nL ret0 own nm G A) (hP : va_P G.1 dm_cl (aw G g Y t ((o, .inl (G.2.1 0, 64, .inl (od 0))) :: T) K v f u la) H) (hD : va_D A (aw G g Y t ((o, .inl (G.2.1 0, 64, .inl (od 0))) :: T) K v f u la)) (hS : va_S A s.heap H locs) (hf : od 0 = F) {i x : Int32} (hin : vp_in i 64) (hdg : decode cc pc = .ok (.iastore, 1))
    (kk : ∀ (H1 : Heap) (locs1 : List Loc), va_P G.1 dm_cl (aw G g Y t ((o, .inl (G.2.1 0, 64, .inl ((va_up od 0 (upd F i.toNatClampNeg x)) 0))) :: T) K v f u la) H1 → va_D A (aw G g Y t ((o, .inl (G.2.1 0, 64, .inl ((va_up od 0 (upd F i.toNatClampNeg x)) 0))) :: T) K v f u la) → va_S A s.heap H1 locs1 → W p l e R s m args below meth c H1 locs1 cells slots Q (F0 m (pc + 1) ls rest)) : W p l e R s m args below meth c H locs cells slots Q (F0 m pc ls (.int x :: .int i :: .ref o :: rest)) := by
  subst hf
  refine dm_iast (f := od 0) B hP hD hS ((awp G g Y t K v f u la).length + 0) (aw_tl rfl) hin hdg (fun H1 locs1 h1 h2 h3 => ?_)
  rw [aw_ts] at h1 h2
  exact kk H1 locs1 h1 h2 h3
end aw_tail
abbrev b_As_keep : ByteArray := prog_2_method_12_code
abbrev y_As_keep : MethodName := { cls := "DelayMachine$Assembler", name := "keep", desc := "([I)V" }
theorem d_As_keep_0 : decode b_As_keep 0 = .ok (.iconst 0, 1) := by decide +kernel
theorem d_As_keep_1 : decode b_As_keep 1 = .ok (.istore_n 2, 1) := by decide +kernel
theorem d_As_keep_2 : decode b_As_keep 2 = .ok (.iload_n 2, 1) := by decide +kernel
theorem d_As_keep_3 : decode b_As_keep 3 = .ok (.bipush (64), 2) := by decide +kernel
theorem d_As_keep_5 : decode b_As_keep 5 = .ok (.if_icmp .ge (14), 3) := by decide +kernel
theorem d_As_keep_8 : decode b_As_keep 8 = .ok (.aload_n 1, 1) := by decide +kernel
theorem d_As_keep_9 : decode b_As_keep 9 = .ok (.iload_n 2, 1) := by decide +kernel
theorem d_As_keep_10 : decode b_As_keep 10 = .ok (.ldc 139, 2) := by decide +kernel
theorem d_As_keep_12 : decode b_As_keep 12 = .ok (.iastore, 1) := by decide +kernel
theorem d_As_keep_13 : decode b_As_keep 13 = .ok (.iinc 2 (1), 3) := by decide +kernel
theorem d_As_keep_16 : decode b_As_keep 16 = .ok (.goto (-14), 3) := by decide +kernel
theorem d_As_keep_19 : decode b_As_keep 19 = .ok (.iconst 0, 1) := by decide +kernel
theorem d_As_keep_20 : decode b_As_keep 20 = .ok (.istore_n 2, 1) := by decide +kernel
theorem d_As_keep_21 : decode b_As_keep 21 = .ok (.iload_n 2, 1) := by decide +kernel
theorem d_As_keep_22 : decode b_As_keep 22 = .ok (.aload_n 0, 1) := by decide +kernel
theorem d_As_keep_23 : decode b_As_keep 23 = .ok (.getfield 41, 3) := by decide +kernel
theorem d_As_keep_26 : decode b_As_keep 26 = .ok (.if_icmp .ge (57), 3) := by decide +kernel
theorem d_As_keep_29 : decode b_As_keep 29 = .ok (.aload_n 1, 1) := by decide +kernel
theorem d_As_keep_30 : decode b_As_keep 30 = .ok (.bipush (32), 2) := by decide +kernel
theorem d_As_keep_32 : decode b_As_keep 32 = .ok (.aload_n 0, 1) := by decide +kernel
theorem d_As_keep_33 : decode b_As_keep 33 = .ok (.getfield 18, 3) := by decide +kernel
theorem d_As_keep_36 : decode b_As_keep 36 = .ok (.iload_n 2, 1) := by decide +kernel
theorem d_As_keep_37 : decode b_As_keep 37 = .ok (.invokevirtual 56, 3) := by decide +kernel
theorem d_As_keep_40 : decode b_As_keep 40 = .ok (.checkcast 49, 3) := by decide +kernel
theorem d_As_keep_43 : decode b_As_keep 43 = .ok (.getfield 134, 3) := by decide +kernel
theorem d_As_keep_46 : decode b_As_keep 46 = .ok (.imul, 1) := by decide +kernel
theorem d_As_keep_47 : decode b_As_keep 47 = .ok (.aload_n 0, 1) := by decide +kernel
theorem d_As_keep_48 : decode b_As_keep 48 = .ok (.getfield 18, 3) := by decide +kernel
theorem d_As_keep_51 : decode b_As_keep 51 = .ok (.iload_n 2, 1) := by decide +kernel
theorem d_As_keep_52 : decode b_As_keep 52 = .ok (.invokevirtual 56, 3) := by decide +kernel
theorem d_As_keep_55 : decode b_As_keep 55 = .ok (.checkcast 49, 3) := by decide +kernel
theorem d_As_keep_58 : decode b_As_keep 58 = .ok (.getfield 137, 3) := by decide +kernel
theorem d_As_keep_61 : decode b_As_keep 61 = .ok (.iadd, 1) := by decide +kernel
theorem d_As_keep_62 : decode b_As_keep 62 = .ok (.aload_n 0, 1) := by decide +kernel
theorem d_As_keep_63 : decode b_As_keep 63 = .ok (.getfield 18, 3) := by decide +kernel
theorem d_As_keep_66 : decode b_As_keep 66 = .ok (.iload_n 2, 1) := by decide +kernel
theorem d_As_keep_67 : decode b_As_keep 67 = .ok (.invokevirtual 56, 3) := by decide +kernel
theorem d_As_keep_70 : decode b_As_keep 70 = .ok (.checkcast 49, 3) := by decide +kernel
theorem d_As_keep_73 : decode b_As_keep 73 = .ok (.getfield 98, 3) := by decide +kernel
theorem d_As_keep_76 : decode b_As_keep 76 = .ok (.iastore, 1) := by decide +kernel
theorem d_As_keep_77 : decode b_As_keep 77 = .ok (.iinc 2 (1), 3) := by decide +kernel
theorem d_As_keep_80 : decode b_As_keep 80 = .ok (.goto (-59), 3) := by decide +kernel
theorem d_As_keep_83 : decode b_As_keep 83 = .ok (.iconst 0, 1) := by decide +kernel
theorem d_As_keep_84 : decode b_As_keep 84 = .ok (.istore_n 2, 1) := by decide +kernel
theorem d_As_keep_85 : decode b_As_keep 85 = .ok (.iload_n 2, 1) := by decide +kernel
theorem d_As_keep_86 : decode b_As_keep 86 = .ok (.bipush (16), 2) := by decide +kernel
theorem d_As_keep_88 : decode b_As_keep 88 = .ok (.if_icmp .ge (21), 3) := by decide +kernel
theorem d_As_keep_91 : decode b_As_keep 91 = .ok (.aload_n 0, 1) := by decide +kernel
theorem d_As_keep_92 : decode b_As_keep 92 = .ok (.getfield 32, 3) := by decide +kernel
theorem d_As_keep_95 : decode b_As_keep 95 = .ok (.iload_n 2, 1) := by decide +kernel
theorem d_As_keep_96 : decode b_As_keep 96 = .ok (.aload_n 0, 1) := by decide +kernel
theorem d_As_keep_97 : decode b_As_keep 97 = .ok (.getfield 25, 3) := by decide +kernel
theorem d_As_keep_100 : decode b_As_keep 100 = .ok (.iload_n 2, 1) := by decide +kernel
theorem d_As_keep_101 : decode b_As_keep 101 = .ok (.iaload, 1) := by decide +kernel
theorem d_As_keep_102 : decode b_As_keep 102 = .ok (.iastore, 1) := by decide +kernel
theorem d_As_keep_103 : decode b_As_keep 103 = .ok (.iinc 2 (1), 3) := by decide +kernel
theorem d_As_keep_106 : decode b_As_keep 106 = .ok (.goto (-21), 3) := by decide +kernel
theorem d_As_keep_109 : decode b_As_keep 109 = .ok (.iconst 0, 1) := by decide +kernel
theorem d_As_keep_110 : decode b_As_keep 110 = .ok (.istore_n 2, 1) := by decide +kernel
theorem d_As_keep_111 : decode b_As_keep 111 = .ok (.iload_n 2, 1) := by decide +kernel
theorem d_As_keep_112 : decode b_As_keep 112 = .ok (.bipush (12), 2) := by decide +kernel
theorem d_As_keep_114 : decode b_As_keep 114 = .ok (.if_icmp .ge (36), 3) := by decide +kernel
theorem d_As_keep_117 : decode b_As_keep 117 = .ok (.aload_n 0, 1) := by decide +kernel
theorem d_As_keep_118 : decode b_As_keep 118 = .ok (.getfield 35, 3) := by decide +kernel
theorem d_As_keep_121 : decode b_As_keep 121 = .ok (.iload_n 2, 1) := by decide +kernel
theorem d_As_keep_122 : decode b_As_keep 122 = .ok (.iload_n 2, 1) := by decide +kernel
theorem d_As_keep_123 : decode b_As_keep 123 = .ok (.aload_n 0, 1) := by decide +kernel
theorem d_As_keep_124 : decode b_As_keep 124 = .ok (.getfield 12, 3) := by decide +kernel
theorem d_As_keep_127 : decode b_As_keep 127 = .ok (.invokevirtual 45, 3) := by decide +kernel
theorem d_As_keep_130 : decode b_As_keep 130 = .ok (.if_icmp .ge (12), 3) := by decide +kernel
theorem d_As_keep_133 : decode b_As_keep 133 = .ok (.aload_n 0, 1) := by decide +kernel
theorem d_As_keep_134 : decode b_As_keep 134 = .ok (.getfield 29, 3) := by decide +kernel
theorem d_As_keep_137 : decode b_As_keep 137 = .ok (.iload_n 2, 1) := by decide +kernel
theorem d_As_keep_138 : decode b_As_keep 138 = .ok (.iaload, 1) := by decide +kernel
theorem d_As_keep_139 : decode b_As_keep 139 = .ok (.goto (4), 3) := by decide +kernel
theorem d_As_keep_142 : decode b_As_keep 142 = .ok (.iconst (-1), 1) := by decide +kernel
theorem d_As_keep_143 : decode b_As_keep 143 = .ok (.iastore, 1) := by decide +kernel
theorem d_As_keep_144 : decode b_As_keep 144 = .ok (.iinc 2 (1), 3) := by decide +kernel
theorem d_As_keep_147 : decode b_As_keep 147 = .ok (.goto (-36), 3) := by decide +kernel
theorem d_As_keep_150 : decode b_As_keep 150 = .ok (.return_, 1) := by decide +kernel
theorem hd_As_keep : y_As_keep.cls ≠ "java/lang/invoke/MethodHandle" ∧ y_As_keep.cls ≠ "java/lang/invoke/VarHandle" ∧ (parseMethodDescriptor y_As_keep.desc).map (fun d => d.parameters.length) = some 1 := by decide +kernel
abbrev rm_As_keep : Room := { frames := 3, cells := 0, slots := 0, locals := 64 }
def F_As_keep_143 (t : Nat → Nat → Int32)  (k111 : Int32 → (Nat → Int32) → (Nat → Nat → Int32) → (Nat → Nat → Int32) → (Nat → Option Nat) → (Nat → Nat → Int32) → Option ((Nat → Int32) × (Nat → Nat → Int32) × (Nat → Nat → Int32) × (Nat → Option Nat) × (Nat → Nat → Int32))) (l2 : Int32) (s1 : Int32) (s2 : Int32) (v : Nat → Int32) (f : Nat → Nat → Int32) (u : Nat → Nat → Int32) (la : Nat → Option Nat) (od : Nat → Nat → Int32) : Option ((Nat → Int32) × (Nat → Nat → Int32) × (Nat → Nat → Int32) × (Nat → Option Nat) × (Nat → Nat → Int32)) := (if s1 < 0 ∨ 12 ≤ s1.toNatClampNeg then none else (k111 (l2 + (1 : Int32)) v (va_up f 7 (upd (f 7) s1.toNatClampNeg s2)) u la od))
def F_As_keep_111 (t : Nat → Nat → Int32)   : Nat → Int32 → (Nat → Int32) → (Nat → Nat → Int32) → (Nat → Nat → Int32) → (Nat → Option Nat) → (Nat → Nat → Int32) → Option ((Nat → Int32) × (Nat → Nat → Int32) × (Nat → Nat → Int32) × (Nat → Option Nat) × (Nat → Nat → Int32))
  | 0, _, _, _, _, _, _ => none
  | n + 1, l2, v, f, u, la, od => (if (12 : Int32) ≤ l2 then (some (v, f, u, la, od)) else (Option.bind (F_AL_size_s t   v f u la) (fun z1 => (if z1 ≤ l2 then (F_As_keep_143 t (F_As_keep_111 t n) l2 l2 (-1 : Int32) v f u la od) else (if l2 < 0 ∨ 12 ≤ l2.toNatClampNeg then none else (F_As_keep_143 t (F_As_keep_111 t n) l2 l2 ((f 5) l2.toNatClampNeg) v f u la od))))))
def F_As_keep_85 (t : Nat → Nat → Int32)   : Nat → Int32 → (Nat → Int32) → (Nat → Nat → Int32) → (Nat → Nat → Int32) → (Nat → Option Nat) → (Nat → Nat → Int32) → Option ((Nat → Int32) × (Nat → Nat → Int32) × (Nat → Nat → Int32) × (Nat → Option Nat) × (Nat → Nat → Int32))
  | 0, _, _, _, _, _, _ => none
  | n + 1, l2, v, f, u, la, od => (if (16 : Int32) ≤ l2 then (F_As_keep_111 t 100 (0 : Int32) v f u la od) else (if l2 < 0 ∨ 16 ≤ l2.toNatClampNeg then none else (if l2 < 0 ∨ 16 ≤ l2.toNatClampNeg then none else (F_As_keep_85 t n (l2 + (1 : Int32)) v (va_up f 6 (upd (f 6) l2.toNatClampNeg ((f 4) l2.toNatClampNeg))) u la od))))
def F_As_keep_21 (t : Nat → Nat → Int32)   : Nat → Int32 → (Nat → Int32) → (Nat → Nat → Int32) → (Nat → Nat → Int32) → (Nat → Option Nat) → (Nat → Nat → Int32) → Option ((Nat → Int32) × (Nat → Nat → Int32) × (Nat → Nat → Int32) × (Nat → Option Nat) × (Nat → Nat → Int32))
  | 0, _, _, _, _, _, _ => none
  | n + 1, l2, v, f, u, la, od => (if (v 2) ≤ l2 then (F_As_keep_85 t 100 (0 : Int32) v f u la od) else (Option.bind (F_AL_get_p t  l2 v f u la) (fun z1 => (if (v 20).toNatClampNeg ≤ z1 then none else (if (v 20).toNatClampNeg ≤ z1 then none else (Option.bind (F_AL_get_p t  l2 v f u la) (fun z2 => (if (v 20).toNatClampNeg ≤ z2 then none else (if (v 20).toNatClampNeg ≤ z2 then none else (Option.bind (F_AL_get_p t  l2 v f u la) (fun z3 => (if (v 20).toNatClampNeg ≤ z3 then none else (if (v 20).toNatClampNeg ≤ z3 then none else (if (((32 : Int32) * (u z1 0)) + (u z2 1)) < 0 ∨ 64 ≤ (((32 : Int32) * (u z1 0)) + (u z2 1)).toNatClampNeg then none else (F_As_keep_21 t n (l2 + (1 : Int32)) v f u la (va_up od 0 (upd (od 0) (((32 : Int32) * (u z1 0)) + (u z2 1)).toNatClampNeg (u z3 2))))))))))))))))))
def F_As_keep_2 (t : Nat → Nat → Int32)   : Nat → Int32 → (Nat → Int32) → (Nat → Nat → Int32) → (Nat → Nat → Int32) → (Nat → Option Nat) → (Nat → Nat → Int32) → Option ((Nat → Int32) × (Nat → Nat → Int32) × (Nat → Nat → Int32) × (Nat → Option Nat) × (Nat → Nat → Int32))
  | 0, _, _, _, _, _, _ => none
  | n + 1, l2, v, f, u, la, od => (if (64 : Int32) ≤ l2 then (F_As_keep_21 t 100 (0 : Int32) v f u la od) else (if l2 < 0 ∨ 64 ≤ l2.toNatClampNeg then none else (F_As_keep_2 t n (l2 + (1 : Int32)) v f u la (va_up od 0 (upd (od 0) l2.toNatClampNeg (1015824 : Int32))))))
def F_As_keep (t : Nat → Nat → Int32)  (v0 : Nat → Int32) (f0 : Nat → Nat → Int32) (u0 : Nat → Nat → Int32) (la0 : Nat → Option Nat) (od0 : Nat → Nat → Int32) : Option ((Nat → Int32) × (Nat → Nat → Int32) × (Nat → Nat → Int32) × (Nat → Option Nat) × (Nat → Nat → Int32)) := (F_As_keep_2 t 100 (0 : Int32) v0 f0 u0 la0 od0)
set_option maxHeartbeats 4000000 in
set_option maxRecDepth 100000 in
theorem c_As_keep (l : Launch) (G : dm_G) (g : Nat → Nat) (Y : aK) (t : Nat → Nat → Int32) (T : va_W) (K : aK) (o : Nat) (v0 : Nat → Int32) (f0 : Nat → Nat → Int32) (u0 : Nat → Nat → Int32) (la0 : Nat → Option Nat) (od0 : Nat → Nat → Int32) (RES : (Nat → Int32) × (Nat → Nat → Int32) × (Nat → Nat → Int32) × (Nat → Option Nat) × (Nat → Nat → Int32)) (hY : okA G Y (v0 21)) (hk : okA G K (v0 20)) (hF : F_As_keep t v0 f0 u0 la0 od0 = some RES) : dm_Ct l y_As_keep b_As_keep 3 none rm_As_keep G (aw G g Y t ((o, .inl (G.2.1 0, 64, .inl (od0 0))) :: T) K v0 f0 u0 la0) [.ref (g 91), .ref o] (fun ov w' => okA G Y (RES.1 21) ∧ okA G K (RES.1 20) ∧ extP K K (v0 20) (RES.1 20) ∧ ov = none ∧ w' = (aw G g Y t ((o, .inl (G.2.1 0, 64, .inl (RES.2.2.2.2 0))) :: T) K RES.1 RES.2.1 RES.2.2.1 RES.2.2.2.1)) := by
  refine dm_Ct.of (by decide +kernel) (Nat.le_of_ble_eq_true rfl) ?_
  intro p e s m below meth c A ls B hl hP hD hS
  have hx := B.1
  have hb := B.2.1
  have hl : lv_has ls 3 [(0, .ref (g 91)), (1, .ref o)] := hl
  have hext : extP K K (v0 20) (v0 20) := extP.rf
  have K111 : ∀ (n111 : Nat) (ls : Array Slot) (H : Heap) (locs : List Loc) (l2 : Int32) (v : Nat → Int32) (f : Nat → Nat → Int32) (u : Nat → Nat → Int32) (la : Nat → Option Nat) (od : Nat → Nat → Int32), okA G Y (v 21) → okA G K (v 20) → extP K K (v0 20) (v 20) → lv_has ls 3 [(0, .ref (g 91)), (2, .int l2)] → va_P G.1 dm_cl (aw G g Y t ((o, .inl (G.2.1 0, 64, .inl (od 0))) :: T) K v f u la) H → va_D A (aw G g Y t ((o, .inl (G.2.1 0, 64, .inl (od 0))) :: T) K v f u la) → va_S A s.heap H locs → F_As_keep_111 t n111 l2 v f u la od = some RES → W p l e rm_As_keep s m ([.ref (g 91), .ref o] : List Value).toArray below meth c H locs 0 0 (dm_Z below G s ([.ref (g 91), .ref o] : List Value).toArray A rm_As_keep.cells rm_As_keep.slots (fun ov w' => okA G Y (RES.1 21) ∧ okA G K (RES.1 20) ∧ extP K K (v0 20) (RES.1 20) ∧ ov = none ∧ w' = (aw G g Y t ((o, .inl (G.2.1 0, 64, .inl (RES.2.2.2.2 0))) :: T) K RES.1 RES.2.1 RES.2.2.1 RES.2.2.2.1))) (F0 m 111 ls []) := by
    intro n111
    induction n111 with
    | zero => intro ls H locs l2 v f u la od hY hk hext hl hP hD hS hF; cases hF
    | succ n111 ih111 =>
      have K143 : ∀ (ls : Array Slot) (H : Heap) (locs : List Loc) (l2 : Int32) (s1 : Int32) (s2 : Int32) (v : Nat → Int32) (f : Nat → Nat → Int32) (u : Nat → Nat → Int32) (la : Nat → Option Nat) (od : Nat → Nat → Int32), okA G Y (v 21) → okA G K (v 20) → extP K K (v0 20) (v 20) → lv_has ls 3 [(0, .ref (g 91)), (2, .int l2)] → va_P G.1 dm_cl (aw G g Y t ((o, .inl (G.2.1 0, 64, .inl (od 0))) :: T) K v f u la) H → va_D A (aw G g Y t ((o, .inl (G.2.1 0, 64, .inl (od 0))) :: T) K v f u la) → va_S A s.heap H locs → F_As_keep_143 t (F_As_keep_111 t n111) l2 s1 s2 v f u la od = some RES → W p l e rm_As_keep s m ([.ref (g 91), .ref o] : List Value).toArray below meth c H locs 0 0 (dm_Z below G s ([.ref (g 91), .ref o] : List Value).toArray A rm_As_keep.cells rm_As_keep.slots (fun ov w' => okA G Y (RES.1 21) ∧ okA G K (RES.1 20) ∧ extP K K (v0 20) (RES.1 20) ∧ ov = none ∧ w' = (aw G g Y t ((o, .inl (G.2.1 0, 64, .inl (RES.2.2.2.2 0))) :: T) K RES.1 RES.2.1 RES.2.2.1 RES.2.2.2.1))) (F0 m 143 ls [.int s2, .int s1, .ref (g 107)]) := by
        intro ls H locs l2 s1 s2 v f u la od hY hk hext hl hP hD hS hF
        have hF : (if s1 < 0 ∨ 12 ≤ s1.toNatClampNeg then none else ((F_As_keep_111 t n111) (l2 + (1 : Int32)) v (va_up f 7 (upd (f 7) s1.toNatClampNeg s2)) u la od)) = some RES := hF
        obtain ⟨hi, hF⟩ := dm_chk hF
        refine aw_s_5 (F := (f 7)) B hP hD hS rfl hi d_As_keep_143 (fun H locs hP hD hS => ?_)
        refine lv_iinc (k := 1) (v := (l2 + (1 : Int32))) (lv' := [(2, .int (l2 + (1 : Int32))), (0, .ref (g 91))]) hx hb d_As_keep_144 hl rfl (congrArg (fun q => l2 + q) (by decide)) (Nat.le_of_ble_eq_true rfl) rfl (fun ls hl => ?_)
        have hl : lv_has ls 3 [(0, .ref (g 91)), (2, .int (l2 + (1 : Int32)))] := lv_sub hl [1, 0] rfl
        refine lv_goto (tgt := 111) hx hb d_As_keep_147 (by decide) ?_
        exact ih111 ls _ _ (l2 + (1 : Int32)) v (va_up f 7 (upd (f 7) s1.toNatClampNeg s2)) u la od hY hk hext (lv_sub hl [0, 1] rfl) hP hD hS hF
      intro ls H locs l2 v f u la od hY hk hext hl hP hD hS hF
      have hF : (if (12 : Int32) ≤ l2 then (some (v, f, u, la, od)) else (Option.bind (F_AL_size_s t   v f u la) (fun z1 => (if z1 ≤ l2 then (F_As_keep_143 t (F_As_keep_111 t n111) l2 l2 (-1 : Int32) v f u la od) else (if l2 < 0 ∨ 12 ≤ l2.toNatClampNeg then none else (F_As_keep_143 t (F_As_keep_111 t n111) l2 l2 ((f 5) l2.toNatClampNeg) v f u la od)))))) = some RES := hF
      refine lv_iload_n hx hb d_As_keep_111 rfl (lv_at hl 1 rfl) ?_
      refine lv_bipush (v := (12 : Int32)) hx hb d_As_keep_112 (by decide) ?_
      refine lv_icmp_ge (tgt := 150) hx hb d_As_keep_114 (by decide) (fun (hh : (12 : Int32) ≤ l2) => ?_) (fun (hh : ¬ (12 : Int32) ≤ l2) => ?_)
      · rw [if_pos hh] at hF
        have hF := Option.some.inj hF
        subst hF
        exact dm_retv B d_As_keep_150 (by show 0 ≤ 0; omega) (by show 0 ≤ 0; omega) hP hD hS ⟨hY, hk, hext, rfl, rfl⟩
      · rw [if_neg hh] at hF
        refine lv_aload_n hx hb d_As_keep_117 rfl (lv_at hl 0 rfl) ?_
        refine aw_g_0_7 B hP k_294 d_As_keep_118 ?_
        refine lv_iload_n hx hb d_As_keep_121 rfl (lv_at hl 1 rfl) ?_
        refine lv_iload_n hx hb d_As_keep_122 rfl (lv_at hl 1 rfl) ?_
        refine lv_aload_n hx hb d_As_keep_123 rfl (lv_at hl 0 rfl) ?_
        refine aw_g_0_0 B hP k_285 d_As_keep_124 ?_
        obtain ⟨z1, hcz1, hF⟩ := dm_bind hF
        refine dm_callVw B [] (c_AL_size_s l G g Y t ((o, .inl (G.2.1 0, 64, .inl (od 0))) :: T) K   v f u la z1 hY hk hcz1) k_602 k_493 k_494 k_13 k_495 hd_AL_size_s rfl ⟨by decide, by decide⟩ 6 rfl rfl hP hD hS hl.1 (rest := [.int l2, .int l2, .ref (g 107)]) rfl (Nat.le_of_ble_eq_true rfl) d_As_keep_127 ⟨(by show 0 + 0 ≤ 0; omega), (by show 0 + 0 ≤ 0; omega)⟩ (fun ov w' H locs hq hP hD hS => ?_)
        obtain ⟨rfl, rfl⟩ := hq
        have hP : va_P G.1 dm_cl (aw G g Y t ((o, .inl (G.2.1 0, 64, .inl (od 0))) :: T) K v f u la) H := hP
        have hD : va_D A (aw G g Y t ((o, .inl (G.2.1 0, 64, .inl (od 0))) :: T) K v f u la) := hD
        refine W.eq (g2 := F0 m 130 ls [.int z1, .int l2, .int l2, .ref (g 107)]) rfl ?_
        refine lv_icmp_ge (tgt := 142) hx hb d_As_keep_130 (by decide) (fun (hh : z1 ≤ l2) => ?_) (fun (hh : ¬ z1 ≤ l2) => ?_)
        · rw [if_pos hh] at hF
          refine lv_iconst (v := (-1 : Int32)) hx hb d_As_keep_142 (by decide) ?_
          exact K143 ls _ _ l2 l2 (-1 : Int32) v f u la od hY hk hext (lv_sub hl [0, 1] rfl) hP hD hS hF
        · rw [if_neg hh] at hF
          refine lv_aload_n hx hb d_As_keep_133 rfl (lv_at hl 0 rfl) ?_
          refine aw_g_0_5 B hP k_291 d_As_keep_134 ?_
          refine lv_iload_n hx hb d_As_keep_137 rfl (lv_at hl 1 rfl) ?_
          obtain ⟨hi, hF⟩ := dm_chk hF
          refine aw_a_3 (F := (f 5)) B hP rfl hi d_As_keep_138 ?_
          refine lv_goto (tgt := 143) hx hb d_As_keep_139 (by decide) ?_
          exact K143 ls _ _ l2 l2 ((f 5) l2.toNatClampNeg) v f u la od hY hk hext (lv_sub hl [0, 1] rfl) hP hD hS hF
  have K85 : ∀ (n85 : Nat) (ls : Array Slot) (H : Heap) (locs : List Loc) (l2 : Int32) (v : Nat → Int32) (f : Nat → Nat → Int32) (u : Nat → Nat → Int32) (la : Nat → Option Nat) (od : Nat → Nat → Int32), okA G Y (v 21) → okA G K (v 20) → extP K K (v0 20) (v 20) → lv_has ls 3 [(0, .ref (g 91)), (2, .int l2)] → va_P G.1 dm_cl (aw G g Y t ((o, .inl (G.2.1 0, 64, .inl (od 0))) :: T) K v f u la) H → va_D A (aw G g Y t ((o, .inl (G.2.1 0, 64, .inl (od 0))) :: T) K v f u la) → va_S A s.heap H locs → F_As_keep_85 t n85 l2 v f u la od = some RES → W p l e rm_As_keep s m ([.ref (g 91), .ref o] : List Value).toArray below meth c H locs 0 0 (dm_Z below G s ([.ref (g 91), .ref o] : List Value).toArray A rm_As_keep.cells rm_As_keep.slots (fun ov w' => okA G Y (RES.1 21) ∧ okA G K (RES.1 20) ∧ extP K K (v0 20) (RES.1 20) ∧ ov = none ∧ w' = (aw G g Y t ((o, .inl (G.2.1 0, 64, .inl (RES.2.2.2.2 0))) :: T) K RES.1 RES.2.1 RES.2.2.1 RES.2.2.2.1))) (F0 m 85 ls []) := by
    intro n85
    induction n85 with
    | zero => intro ls H locs l2 v f u la od hY hk hext hl hP hD hS hF; cases hF
    | succ n85 ih85 =>
      intro ls H locs l2 v f u la od hY hk hext hl hP hD hS hF
      have hF : (if (16 : Int32) ≤ l2 then (F_As_keep_111 t 100 (0 : Int32) v f u la od) else (if l2 < 0 ∨ 16 ≤ l2.toNatClampNeg then none else (if l2 < 0 ∨ 16 ≤ l2.toNatClampNeg then none else (F_As_keep_85 t n85 (l2 + (1 : Int32)) v (va_up f 6 (upd (f 6) l2.toNatClampNeg ((f 4) l2.toNatClampNeg))) u la od)))) = some RES := hF
      refine lv_iload_n hx hb d_As_keep_85 rfl (lv_at hl 1 rfl) ?_
      refine lv_bipush (v := (16 : Int32)) hx hb d_As_keep_86 (by decide) ?_
      refine lv_icmp_ge (tgt := 109) hx hb d_As_keep_88 (by decide) (fun (hh : (16 : Int32) ≤ l2) => ?_) (fun (hh : ¬ (16 : Int32) ≤ l2) => ?_)
      · rw [if_pos hh] at hF
        refine lv_iconst (v := (0 : Int32)) hx hb d_As_keep_109 (by decide) ?_
        refine lv_istore_n (lv' := [(2, .int (0 : Int32)), (0, .ref (g 91))]) hx hb d_As_keep_110 rfl hl (Nat.le_of_ble_eq_true rfl) rfl (fun ls hl => ?_)
        have hl : lv_has ls 3 [(0, .ref (g 91)), (2, .int (0 : Int32))] := lv_sub hl [1, 0] rfl
        exact K111 100 ls _ _ (0 : Int32) v f u la od hY hk hext (lv_sub hl [0, 1] rfl) hP hD hS hF
      · rw [if_neg hh] at hF
        refine lv_aload_n hx hb d_As_keep_91 rfl (lv_at hl 0 rfl) ?_
        refine aw_g_0_6 B hP k_292 d_As_keep_92 ?_
        refine lv_iload_n hx hb d_As_keep_95 rfl (lv_at hl 1 rfl) ?_
        refine lv_aload_n hx hb d_As_keep_96 rfl (lv_at hl 0 rfl) ?_
        refine aw_g_0_4 B hP k_290 d_As_keep_97 ?_
        refine lv_iload_n hx hb d_As_keep_100 rfl (lv_at hl 1 rfl) ?_
        obtain ⟨hi, hF⟩ := dm_chk hF
        refine aw_a_2 (F := (f 4)) B hP rfl hi d_As_keep_101 ?_
        obtain ⟨hi, hF⟩ := dm_chk hF
        refine aw_s_4 (F := (f 6)) B hP hD hS rfl hi d_As_keep_102 (fun H locs hP hD hS => ?_)
        refine lv_iinc (k := 1) (v := (l2 + (1 : Int32))) (lv' := [(2, .int (l2 + (1 : Int32))), (0, .ref (g 91))]) hx hb d_As_keep_103 hl rfl (congrArg (fun q => l2 + q) (by decide)) (Nat.le_of_ble_eq_true rfl) rfl (fun ls hl => ?_)
        have hl : lv_has ls 3 [(0, .ref (g 91)), (2, .int (l2 + (1 : Int32)))] := lv_sub hl [1, 0] rfl
        refine lv_goto (tgt := 85) hx hb d_As_keep_106 (by decide) ?_
        exact ih85 ls _ _ (l2 + (1 : Int32)) v (va_up f 6 (upd (f 6) l2.toNatClampNeg ((f 4) l2.toNatClampNeg))) u la od hY hk hext (lv_sub hl [0, 1] rfl) hP hD hS hF
  have K21 : ∀ (n21 : Nat) (ls : Array Slot) (H : Heap) (locs : List Loc) (l2 : Int32) (v : Nat → Int32) (f : Nat → Nat → Int32) (u : Nat → Nat → Int32) (la : Nat → Option Nat) (od : Nat → Nat → Int32), okA G Y (v 21) → okA G K (v 20) → extP K K (v0 20) (v 20) → lv_has ls 3 [(0, .ref (g 91)), (1, .ref o), (2, .int l2)] → va_P G.1 dm_cl (aw G g Y t ((o, .inl (G.2.1 0, 64, .inl (od 0))) :: T) K v f u la) H → va_D A (aw G g Y t ((o, .inl (G.2.1 0, 64, .inl (od 0))) :: T) K v f u la) → va_S A s.heap H locs → F_As_keep_21 t n21 l2 v f u la od = some RES → W p l e rm_As_keep s m ([.ref (g 91), .ref o] : List Value).toArray below meth c H locs 0 0 (dm_Z below G s ([.ref (g 91), .ref o] : List Value).toArray A rm_As_keep.cells rm_As_keep.slots (fun ov w' => okA G Y (RES.1 21) ∧ okA G K (RES.1 20) ∧ extP K K (v0 20) (RES.1 20) ∧ ov = none ∧ w' = (aw G g Y t ((o, .inl (G.2.1 0, 64, .inl (RES.2.2.2.2 0))) :: T) K RES.1 RES.2.1 RES.2.2.1 RES.2.2.2.1))) (F0 m 21 ls []) := by
    intro n21
    induction n21 with
    | zero => intro ls H locs l2 v f u la od hY hk hext hl hP hD hS hF; cases hF
    | succ n21 ih21 =>
      intro ls H locs l2 v f u la od hY hk hext hl hP hD hS hF
      have hF : (if (v 2) ≤ l2 then (F_As_keep_85 t 100 (0 : Int32) v f u la od) else (Option.bind (F_AL_get_p t  l2 v f u la) (fun z1 => (if (v 20).toNatClampNeg ≤ z1 then none else (if (v 20).toNatClampNeg ≤ z1 then none else (Option.bind (F_AL_get_p t  l2 v f u la) (fun z2 => (if (v 20).toNatClampNeg ≤ z2 then none else (if (v 20).toNatClampNeg ≤ z2 then none else (Option.bind (F_AL_get_p t  l2 v f u la) (fun z3 => (if (v 20).toNatClampNeg ≤ z3 then none else (if (v 20).toNatClampNeg ≤ z3 then none else (if (((32 : Int32) * (u z1 0)) + (u z2 1)) < 0 ∨ 64 ≤ (((32 : Int32) * (u z1 0)) + (u z2 1)).toNatClampNeg then none else (F_As_keep_21 t n21 (l2 + (1 : Int32)) v f u la (va_up od 0 (upd (od 0) (((32 : Int32) * (u z1 0)) + (u z2 1)).toNatClampNeg (u z3 2)))))))))))))))))) = some RES := hF
      refine lv_iload_n hx hb d_As_keep_21 rfl (lv_at hl 2 rfl) ?_
      refine lv_aload_n hx hb d_As_keep_22 rfl (lv_at hl 0 rfl) ?_
      refine aw_g_0_2 (x := (v 2)) B hP rfl k_288 d_As_keep_23 ?_
      refine lv_icmp_ge (tgt := 83) hx hb d_As_keep_26 (by decide) (fun (hh : (v 2) ≤ l2) => ?_) (fun (hh : ¬ (v 2) ≤ l2) => ?_)
      · rw [if_pos hh] at hF
        refine lv_iconst (v := (0 : Int32)) hx hb d_As_keep_83 (by decide) ?_
        refine lv_istore_n (lv' := [(2, .int (0 : Int32)), (0, .ref (g 91)), (1, .ref o)]) hx hb d_As_keep_84 rfl hl (Nat.le_of_ble_eq_true rfl) rfl (fun ls hl => ?_)
        have hl : lv_has ls 3 [(0, .ref (g 91)), (1, .ref o), (2, .int (0 : Int32))] := lv_sub hl [1, 2, 0] rfl
        exact K85 100 ls _ _ (0 : Int32) v f u la od hY hk hext (lv_sub hl [0, 2] rfl) hP hD hS hF
      · rw [if_neg hh] at hF
        refine lv_aload_n hx hb d_As_keep_29 rfl (lv_at hl 1 rfl) ?_
        refine lv_bipush (v := (32 : Int32)) hx hb d_As_keep_30 (by decide) ?_
        refine lv_aload_n hx hb d_As_keep_32 rfl (lv_at hl 0 rfl) ?_
        refine aw_g_0_1 B hP k_287 d_As_keep_33 ?_
        refine lv_iload_n hx hb d_As_keep_36 rfl (lv_at hl 2 rfl) ?_
        obtain ⟨z1, hcz1, hF⟩ := dm_bind hF
        refine dm_callVw B [.int l2] (c_AL_get_p l G g Y t ((o, .inl (G.2.1 0, 64, .inl (od 0))) :: T) K  l2 v f u la z1 hY hk hcz1) k_603 k_604 k_605 k_13 k_606 hd_AL_get_s rfl ⟨by decide, by decide⟩ 7 rfl rfl hP hD hS hl.1 (rest := [.int (32 : Int32), .ref o]) rfl (Nat.le_of_ble_eq_true rfl) d_As_keep_37 ⟨(by show 0 + 0 ≤ 0; omega), (by show 0 + 0 ≤ 0; omega)⟩ (fun ov w' H locs hq hP hD hS => ?_)
        obtain ⟨rfl, rfl⟩ := hq
        have hP : va_P G.1 dm_cl (aw G g Y t ((o, .inl (G.2.1 0, 64, .inl (od 0))) :: T) K v f u la) H := hP
        have hD : va_D A (aw G g Y t ((o, .inl (G.2.1 0, 64, .inl (od 0))) :: T) K v f u la) := hD
        refine W.eq (g2 := F0 m 40 ls [.ref (K.2.2.2 z1), .int (32 : Int32), .ref o]) rfl ?_
        obtain ⟨hi, hF⟩ := dm_chk hF
        refine aw_rcp B hP hi k_646 d_As_keep_40 ?_
        obtain ⟨hi, hF⟩ := dm_chk hF
        refine aw_gln_0 (i := z1) (x := (u z1 0)) B hP hi rfl k_653 d_As_keep_43 ?_
        refine lv_imul hx hb d_As_keep_46 ?_
        refine lv_aload_n hx hb d_As_keep_47 rfl (lv_at hl 0 rfl) ?_
        refine aw_g_0_1 B hP k_287 d_As_keep_48 ?_
        refine lv_iload_n hx hb d_As_keep_51 rfl (lv_at hl 2 rfl) ?_
        obtain ⟨z2, hcz2, hF⟩ := dm_bind hF
        refine dm_callVw B [.int l2] (c_AL_get_p l G g Y t ((o, .inl (G.2.1 0, 64, .inl (od 0))) :: T) K  l2 v f u la z2 hY hk hcz2) k_603 k_604 k_605 k_13 k_606 hd_AL_get_s rfl ⟨by decide, by decide⟩ 7 rfl rfl hP hD hS hl.1 (rest := [.int ((32 : Int32) * (u z1 0)), .ref o]) rfl (Nat.le_of_ble_eq_true rfl) d_As_keep_52 ⟨(by show 0 + 0 ≤ 0; omega), (by show 0 + 0 ≤ 0; omega)⟩ (fun ov w' H locs hq hP hD hS => ?_)
        obtain ⟨rfl, rfl⟩ := hq
        have hP : va_P G.1 dm_cl (aw G g Y t ((o, .inl (G.2.1 0, 64, .inl (od 0))) :: T) K v f u la) H := hP
        have hD : va_D A (aw G g Y t ((o, .inl (G.2.1 0, 64, .inl (od 0))) :: T) K v f u la) := hD
        refine W.eq (g2 := F0 m 55 ls [.ref (K.2.2.2 z2), .int ((32 : Int32) * (u z1 0)), .ref o]) rfl ?_
        obtain ⟨hi, hF⟩ := dm_chk hF
        refine aw_rcp B hP hi k_646 d_As_keep_55 ?_
        obtain ⟨hi, hF⟩ := dm_chk hF
        refine aw_gln_1 (i := z2) (x := (u z2 1)) B hP hi rfl k_655 d_As_keep_58 ?_
        refine lv_iadd hx hb d_As_keep_61 ?_
        refine lv_aload_n hx hb d_As_keep_62 rfl (lv_at hl 0 rfl) ?_
        refine aw_g_0_1 B hP k_287 d_As_keep_63 ?_
        refine lv_iload_n hx hb d_As_keep_66 rfl (lv_at hl 2 rfl) ?_
        obtain ⟨z3, hcz3, hF⟩ := dm_bind hF
        refine dm_callVw B [.int l2] (c_AL_get_p l G g Y t ((o, .inl (G.2.1 0, 64, .inl (od 0))) :: T) K  l2 v f u la z3 hY hk hcz3) k_603 k_604 k_605 k_13 k_606 hd_AL_get_s rfl ⟨by decide, by decide⟩ 7 rfl rfl hP hD hS hl.1 (rest := [.int (((32 : Int32) * (u z1 0)) + (u z2 1)), .ref o]) rfl (Nat.le_of_ble_eq_true rfl) d_As_keep_67 ⟨(by show 0 + 0 ≤ 0; omega), (by show 0 + 0 ≤ 0; omega)⟩ (fun ov w' H locs hq hP hD hS => ?_)
        obtain ⟨rfl, rfl⟩ := hq
        have hP : va_P G.1 dm_cl (aw G g Y t ((o, .inl (G.2.1 0, 64, .inl (od 0))) :: T) K v f u la) H := hP
        have hD : va_D A (aw G g Y t ((o, .inl (G.2.1 0, 64, .inl (od 0))) :: T) K v f u la) := hD
        refine W.eq (g2 := F0 m 70 ls [.ref (K.2.2.2 z3), .int (((32 : Int32) * (u z1 0)) + (u z2 1)), .ref o]) rfl ?_
        obtain ⟨hi, hF⟩ := dm_chk hF
        refine aw_rcp B hP hi k_646 d_As_keep_70 ?_
        obtain ⟨hi, hF⟩ := dm_chk hF
        refine aw_gln_2 (i := z3) (x := (u z3 2)) B hP hi rfl k_657 d_As_keep_73 ?_
        obtain ⟨hi, hF⟩ := dm_chk hF
        refine aw_os (od := od) (F := (od 0)) B hP hD hS rfl hi d_As_keep_76 (fun H locs hP hD hS => ?_)
        refine lv_iinc (k := 2) (v := (l2 + (1 : Int32))) (lv' := [(2, .int (l2 + (1 : Int32))), (0, .ref (g 91)), (1, .ref o)]) hx hb d_As_keep_77 hl rfl (congrArg (fun q => l2 + q) (by decide)) (Nat.le_of_ble_eq_true rfl) rfl (fun ls hl => ?_)
        have hl : lv_has ls 3 [(0, .ref (g 91)), (1, .ref o), (2, .int (l2 + (1 : Int32)))] := lv_sub hl [1, 2, 0] rfl
        refine lv_goto (tgt := 21) hx hb d_As_keep_80 (by decide) ?_
        exact ih21 ls _ _ (l2 + (1 : Int32)) v f u la (va_up od 0 (upd (od 0) (((32 : Int32) * (u z1 0)) + (u z2 1)).toNatClampNeg (u z3 2))) hY hk hext (lv_sub hl [0, 1, 2] rfl) hP hD hS hF
  have K2 : ∀ (n2 : Nat) (ls : Array Slot) (H : Heap) (locs : List Loc) (l2 : Int32) (v : Nat → Int32) (f : Nat → Nat → Int32) (u : Nat → Nat → Int32) (la : Nat → Option Nat) (od : Nat → Nat → Int32), okA G Y (v 21) → okA G K (v 20) → extP K K (v0 20) (v 20) → lv_has ls 3 [(0, .ref (g 91)), (1, .ref o), (2, .int l2)] → va_P G.1 dm_cl (aw G g Y t ((o, .inl (G.2.1 0, 64, .inl (od 0))) :: T) K v f u la) H → va_D A (aw G g Y t ((o, .inl (G.2.1 0, 64, .inl (od 0))) :: T) K v f u la) → va_S A s.heap H locs → F_As_keep_2 t n2 l2 v f u la od = some RES → W p l e rm_As_keep s m ([.ref (g 91), .ref o] : List Value).toArray below meth c H locs 0 0 (dm_Z below G s ([.ref (g 91), .ref o] : List Value).toArray A rm_As_keep.cells rm_As_keep.slots (fun ov w' => okA G Y (RES.1 21) ∧ okA G K (RES.1 20) ∧ extP K K (v0 20) (RES.1 20) ∧ ov = none ∧ w' = (aw G g Y t ((o, .inl (G.2.1 0, 64, .inl (RES.2.2.2.2 0))) :: T) K RES.1 RES.2.1 RES.2.2.1 RES.2.2.2.1))) (F0 m 2 ls []) := by
    intro n2
    induction n2 with
    | zero => intro ls H locs l2 v f u la od hY hk hext hl hP hD hS hF; cases hF
    | succ n2 ih2 =>
      intro ls H locs l2 v f u la od hY hk hext hl hP hD hS hF
      have hF : (if (64 : Int32) ≤ l2 then (F_As_keep_21 t 100 (0 : Int32) v f u la od) else (if l2 < 0 ∨ 64 ≤ l2.toNatClampNeg then none else (F_As_keep_2 t n2 (l2 + (1 : Int32)) v f u la (va_up od 0 (upd (od 0) l2.toNatClampNeg (1015824 : Int32)))))) = some RES := hF
      refine lv_iload_n hx hb d_As_keep_2 rfl (lv_at hl 2 rfl) ?_
      refine lv_bipush (v := (64 : Int32)) hx hb d_As_keep_3 (by decide) ?_
      refine lv_icmp_ge (tgt := 19) hx hb d_As_keep_5 (by decide) (fun (hh : (64 : Int32) ≤ l2) => ?_) (fun (hh : ¬ (64 : Int32) ≤ l2) => ?_)
      · rw [if_pos hh] at hF
        refine lv_iconst (v := (0 : Int32)) hx hb d_As_keep_19 (by decide) ?_
        refine lv_istore_n (lv' := [(2, .int (0 : Int32)), (0, .ref (g 91)), (1, .ref o)]) hx hb d_As_keep_20 rfl hl (Nat.le_of_ble_eq_true rfl) rfl (fun ls hl => ?_)
        have hl : lv_has ls 3 [(0, .ref (g 91)), (1, .ref o), (2, .int (0 : Int32))] := lv_sub hl [1, 2, 0] rfl
        exact K21 100 ls _ _ (0 : Int32) v f u la od hY hk hext (lv_sub hl [0, 1, 2] rfl) hP hD hS hF
      · rw [if_neg hh] at hF
        refine lv_aload_n hx hb d_As_keep_8 rfl (lv_at hl 1 rfl) ?_
        refine lv_iload_n hx hb d_As_keep_9 rfl (lv_at hl 2 rfl) ?_
        refine dm_ldc B k_710 d_As_keep_10 ?_
        obtain ⟨hi, hF⟩ := dm_chk hF
        refine aw_os (od := od) (F := (od 0)) B hP hD hS rfl hi d_As_keep_12 (fun H locs hP hD hS => ?_)
        refine lv_iinc (k := 2) (v := (l2 + (1 : Int32))) (lv' := [(2, .int (l2 + (1 : Int32))), (0, .ref (g 91)), (1, .ref o)]) hx hb d_As_keep_13 hl rfl (congrArg (fun q => l2 + q) (by decide)) (Nat.le_of_ble_eq_true rfl) rfl (fun ls hl => ?_)
        have hl : lv_has ls 3 [(0, .ref (g 91)), (1, .ref o), (2, .int (l2 + (1 : Int32)))] := lv_sub hl [1, 2, 0] rfl
        refine lv_goto (tgt := 2) hx hb d_As_keep_16 (by decide) ?_
        exact ih2 ls _ _ (l2 + (1 : Int32)) v f u la (va_up od 0 (upd (od 0) l2.toNatClampNeg (1015824 : Int32))) hY hk hext (lv_sub hl [0, 1, 2] rfl) hP hD hS hF
  have hF : (F_As_keep_2 t 100 (0 : Int32) v0 f0 u0 la0 od0) = some RES := hF
  refine lv_iconst (v := (0 : Int32)) hx hb d_As_keep_0 (by decide) ?_
  refine lv_istore_n (lv' := [(2, .int (0 : Int32)), (0, .ref (g 91)), (1, .ref o)]) hx hb d_As_keep_1 rfl hl (Nat.le_of_ble_eq_true rfl) rfl (fun ls hl => ?_)
  have hl : lv_has ls 3 [(0, .ref (g 91)), (1, .ref o), (2, .int (0 : Int32))] := lv_sub hl [1, 2, 0] rfl
  exact K2 100 ls _ _ (0 : Int32) v0 f0 u0 la0 od0 hY hk hext (lv_sub hl [0, 1, 2] rfl) hP hD hS hF
abbrev b_Rec_init : ByteArray := prog_21_method_1_code
abbrev y_Rec_init : MethodName := { cls := "java/lang/Record", name := "<init>", desc := "()V" }
theorem d_Rec_init_0 : decode b_Rec_init 0 = .ok (.aload_n 0, 1) := by decide +kernel
theorem d_Rec_init_1 : decode b_Rec_init 1 = .ok (.invokespecial 1, 3) := by decide +kernel
theorem d_Rec_init_4 : decode b_Rec_init 4 = .ok (.return_, 1) := by decide +kernel
theorem hd_Rec_init : y_Rec_init.cls ≠ "java/lang/invoke/MethodHandle" ∧ y_Rec_init.cls ≠ "java/lang/invoke/VarHandle" ∧ (parseMethodDescriptor y_Rec_init.desc).map (fun d => d.parameters.length) = some 0 := by decide +kernel
abbrev rm_Rec_init : Room := { frames := 1, cells := 0, slots := 0, locals := 20 }
set_option maxHeartbeats 4000000 in
set_option maxRecDepth 100000 in
theorem c_Rec_init (l : Launch) (G : dm_G) (a : Nat) : dm_Ct l y_Rec_init b_Rec_init 1 none rm_Rec_init G [(a, .inr (11, [.int (0 : Int32), .int (0 : Int32), .int (0 : Int32), .int (0 : Int32), .int (0 : Int32)]))] [.ref a] (fun ov w' => ov = none ∧ w' = [(a, .inr (11, [.int (0 : Int32), .int (0 : Int32), .int (0 : Int32), .int (0 : Int32), .int (0 : Int32)]))]) := by
  refine dm_Ct.of (by decide +kernel) (Nat.le_of_ble_eq_true rfl) ?_
  intro p e s m below meth c A ls B hl hP hD hS
  have hx := B.1
  have hb := B.2.1
  have hl : lv_has ls 1 [(0, .ref a)] := hl
  refine lv_aload_n hx hb d_Rec_init_0 rfl (lv_at hl 0 rfl) ?_
  refine dm_oi B k_504 k_30 k_31 hl.1 d_Rec_init_1 (by decide) (Nat.le_of_ble_eq_true rfl) ?_
  exact dm_retv B d_Rec_init_4 (by decide) (by decide) hP hD hS ⟨rfl, rfl⟩
abbrev b_St_init : ByteArray := prog_13_method_1_code
abbrev y_St_init : MethodName := { cls := "DelayMachine$Statement", name := "<init>", desc := "(IIIII)V" }
theorem d_St_init_0 : decode b_St_init 0 = .ok (.aload_n 0, 1) := by decide +kernel
theorem d_St_init_1 : decode b_St_init 1 = .ok (.invokespecial 1, 3) := by decide +kernel
theorem d_St_init_4 : decode b_St_init 4 = .ok (.aload_n 0, 1) := by decide +kernel
theorem d_St_init_5 : decode b_St_init 5 = .ok (.iload_n 1, 1) := by decide +kernel
theorem d_St_init_6 : decode b_St_init 6 = .ok (.putfield 7, 3) := by decide +kernel
theorem d_St_init_9 : decode b_St_init 9 = .ok (.aload_n 0, 1) := by decide +kernel
theorem d_St_init_10 : decode b_St_init 10 = .ok (.iload_n 2, 1) := by decide +kernel
theorem d_St_init_11 : decode b_St_init 11 = .ok (.putfield 13, 3) := by decide +kernel
theorem d_St_init_14 : decode b_St_init 14 = .ok (.aload_n 0, 1) := by decide +kernel
theorem d_St_init_15 : decode b_St_init 15 = .ok (.iload_n 3, 1) := by decide +kernel
theorem d_St_init_16 : decode b_St_init 16 = .ok (.putfield 16, 3) := by decide +kernel
theorem d_St_init_19 : decode b_St_init 19 = .ok (.aload_n 0, 1) := by decide +kernel
theorem d_St_init_20 : decode b_St_init 20 = .ok (.iload 4, 2) := by decide +kernel
theorem d_St_init_22 : decode b_St_init 22 = .ok (.putfield 19, 3) := by decide +kernel
theorem d_St_init_25 : decode b_St_init 25 = .ok (.aload_n 0, 1) := by decide +kernel
theorem d_St_init_26 : decode b_St_init 26 = .ok (.iload 5, 2) := by decide +kernel
theorem d_St_init_28 : decode b_St_init 28 = .ok (.putfield 22, 3) := by decide +kernel
theorem d_St_init_31 : decode b_St_init 31 = .ok (.return_, 1) := by decide +kernel
theorem hd_St_init : y_St_init.cls ≠ "java/lang/invoke/MethodHandle" ∧ y_St_init.cls ≠ "java/lang/invoke/VarHandle" ∧ (parseMethodDescriptor y_St_init.desc).map (fun d => d.parameters.length) = some 5 := by decide +kernel
abbrev rm_St_init : Room := { frames := 2, cells := 0, slots := 0, locals := 40 }
set_option maxHeartbeats 4000000 in
set_option maxRecDepth 100000 in
theorem c_St_init (l : Launch) (G : dm_G) (a : Nat) (x1 x2 x3 x4 x5 : Int32) : dm_Ct l y_St_init b_St_init 6 none rm_St_init G [(a, .inr (11, [.int (0 : Int32), .int (0 : Int32), .int (0 : Int32), .int (0 : Int32), .int (0 : Int32)]))] [.ref a, .int x1, .int x2, .int x3, .int x4, .int x5] (fun ov w' => ov = none ∧ w' = [(a, .inr (11, [.int x1, .int x2, .int x3, .int x4, .int x5]))]) := by
  refine dm_Ct.of (by decide +kernel) (Nat.le_of_ble_eq_true rfl) ?_
  intro p e s m below meth c A ls B hl hP hD hS
  have hx := B.1
  have hb := B.2.1
  have hl : lv_has ls 6 [(0, .ref a), (1, .int x1), (2, .int x2), (3, .int x3), (4, .int x4), (5, .int x5)] := hl
  refine lv_aload_n hx hb d_St_init_0 rfl (lv_at hl 0 rfl) ?_
  refine dm_callIp (wr := []) B [] (c_Rec_init l G a) k_501 k_502 k_15 k_503 rfl hd_Rec_init rfl ⟨by decide, by decide⟩ hP hD hS (List.Perm.refl _) hl.1 (rest := []) rfl (Nat.le_of_ble_eq_true rfl) d_St_init_1 ⟨by decide, by decide⟩ (fun ov w' H locs hq hP hD hS => ?_)
  obtain ⟨rfl, rfl⟩ := hq
  have hP : va_P G.1 dm_cl [(a, .inr (11, [.int (0 : Int32), .int (0 : Int32), .int (0 : Int32), .int (0 : Int32), .int (0 : Int32)]))] H := hP
  have hD : va_D A [(a, .inr (11, [.int (0 : Int32), .int (0 : Int32), .int (0 : Int32), .int (0 : Int32), .int (0 : Int32)]))] := hD
  refine W.eq (g2 := F0 m 4 ls []) rfl ?_
  refine lv_aload_n hx hb d_St_init_4 rfl (lv_at hl 0 rfl) ?_
  refine lv_iload_n hx hb d_St_init_5 rfl (lv_at hl 1 rfl) ?_
  refine dm_putF (ci := 11) (v := .int x1) B hP hD hS 0 rfl rfl in_St t_St t_St_ok n_St 0 (by decide) k_505 rfl rfl rfl rfl (Nat.le_of_ble_eq_true rfl) d_St_init_6 (fun H locs hP hD hS => ?_)
  have hP : va_P G.1 dm_cl [(a, .inr (11, [.int x1, .int (0 : Int32), .int (0 : Int32), .int (0 : Int32), .int (0 : Int32)]))] H := hP
  have hD : va_D A [(a, .inr (11, [.int x1, .int (0 : Int32), .int (0 : Int32), .int (0 : Int32), .int (0 : Int32)]))] := hD
  refine lv_aload_n hx hb d_St_init_9 rfl (lv_at hl 0 rfl) ?_
  refine lv_iload_n hx hb d_St_init_10 rfl (lv_at hl 2 rfl) ?_
  refine dm_putF (ci := 11) (v := .int x2) B hP hD hS 0 rfl rfl in_St t_St t_St_ok n_St 1 (by decide) k_506 rfl rfl rfl rfl (Nat.le_of_ble_eq_true rfl) d_St_init_11 (fun H locs hP hD hS => ?_)
  have hP : va_P G.1 dm_cl [(a, .inr (11, [.int x1, .int x2, .int (0 : Int32), .int (0 : Int32), .int (0 : Int32)]))] H := hP
  have hD : va_D A [(a, .inr (11, [.int x1, .int x2, .int (0 : Int32), .int (0 : Int32), .int (0 : Int32)]))] := hD
  refine lv_aload_n hx hb d_St_init_14 rfl (lv_at hl 0 rfl) ?_
  refine lv_iload_n hx hb d_St_init_15 rfl (lv_at hl 3 rfl) ?_
  refine dm_putF (ci := 11) (v := .int x3) B hP hD hS 0 rfl rfl in_St t_St t_St_ok n_St 2 (by decide) k_507 rfl rfl rfl rfl (Nat.le_of_ble_eq_true rfl) d_St_init_16 (fun H locs hP hD hS => ?_)
  have hP : va_P G.1 dm_cl [(a, .inr (11, [.int x1, .int x2, .int x3, .int (0 : Int32), .int (0 : Int32)]))] H := hP
  have hD : va_D A [(a, .inr (11, [.int x1, .int x2, .int x3, .int (0 : Int32), .int (0 : Int32)]))] := hD
  refine lv_aload_n hx hb d_St_init_19 rfl (lv_at hl 0 rfl) ?_
  refine lv_iload hx hb d_St_init_20 (lv_at hl 4 rfl) ?_
  refine dm_putF (ci := 11) (v := .int x4) B hP hD hS 0 rfl rfl in_St t_St t_St_ok n_St 3 (by decide) k_508 rfl rfl rfl rfl (Nat.le_of_ble_eq_true rfl) d_St_init_22 (fun H locs hP hD hS => ?_)
  have hP : va_P G.1 dm_cl [(a, .inr (11, [.int x1, .int x2, .int x3, .int x4, .int (0 : Int32)]))] H := hP
  have hD : va_D A [(a, .inr (11, [.int x1, .int x2, .int x3, .int x4, .int (0 : Int32)]))] := hD
  refine lv_aload_n hx hb d_St_init_25 rfl (lv_at hl 0 rfl) ?_
  refine lv_iload hx hb d_St_init_26 (lv_at hl 5 rfl) ?_
  refine dm_putF (ci := 11) (v := .int x5) B hP hD hS 0 rfl rfl in_St t_St t_St_ok n_St 4 (by decide) k_509 rfl rfl rfl rfl (Nat.le_of_ble_eq_true rfl) d_St_init_28 (fun H locs hP hD hS => ?_)
  have hP : va_P G.1 dm_cl [(a, .inr (11, [.int x1, .int x2, .int x3, .int x4, .int x5]))] H := hP
  have hD : va_D A [(a, .inr (11, [.int x1, .int x2, .int x3, .int x4, .int x5]))] := hD
  exact dm_retv B d_St_init_31 (by decide) (by decide) hP hD hS ⟨rfl, rfl⟩
abbrev b_ACo_init : ByteArray := prog_23_method_1_code
abbrev y_ACo_init : MethodName := { cls := "java/util/AbstractCollection", name := "<init>", desc := "()V" }
theorem d_ACo_init_0 : decode b_ACo_init 0 = .ok (.aload_n 0, 1) := by decide +kernel
theorem d_ACo_init_1 : decode b_ACo_init 1 = .ok (.invokespecial 1, 3) := by decide +kernel
theorem d_ACo_init_4 : decode b_ACo_init 4 = .ok (.return_, 1) := by decide +kernel
theorem hd_ACo_init : y_ACo_init.cls ≠ "java/lang/invoke/MethodHandle" ∧ y_ACo_init.cls ≠ "java/lang/invoke/VarHandle" ∧ (parseMethodDescriptor y_ACo_init.desc).map (fun d => d.parameters.length) = some 0 := by decide +kernel
abbrev rm_ACo_init : Room := { frames := 1, cells := 0, slots := 0, locals := 20 }
set_option maxHeartbeats 4000000 in
set_option maxRecDepth 100000 in
theorem c_ACo_init (l : Launch) (G : dm_G) (a : Nat) : dm_Ct l y_ACo_init b_ACo_init 1 none rm_ACo_init G [(a, .inr (10, [.null, .int (0 : Int32), .int (0 : Int32)]))] [.ref a] (fun ov w' => ov = none ∧ w' = [(a, .inr (10, [.null, .int (0 : Int32), .int (0 : Int32)]))]) := by
  refine dm_Ct.of (by decide +kernel) (Nat.le_of_ble_eq_true rfl) ?_
  intro p e s m below meth c A ls B hl hP hD hS
  have hx := B.1
  have hb := B.2.1
  have hl : lv_has ls 1 [(0, .ref a)] := hl
  refine lv_aload_n hx hb d_ACo_init_0 rfl (lv_at hl 0 rfl) ?_
  refine dm_oi B k_266 k_30 k_31 hl.1 d_ACo_init_1 (by decide) (Nat.le_of_ble_eq_true rfl) ?_
  exact dm_retv B d_ACo_init_4 (by decide) (by decide) hP hD hS ⟨rfl, rfl⟩
abbrev b_ALi_init : ByteArray := prog_24_method_1_code
abbrev y_ALi_init : MethodName := { cls := "java/util/AbstractList", name := "<init>", desc := "()V" }
theorem d_ALi_init_0 : decode b_ALi_init 0 = .ok (.aload_n 0, 1) := by decide +kernel
theorem d_ALi_init_1 : decode b_ALi_init 1 = .ok (.invokespecial 1, 3) := by decide +kernel
theorem d_ALi_init_4 : decode b_ALi_init 4 = .ok (.aload_n 0, 1) := by decide +kernel
theorem d_ALi_init_5 : decode b_ALi_init 5 = .ok (.iconst 0, 1) := by decide +kernel
theorem d_ALi_init_6 : decode b_ALi_init 6 = .ok (.putfield 7, 3) := by decide +kernel
theorem d_ALi_init_9 : decode b_ALi_init 9 = .ok (.return_, 1) := by decide +kernel
theorem hd_ALi_init : y_ALi_init.cls ≠ "java/lang/invoke/MethodHandle" ∧ y_ALi_init.cls ≠ "java/lang/invoke/VarHandle" ∧ (parseMethodDescriptor y_ALi_init.desc).map (fun d => d.parameters.length) = some 0 := by decide +kernel
abbrev rm_ALi_init : Room := { frames := 2, cells := 0, slots := 0, locals := 40 }
set_option maxHeartbeats 4000000 in
set_option maxRecDepth 100000 in
theorem c_ALi_init (l : Launch) (G : dm_G) (a : Nat) : dm_Ct l y_ALi_init b_ALi_init 1 none rm_ALi_init G [(a, .inr (10, [.null, .int (0 : Int32), .int (0 : Int32)]))] [.ref a] (fun ov w' => ov = none ∧ w' = [(a, .inr (10, [.null, .int (0 : Int32), .int (0 : Int32)]))]) := by
  refine dm_Ct.of (by decide +kernel) (Nat.le_of_ble_eq_true rfl) ?_
  intro p e s m below meth c A ls B hl hP hD hS
  have hx := B.1
  have hb := B.2.1
  have hl : lv_has ls 1 [(0, .ref a)] := hl
  refine lv_aload_n hx hb d_ALi_init_0 rfl (lv_at hl 0 rfl) ?_
  refine dm_callIp (wr := []) B [] (c_ACo_init l G a) k_263 k_264 k_11 k_265 rfl hd_ACo_init rfl ⟨by decide, by decide⟩ hP hD hS (List.Perm.refl _) hl.1 (rest := []) rfl (Nat.le_of_ble_eq_true rfl) d_ALi_init_1 ⟨by decide, by decide⟩ (fun ov w' H locs hq hP hD hS => ?_)
  obtain ⟨rfl, rfl⟩ := hq
  have hP : va_P G.1 dm_cl [(a, .inr (10, [.null, .int (0 : Int32), .int (0 : Int32)]))] H := hP
  have hD : va_D A [(a, .inr (10, [.null, .int (0 : Int32), .int (0 : Int32)]))] := hD
  refine W.eq (g2 := F0 m 4 ls []) rfl ?_
  refine lv_aload_n hx hb d_ALi_init_4 rfl (lv_at hl 0 rfl) ?_
  refine lv_iconst (v := (0 : Int32)) hx hb d_ALi_init_5 (by decide) ?_
  refine dm_put (ci := 10) (v := .int (0 : Int32)) B hP hD hS 0 rfl rfl in_AL t_AL t_AL_ok n_AL 2 (by decide) k_271 rfl rfl rfl (Nat.le_of_ble_eq_true rfl) d_ALi_init_6 (fun H locs hP hD hS => ?_)
  have hP : va_P G.1 dm_cl [(a, .inr (10, [.null, .int (0 : Int32), .int (0 : Int32)]))] H := hP
  have hD : va_D A [(a, .inr (10, [.null, .int (0 : Int32), .int (0 : Int32)]))] := hD
  exact dm_retv B d_ALi_init_9 (by decide) (by decide) hP hD hS ⟨rfl, rfl⟩
abbrev b_AL_init : ByteArray := prog_25_method_2_code
abbrev y_AL_init : MethodName := { cls := "java/util/ArrayList", name := "<init>", desc := "()V" }
theorem d_AL_init_0 : decode b_AL_init 0 = .ok (.aload_n 0, 1) := by decide +kernel
theorem d_AL_init_1 : decode b_AL_init 1 = .ok (.invokespecial 1, 3) := by decide +kernel
theorem d_AL_init_4 : decode b_AL_init 4 = .ok (.aload_n 0, 1) := by decide +kernel
theorem d_AL_init_5 : decode b_AL_init 5 = .ok (.getstatic 39, 3) := by decide +kernel
theorem d_AL_init_8 : decode b_AL_init 8 = .ok (.putfield 9, 3) := by decide +kernel
theorem d_AL_init_11 : decode b_AL_init 11 = .ok (.return_, 1) := by decide +kernel
theorem hd_AL_init : y_AL_init.cls ≠ "java/lang/invoke/MethodHandle" ∧ y_AL_init.cls ≠ "java/lang/invoke/VarHandle" ∧ (parseMethodDescriptor y_AL_init.desc).map (fun d => d.parameters.length) = some 0 := by decide +kernel
abbrev rm_AL_init : Room := { frames := 3, cells := 0, slots := 0, locals := 60 }
set_option maxHeartbeats 4000000 in
set_option maxRecDepth 100000 in
theorem c_AL_init (l : Launch) (G : dm_G) (a : Nat) : dm_Ct l y_AL_init b_AL_init 1 none rm_AL_init G [(a, .inr (10, [.null, .int (0 : Int32), .int (0 : Int32)]))] [.ref a] (fun ov w' => ov = none ∧ w' = [(a, .inr (10, [.ref G.2.2.1, .int (0 : Int32), .int (0 : Int32)]))]) := by
  refine dm_Ct.of (by decide +kernel) (Nat.le_of_ble_eq_true rfl) ?_
  intro p e s m below meth c A ls B hl hP hD hS
  have hx := B.1
  have hb := B.2.1
  have hl : lv_has ls 1 [(0, .ref a)] := hl
  refine lv_aload_n hx hb d_AL_init_0 rfl (lv_at hl 0 rfl) ?_
  refine dm_callIp (wr := []) B [] (c_ALi_init l G a) k_260 k_261 k_12 k_262 rfl hd_ALi_init rfl ⟨by decide, by decide⟩ hP hD hS (List.Perm.refl _) hl.1 (rest := []) rfl (Nat.le_of_ble_eq_true rfl) d_AL_init_1 ⟨by decide, by decide⟩ (fun ov w' H locs hq hP hD hS => ?_)
  obtain ⟨rfl, rfl⟩ := hq
  have hP : va_P G.1 dm_cl [(a, .inr (10, [.null, .int (0 : Int32), .int (0 : Int32)]))] H := hP
  have hD : va_D A [(a, .inr (10, [.null, .int (0 : Int32), .int (0 : Int32)]))] := hD
  refine W.eq (g2 := F0 m 4 ls []) rfl ?_
  refine lv_aload_n hx hb d_AL_init_4 rfl (lv_at hl 0 rfl) ?_
  refine va_gets hx hb B.2.2.2.2.2.2.2.2.1.2.2.2.2.1 hS B.2.2.2.1 (B.2.2.2.2.1 _ k_267) (fun _ h9 => h9) d_AL_init_5 ?_
  refine dm_put (ci := 10) (v := .ref G.2.2.1) B hP hD hS 0 rfl rfl in_AL t_AL t_AL_ok n_AL 0 (by decide) k_269 rfl rfl rfl (Nat.le_of_ble_eq_true rfl) d_AL_init_8 (fun H locs hP hD hS => ?_)
  have hP : va_P G.1 dm_cl [(a, .inr (10, [.ref G.2.2.1, .int (0 : Int32), .int (0 : Int32)]))] H := hP
  have hD : va_D A [(a, .inr (10, [.ref G.2.2.1, .int (0 : Int32), .int (0 : Int32)]))] := hD
  exact dm_retv B d_AL_init_11 (by decide) (by decide) hP hD hS ⟨rfl, rfl⟩
/-- the assembler's start -/
def asg (a s p t v f kv kf : Nat) : Nat → Nat := fun k => if k = 91 then a else if k = 100 then s else if k = 101 then p else if k = 103 then t else if k = 104 then v else if k = 105 then f else if k = 106 then kv else if k = 107 then kf else 0
theorem as_ok0 {G : dm_G} : okA G (G.2.2.1, 0, 0, fun _ => 0) ((fun _ => (0 : Int32)) 20) := ⟨⟨by decide, fun _ => ⟨by decide, rfl⟩, by show (0 : Int32).toNatClampNeg ≤ 0; decide, by show 0 ≤ 100; decide⟩, by decide⟩
def as_R := (F_As_forget (fun _ _ => 0) (fun _ => 0) (fun _ _ => 0) (fun _ _ => 0) (fun _ => none))
theorem as_some : as_R.isSome = true := by decide +kernel
theorem as_f0 : F_As_forget (fun _ _ => 0) (fun _ => 0) (fun _ _ => 0) (fun _ _ => 0) (fun _ => none) = some (as_R.get as_some) := by simp [as_R]
abbrev b_As_init : ByteArray := prog_2_method_1_code
abbrev y_As_init : MethodName := { cls := "DelayMachine$Assembler", name := "<init>", desc := "()V" }
theorem d_As_init_0 : decode b_As_init 0 = .ok (.aload_n 0, 1) := by decide +kernel
theorem d_As_init_1 : decode b_As_init 1 = .ok (.invokespecial 3, 3) := by decide +kernel
theorem d_As_init_4 : decode b_As_init 4 = .ok (.aload_n 0, 1) := by decide +kernel
theorem d_As_init_5 : decode b_As_init 5 = .ok (.new 9, 3) := by decide +kernel
theorem d_As_init_8 : decode b_As_init 8 = .ok (.dup, 1) := by decide +kernel
theorem d_As_init_9 : decode b_As_init 9 = .ok (.invokespecial 11, 3) := by decide +kernel
theorem d_As_init_12 : decode b_As_init 12 = .ok (.putfield 12, 3) := by decide +kernel
theorem d_As_init_15 : decode b_As_init 15 = .ok (.aload_n 0, 1) := by decide +kernel
theorem d_As_init_16 : decode b_As_init 16 = .ok (.new 9, 3) := by decide +kernel
theorem d_As_init_19 : decode b_As_init 19 = .ok (.dup, 1) := by decide +kernel
theorem d_As_init_20 : decode b_As_init 20 = .ok (.invokespecial 11, 3) := by decide +kernel
theorem d_As_init_23 : decode b_As_init 23 = .ok (.putfield 18, 3) := by decide +kernel
theorem d_As_init_26 : decode b_As_init 26 = .ok (.aload_n 0, 1) := by decide +kernel
theorem d_As_init_27 : decode b_As_init 27 = .ok (.bipush (96), 2) := by decide +kernel
theorem d_As_init_29 : decode b_As_init 29 = .ok (.newarray .boolean, 2) := by decide +kernel
theorem d_As_init_31 : decode b_As_init 31 = .ok (.putfield 21, 3) := by decide +kernel
theorem d_As_init_34 : decode b_As_init 34 = .ok (.aload_n 0, 1) := by decide +kernel
theorem d_As_init_35 : decode b_As_init 35 = .ok (.bipush (16), 2) := by decide +kernel
theorem d_As_init_37 : decode b_As_init 37 = .ok (.newarray .int, 2) := by decide +kernel
theorem d_As_init_39 : decode b_As_init 39 = .ok (.putfield 25, 3) := by decide +kernel
theorem d_As_init_42 : decode b_As_init 42 = .ok (.aload_n 0, 1) := by decide +kernel
theorem d_As_init_43 : decode b_As_init 43 = .ok (.bipush (12), 2) := by decide +kernel
theorem d_As_init_45 : decode b_As_init 45 = .ok (.newarray .int, 2) := by decide +kernel
theorem d_As_init_47 : decode b_As_init 47 = .ok (.putfield 29, 3) := by decide +kernel
theorem d_As_init_50 : decode b_As_init 50 = .ok (.aload_n 0, 1) := by decide +kernel
theorem d_As_init_51 : decode b_As_init 51 = .ok (.bipush (16), 2) := by decide +kernel
theorem d_As_init_53 : decode b_As_init 53 = .ok (.newarray .int, 2) := by decide +kernel
theorem d_As_init_55 : decode b_As_init 55 = .ok (.putfield 32, 3) := by decide +kernel
theorem d_As_init_58 : decode b_As_init 58 = .ok (.aload_n 0, 1) := by decide +kernel
theorem d_As_init_59 : decode b_As_init 59 = .ok (.bipush (12), 2) := by decide +kernel
theorem d_As_init_61 : decode b_As_init 61 = .ok (.newarray .int, 2) := by decide +kernel
theorem d_As_init_63 : decode b_As_init 63 = .ok (.putfield 35, 3) := by decide +kernel
theorem d_As_init_66 : decode b_As_init 66 = .ok (.aload_n 0, 1) := by decide +kernel
theorem d_As_init_67 : decode b_As_init 67 = .ok (.invokevirtual 38, 3) := by decide +kernel
theorem d_As_init_70 : decode b_As_init 70 = .ok (.return_, 1) := by decide +kernel
theorem hd_As_init : y_As_init.cls ≠ "java/lang/invoke/MethodHandle" ∧ y_As_init.cls ≠ "java/lang/invoke/VarHandle" ∧ (parseMethodDescriptor y_As_init.desc).map (fun d => d.parameters.length) = some 0 := by decide +kernel
abbrev rm_As_init : Room := { frames := 4, cells := 7, slots := 158, locals := 80 }
set_option maxHeartbeats 4000000 in
set_option maxRecDepth 100000 in
theorem c_As_init (l : Launch) (G : dm_G) (a : Nat) : dm_Ct l y_As_init b_As_init 1 none rm_As_init G [(a, .inr (9, [.null, .null, .int (0 : Int32), .null, .null, .null, .null, .null, .int (0 : Int32), .int (0 : Int32), .null]))] [.ref a] (fun ov w' => ∃ g : Nat → Nat, g 91 = a ∧ okA G (G.2.2.1, 0, 0, fun _ => 0) ((as_R.get as_some).1 21) ∧ okA G (G.2.2.1, 0, 0, fun _ => 0) ((as_R.get as_some).1 20) ∧ ov = none ∧ w' = aw G g (G.2.2.1, 0, 0, fun _ => 0) (fun _ _ => 0) [] (G.2.2.1, 0, 0, fun _ => 0) (as_R.get as_some).1 (as_R.get as_some).2.1 (as_R.get as_some).2.2.1 (as_R.get as_some).2.2.2) := by
  refine dm_Ct.of (by decide +kernel) (Nat.le_of_ble_eq_true rfl) ?_
  intro p e s m below meth c A ls B hl hP hD hS
  have hx := B.1
  have hb := B.2.1
  have hl : lv_has ls 1 [(0, .ref a)] := hl
  refine lv_aload_n hx hb d_As_init_0 rfl (lv_at hl 0 rfl) ?_
  refine dm_oi B k_254 k_30 k_31 hl.1 d_As_init_1 (by decide) (Nat.le_of_ble_eq_true rfl) ?_
  refine lv_aload_n hx hb d_As_init_4 rfl (lv_at hl 0 rfl) ?_
  refine dm_new (ci := 10) (fs := [.null, .int (0 : Int32), .int (0 : Int32)]) B rfl in_AL t_AL t_AL_ok k_255 k_256 k_13 hP hD hS (by decide +kernel) (by decide) (by decide) d_As_init_5 (fun q1 H hP hD hS => ?_)
  have hP : va_P G.1 dm_cl [(a, .inr (9, [.null, .null, .int (0 : Int32), .null, .null, .null, .null, .null, .int (0 : Int32), .int (0 : Int32), .null])), (q1, .inr (10, [.null, .int (0 : Int32), .int (0 : Int32)]))] H := hP
  have hD : va_D A [(a, .inr (9, [.null, .null, .int (0 : Int32), .null, .null, .null, .null, .null, .int (0 : Int32), .int (0 : Int32), .null])), (q1, .inr (10, [.null, .int (0 : Int32), .int (0 : Int32)]))] := hD
  refine lv_dup hx hb d_As_init_8 rfl ?_
  refine dm_callIp (wr := [(a, .inr (9, [.null, .null, .int (0 : Int32), .null, .null, .null, .null, .null, .int (0 : Int32), .int (0 : Int32), .null]))]) B [] (c_AL_init l G q1) k_257 k_258 k_13 k_259 rfl hd_AL_init rfl ⟨by decide, by decide⟩ hP hD hS (List.Perm.refl _) hl.1 (rest := [.ref q1, .ref a]) rfl (Nat.le_of_ble_eq_true rfl) d_As_init_9 ⟨by decide, by decide⟩ (fun ov w' H locs hq hP hD hS => ?_)
  obtain ⟨rfl, rfl⟩ := hq
  have hP : va_P G.1 dm_cl [(a, .inr (9, [.null, .null, .int (0 : Int32), .null, .null, .null, .null, .null, .int (0 : Int32), .int (0 : Int32), .null])), (q1, .inr (10, [.ref G.2.2.1, .int (0 : Int32), .int (0 : Int32)]))] H := hP
  have hD : va_D A [(a, .inr (9, [.null, .null, .int (0 : Int32), .null, .null, .null, .null, .null, .int (0 : Int32), .int (0 : Int32), .null])), (q1, .inr (10, [.ref G.2.2.1, .int (0 : Int32), .int (0 : Int32)]))] := hD
  refine W.eq (g2 := F0 m 12 ls [.ref q1, .ref a]) rfl ?_
  refine dm_putF (ci := 9) (v := .ref q1) B hP hD hS 0 rfl rfl in_As t_As t_As_ok n_As 0 (by decide) k_285 rfl rfl rfl rfl (Nat.le_of_ble_eq_true rfl) d_As_init_12 (fun H locs hP hD hS => ?_)
  have hP : va_P G.1 dm_cl [(a, .inr (9, [.ref q1, .null, .int (0 : Int32), .null, .null, .null, .null, .null, .int (0 : Int32), .int (0 : Int32), .null])), (q1, .inr (10, [.ref G.2.2.1, .int (0 : Int32), .int (0 : Int32)]))] H := hP
  have hD : va_D A [(a, .inr (9, [.ref q1, .null, .int (0 : Int32), .null, .null, .null, .null, .null, .int (0 : Int32), .int (0 : Int32), .null])), (q1, .inr (10, [.ref G.2.2.1, .int (0 : Int32), .int (0 : Int32)]))] := hD
  refine lv_aload_n hx hb d_As_init_15 rfl (lv_at hl 0 rfl) ?_
  refine dm_new (ci := 10) (fs := [.null, .int (0 : Int32), .int (0 : Int32)]) B rfl in_AL t_AL t_AL_ok k_255 k_256 k_13 hP hD hS (by decide +kernel) (by decide) (by decide) d_As_init_16 (fun q2 H hP hD hS => ?_)
  have hP : va_P G.1 dm_cl [(a, .inr (9, [.ref q1, .null, .int (0 : Int32), .null, .null, .null, .null, .null, .int (0 : Int32), .int (0 : Int32), .null])), (q1, .inr (10, [.ref G.2.2.1, .int (0 : Int32), .int (0 : Int32)])), (q2, .inr (10, [.null, .int (0 : Int32), .int (0 : Int32)]))] H := hP
  have hD : va_D A [(a, .inr (9, [.ref q1, .null, .int (0 : Int32), .null, .null, .null, .null, .null, .int (0 : Int32), .int (0 : Int32), .null])), (q1, .inr (10, [.ref G.2.2.1, .int (0 : Int32), .int (0 : Int32)])), (q2, .inr (10, [.null, .int (0 : Int32), .int (0 : Int32)]))] := hD
  refine lv_dup hx hb d_As_init_19 rfl ?_
  refine dm_callIp (wr := [(a, .inr (9, [.ref q1, .null, .int (0 : Int32), .null, .null, .null, .null, .null, .int (0 : Int32), .int (0 : Int32), .null])), (q1, .inr (10, [.ref G.2.2.1, .int (0 : Int32), .int (0 : Int32)]))]) B [] (c_AL_init l G q2) k_257 k_258 k_13 k_259 rfl hd_AL_init rfl ⟨by decide, by decide⟩ hP hD hS (List.Perm.refl _) hl.1 (rest := [.ref q2, .ref a]) rfl (Nat.le_of_ble_eq_true rfl) d_As_init_20 ⟨by decide, by decide⟩ (fun ov w' H locs hq hP hD hS => ?_)
  obtain ⟨rfl, rfl⟩ := hq
  have hP : va_P G.1 dm_cl [(a, .inr (9, [.ref q1, .null, .int (0 : Int32), .null, .null, .null, .null, .null, .int (0 : Int32), .int (0 : Int32), .null])), (q1, .inr (10, [.ref G.2.2.1, .int (0 : Int32), .int (0 : Int32)])), (q2, .inr (10, [.ref G.2.2.1, .int (0 : Int32), .int (0 : Int32)]))] H := hP
  have hD : va_D A [(a, .inr (9, [.ref q1, .null, .int (0 : Int32), .null, .null, .null, .null, .null, .int (0 : Int32), .int (0 : Int32), .null])), (q1, .inr (10, [.ref G.2.2.1, .int (0 : Int32), .int (0 : Int32)])), (q2, .inr (10, [.ref G.2.2.1, .int (0 : Int32), .int (0 : Int32)]))] := hD
  refine W.eq (g2 := F0 m 23 ls [.ref q2, .ref a]) rfl ?_
  refine dm_putF (ci := 9) (v := .ref q2) B hP hD hS 0 rfl rfl in_As t_As t_As_ok n_As 1 (by decide) k_287 rfl rfl rfl rfl (Nat.le_of_ble_eq_true rfl) d_As_init_23 (fun H locs hP hD hS => ?_)
  have hP : va_P G.1 dm_cl [(a, .inr (9, [.ref q1, .ref q2, .int (0 : Int32), .null, .null, .null, .null, .null, .int (0 : Int32), .int (0 : Int32), .null])), (q1, .inr (10, [.ref G.2.2.1, .int (0 : Int32), .int (0 : Int32)])), (q2, .inr (10, [.ref G.2.2.1, .int (0 : Int32), .int (0 : Int32)]))] H := hP
  have hD : va_D A [(a, .inr (9, [.ref q1, .ref q2, .int (0 : Int32), .null, .null, .null, .null, .null, .int (0 : Int32), .int (0 : Int32), .null])), (q1, .inr (10, [.ref G.2.2.1, .int (0 : Int32), .int (0 : Int32)])), (q2, .inr (10, [.ref G.2.2.1, .int (0 : Int32), .int (0 : Int32)]))] := hD
  refine lv_aload_n hx hb d_As_init_26 rfl (lv_at hl 0 rfl) ?_
  refine lv_bipush (v := (96 : Int32)) hx hb d_As_init_27 (by decide) ?_
  refine dm_newa (atype := .boolean) (a0 := (96, .inl (fun _ => 0))) B k_322 rfl 2 rfl hP hD hS (fun _ => rfl) (by decide) (by decide) (by decide) (by decide) (by decide) d_As_init_29 (fun q3 H hP hD hS => ?_)
  have hP : va_P G.1 dm_cl [(a, .inr (9, [.ref q1, .ref q2, .int (0 : Int32), .null, .null, .null, .null, .null, .int (0 : Int32), .int (0 : Int32), .null])), (q1, .inr (10, [.ref G.2.2.1, .int (0 : Int32), .int (0 : Int32)])), (q2, .inr (10, [.ref G.2.2.1, .int (0 : Int32), .int (0 : Int32)])), (q3, .inl (G.2.1 2, 96, .inl (fun _ => 0)))] H := hP
  have hD : va_D A [(a, .inr (9, [.ref q1, .ref q2, .int (0 : Int32), .null, .null, .null, .null, .null, .int (0 : Int32), .int (0 : Int32), .null])), (q1, .inr (10, [.ref G.2.2.1, .int (0 : Int32), .int (0 : Int32)])), (q2, .inr (10, [.ref G.2.2.1, .int (0 : Int32), .int (0 : Int32)])), (q3, .inl (G.2.1 2, 96, .inl (fun _ => 0)))] := hD
  refine dm_putF (ci := 9) (v := .ref q3) B hP hD hS 0 rfl rfl in_As t_As t_As_ok n_As 3 (by decide) k_289 rfl rfl rfl rfl (Nat.le_of_ble_eq_true rfl) d_As_init_31 (fun H locs hP hD hS => ?_)
  have hP : va_P G.1 dm_cl [(a, .inr (9, [.ref q1, .ref q2, .int (0 : Int32), .ref q3, .null, .null, .null, .null, .int (0 : Int32), .int (0 : Int32), .null])), (q1, .inr (10, [.ref G.2.2.1, .int (0 : Int32), .int (0 : Int32)])), (q2, .inr (10, [.ref G.2.2.1, .int (0 : Int32), .int (0 : Int32)])), (q3, .inl (G.2.1 2, 96, .inl (fun _ => 0)))] H := hP
  have hD : va_D A [(a, .inr (9, [.ref q1, .ref q2, .int (0 : Int32), .ref q3, .null, .null, .null, .null, .int (0 : Int32), .int (0 : Int32), .null])), (q1, .inr (10, [.ref G.2.2.1, .int (0 : Int32), .int (0 : Int32)])), (q2, .inr (10, [.ref G.2.2.1, .int (0 : Int32), .int (0 : Int32)])), (q3, .inl (G.2.1 2, 96, .inl (fun _ => 0)))] := hD
  refine lv_aload_n hx hb d_As_init_34 rfl (lv_at hl 0 rfl) ?_
  refine lv_bipush (v := (16 : Int32)) hx hb d_As_init_35 (by decide) ?_
  refine dm_newa (atype := .int) (a0 := (16, .inl (fun _ => 0))) B k_55 rfl 0 rfl hP hD hS (fun _ => rfl) (by decide) (by decide) (by decide) (by decide) (by decide) d_As_init_37 (fun q4 H hP hD hS => ?_)
  have hP : va_P G.1 dm_cl [(a, .inr (9, [.ref q1, .ref q2, .int (0 : Int32), .ref q3, .null, .null, .null, .null, .int (0 : Int32), .int (0 : Int32), .null])), (q1, .inr (10, [.ref G.2.2.1, .int (0 : Int32), .int (0 : Int32)])), (q2, .inr (10, [.ref G.2.2.1, .int (0 : Int32), .int (0 : Int32)])), (q3, .inl (G.2.1 2, 96, .inl (fun _ => 0))), (q4, .inl (G.2.1 0, 16, .inl (fun _ => 0)))] H := hP
  have hD : va_D A [(a, .inr (9, [.ref q1, .ref q2, .int (0 : Int32), .ref q3, .null, .null, .null, .null, .int (0 : Int32), .int (0 : Int32), .null])), (q1, .inr (10, [.ref G.2.2.1, .int (0 : Int32), .int (0 : Int32)])), (q2, .inr (10, [.ref G.2.2.1, .int (0 : Int32), .int (0 : Int32)])), (q3, .inl (G.2.1 2, 96, .inl (fun _ => 0))), (q4, .inl (G.2.1 0, 16, .inl (fun _ => 0)))] := hD
  refine dm_putF (ci := 9) (v := .ref q4) B hP hD hS 0 rfl rfl in_As t_As t_As_ok n_As 4 (by decide) k_290 rfl rfl rfl rfl (Nat.le_of_ble_eq_true rfl) d_As_init_39 (fun H locs hP hD hS => ?_)
  have hP : va_P G.1 dm_cl [(a, .inr (9, [.ref q1, .ref q2, .int (0 : Int32), .ref q3, .ref q4, .null, .null, .null, .int (0 : Int32), .int (0 : Int32), .null])), (q1, .inr (10, [.ref G.2.2.1, .int (0 : Int32), .int (0 : Int32)])), (q2, .inr (10, [.ref G.2.2.1, .int (0 : Int32), .int (0 : Int32)])), (q3, .inl (G.2.1 2, 96, .inl (fun _ => 0))), (q4, .inl (G.2.1 0, 16, .inl (fun _ => 0)))] H := hP
  have hD : va_D A [(a, .inr (9, [.ref q1, .ref q2, .int (0 : Int32), .ref q3, .ref q4, .null, .null, .null, .int (0 : Int32), .int (0 : Int32), .null])), (q1, .inr (10, [.ref G.2.2.1, .int (0 : Int32), .int (0 : Int32)])), (q2, .inr (10, [.ref G.2.2.1, .int (0 : Int32), .int (0 : Int32)])), (q3, .inl (G.2.1 2, 96, .inl (fun _ => 0))), (q4, .inl (G.2.1 0, 16, .inl (fun _ => 0)))] := hD
  refine lv_aload_n hx hb d_As_init_42 rfl (lv_at hl 0 rfl) ?_
  refine lv_bipush (v := (12 : Int32)) hx hb d_As_init_43 (by decide) ?_
  refine dm_newa (atype := .int) (a0 := (12, .inl (fun _ => 0))) B k_55 rfl 0 rfl hP hD hS (fun _ => rfl) (by decide) (by decide) (by decide) (by decide) (by decide) d_As_init_45 (fun q5 H hP hD hS => ?_)
  have hP : va_P G.1 dm_cl [(a, .inr (9, [.ref q1, .ref q2, .int (0 : Int32), .ref q3, .ref q4, .null, .null, .null, .int (0 : Int32), .int (0 : Int32), .null])), (q1, .inr (10, [.ref G.2.2.1, .int (0 : Int32), .int (0 : Int32)])), (q2, .inr (10, [.ref G.2.2.1, .int (0 : Int32), .int (0 : Int32)])), (q3, .inl (G.2.1 2, 96, .inl (fun _ => 0))), (q4, .inl (G.2.1 0, 16, .inl (fun _ => 0))), (q5, .inl (G.2.1 0, 12, .inl (fun _ => 0)))] H := hP
  have hD : va_D A [(a, .inr (9, [.ref q1, .ref q2, .int (0 : Int32), .ref q3, .ref q4, .null, .null, .null, .int (0 : Int32), .int (0 : Int32), .null])), (q1, .inr (10, [.ref G.2.2.1, .int (0 : Int32), .int (0 : Int32)])), (q2, .inr (10, [.ref G.2.2.1, .int (0 : Int32), .int (0 : Int32)])), (q3, .inl (G.2.1 2, 96, .inl (fun _ => 0))), (q4, .inl (G.2.1 0, 16, .inl (fun _ => 0))), (q5, .inl (G.2.1 0, 12, .inl (fun _ => 0)))] := hD
  refine dm_putF (ci := 9) (v := .ref q5) B hP hD hS 0 rfl rfl in_As t_As t_As_ok n_As 5 (by decide) k_291 rfl rfl rfl rfl (Nat.le_of_ble_eq_true rfl) d_As_init_47 (fun H locs hP hD hS => ?_)
  have hP : va_P G.1 dm_cl [(a, .inr (9, [.ref q1, .ref q2, .int (0 : Int32), .ref q3, .ref q4, .ref q5, .null, .null, .int (0 : Int32), .int (0 : Int32), .null])), (q1, .inr (10, [.ref G.2.2.1, .int (0 : Int32), .int (0 : Int32)])), (q2, .inr (10, [.ref G.2.2.1, .int (0 : Int32), .int (0 : Int32)])), (q3, .inl (G.2.1 2, 96, .inl (fun _ => 0))), (q4, .inl (G.2.1 0, 16, .inl (fun _ => 0))), (q5, .inl (G.2.1 0, 12, .inl (fun _ => 0)))] H := hP
  have hD : va_D A [(a, .inr (9, [.ref q1, .ref q2, .int (0 : Int32), .ref q3, .ref q4, .ref q5, .null, .null, .int (0 : Int32), .int (0 : Int32), .null])), (q1, .inr (10, [.ref G.2.2.1, .int (0 : Int32), .int (0 : Int32)])), (q2, .inr (10, [.ref G.2.2.1, .int (0 : Int32), .int (0 : Int32)])), (q3, .inl (G.2.1 2, 96, .inl (fun _ => 0))), (q4, .inl (G.2.1 0, 16, .inl (fun _ => 0))), (q5, .inl (G.2.1 0, 12, .inl (fun _ => 0)))] := hD
  refine lv_aload_n hx hb d_As_init_50 rfl (lv_at hl 0 rfl) ?_
  refine lv_bipush (v := (16 : Int32)) hx hb d_As_init_51 (by decide) ?_
  refine dm_newa (atype := .int) (a0 := (16, .inl (fun _ => 0))) B k_55 rfl 0 rfl hP hD hS (fun _ => rfl) (by decide) (by decide) (by decide) (by decide) (by decide) d_As_init_53 (fun q6 H hP hD hS => ?_)
  have hP : va_P G.1 dm_cl [(a, .inr (9, [.ref q1, .ref q2, .int (0 : Int32), .ref q3, .ref q4, .ref q5, .null, .null, .int (0 : Int32), .int (0 : Int32), .null])), (q1, .inr (10, [.ref G.2.2.1, .int (0 : Int32), .int (0 : Int32)])), (q2, .inr (10, [.ref G.2.2.1, .int (0 : Int32), .int (0 : Int32)])), (q3, .inl (G.2.1 2, 96, .inl (fun _ => 0))), (q4, .inl (G.2.1 0, 16, .inl (fun _ => 0))), (q5, .inl (G.2.1 0, 12, .inl (fun _ => 0))), (q6, .inl (G.2.1 0, 16, .inl (fun _ => 0)))] H := hP
  have hD : va_D A [(a, .inr (9, [.ref q1, .ref q2, .int (0 : Int32), .ref q3, .ref q4, .ref q5, .null, .null, .int (0 : Int32), .int (0 : Int32), .null])), (q1, .inr (10, [.ref G.2.2.1, .int (0 : Int32), .int (0 : Int32)])), (q2, .inr (10, [.ref G.2.2.1, .int (0 : Int32), .int (0 : Int32)])), (q3, .inl (G.2.1 2, 96, .inl (fun _ => 0))), (q4, .inl (G.2.1 0, 16, .inl (fun _ => 0))), (q5, .inl (G.2.1 0, 12, .inl (fun _ => 0))), (q6, .inl (G.2.1 0, 16, .inl (fun _ => 0)))] := hD
  refine dm_putF (ci := 9) (v := .ref q6) B hP hD hS 0 rfl rfl in_As t_As t_As_ok n_As 6 (by decide) k_292 rfl rfl rfl rfl (Nat.le_of_ble_eq_true rfl) d_As_init_55 (fun H locs hP hD hS => ?_)
  have hP : va_P G.1 dm_cl [(a, .inr (9, [.ref q1, .ref q2, .int (0 : Int32), .ref q3, .ref q4, .ref q5, .ref q6, .null, .int (0 : Int32), .int (0 : Int32), .null])), (q1, .inr (10, [.ref G.2.2.1, .int (0 : Int32), .int (0 : Int32)])), (q2, .inr (10, [.ref G.2.2.1, .int (0 : Int32), .int (0 : Int32)])), (q3, .inl (G.2.1 2, 96, .inl (fun _ => 0))), (q4, .inl (G.2.1 0, 16, .inl (fun _ => 0))), (q5, .inl (G.2.1 0, 12, .inl (fun _ => 0))), (q6, .inl (G.2.1 0, 16, .inl (fun _ => 0)))] H := hP
  have hD : va_D A [(a, .inr (9, [.ref q1, .ref q2, .int (0 : Int32), .ref q3, .ref q4, .ref q5, .ref q6, .null, .int (0 : Int32), .int (0 : Int32), .null])), (q1, .inr (10, [.ref G.2.2.1, .int (0 : Int32), .int (0 : Int32)])), (q2, .inr (10, [.ref G.2.2.1, .int (0 : Int32), .int (0 : Int32)])), (q3, .inl (G.2.1 2, 96, .inl (fun _ => 0))), (q4, .inl (G.2.1 0, 16, .inl (fun _ => 0))), (q5, .inl (G.2.1 0, 12, .inl (fun _ => 0))), (q6, .inl (G.2.1 0, 16, .inl (fun _ => 0)))] := hD
  refine lv_aload_n hx hb d_As_init_58 rfl (lv_at hl 0 rfl) ?_
  refine lv_bipush (v := (12 : Int32)) hx hb d_As_init_59 (by decide) ?_
  refine dm_newa (atype := .int) (a0 := (12, .inl (fun _ => 0))) B k_55 rfl 0 rfl hP hD hS (fun _ => rfl) (by decide) (by decide) (by decide) (by decide) (by decide) d_As_init_61 (fun q7 H hP hD hS => ?_)
  have hP : va_P G.1 dm_cl [(a, .inr (9, [.ref q1, .ref q2, .int (0 : Int32), .ref q3, .ref q4, .ref q5, .ref q6, .null, .int (0 : Int32), .int (0 : Int32), .null])), (q1, .inr (10, [.ref G.2.2.1, .int (0 : Int32), .int (0 : Int32)])), (q2, .inr (10, [.ref G.2.2.1, .int (0 : Int32), .int (0 : Int32)])), (q3, .inl (G.2.1 2, 96, .inl (fun _ => 0))), (q4, .inl (G.2.1 0, 16, .inl (fun _ => 0))), (q5, .inl (G.2.1 0, 12, .inl (fun _ => 0))), (q6, .inl (G.2.1 0, 16, .inl (fun _ => 0))), (q7, .inl (G.2.1 0, 12, .inl (fun _ => 0)))] H := hP
  have hD : va_D A [(a, .inr (9, [.ref q1, .ref q2, .int (0 : Int32), .ref q3, .ref q4, .ref q5, .ref q6, .null, .int (0 : Int32), .int (0 : Int32), .null])), (q1, .inr (10, [.ref G.2.2.1, .int (0 : Int32), .int (0 : Int32)])), (q2, .inr (10, [.ref G.2.2.1, .int (0 : Int32), .int (0 : Int32)])), (q3, .inl (G.2.1 2, 96, .inl (fun _ => 0))), (q4, .inl (G.2.1 0, 16, .inl (fun _ => 0))), (q5, .inl (G.2.1 0, 12, .inl (fun _ => 0))), (q6, .inl (G.2.1 0, 16, .inl (fun _ => 0))), (q7, .inl (G.2.1 0, 12, .inl (fun _ => 0)))] := hD
  refine dm_putF (ci := 9) (v := .ref q7) B hP hD hS 0 rfl rfl in_As t_As t_As_ok n_As 7 (by decide) k_294 rfl rfl rfl rfl (Nat.le_of_ble_eq_true rfl) d_As_init_63 (fun H locs hP hD hS => ?_)
  have hP : va_P G.1 dm_cl [(a, .inr (9, [.ref q1, .ref q2, .int (0 : Int32), .ref q3, .ref q4, .ref q5, .ref q6, .ref q7, .int (0 : Int32), .int (0 : Int32), .null])), (q1, .inr (10, [.ref G.2.2.1, .int (0 : Int32), .int (0 : Int32)])), (q2, .inr (10, [.ref G.2.2.1, .int (0 : Int32), .int (0 : Int32)])), (q3, .inl (G.2.1 2, 96, .inl (fun _ => 0))), (q4, .inl (G.2.1 0, 16, .inl (fun _ => 0))), (q5, .inl (G.2.1 0, 12, .inl (fun _ => 0))), (q6, .inl (G.2.1 0, 16, .inl (fun _ => 0))), (q7, .inl (G.2.1 0, 12, .inl (fun _ => 0)))] H := hP
  have hD : va_D A [(a, .inr (9, [.ref q1, .ref q2, .int (0 : Int32), .ref q3, .ref q4, .ref q5, .ref q6, .ref q7, .int (0 : Int32), .int (0 : Int32), .null])), (q1, .inr (10, [.ref G.2.2.1, .int (0 : Int32), .int (0 : Int32)])), (q2, .inr (10, [.ref G.2.2.1, .int (0 : Int32), .int (0 : Int32)])), (q3, .inl (G.2.1 2, 96, .inl (fun _ => 0))), (q4, .inl (G.2.1 0, 16, .inl (fun _ => 0))), (q5, .inl (G.2.1 0, 12, .inl (fun _ => 0))), (q6, .inl (G.2.1 0, 16, .inl (fun _ => 0))), (q7, .inl (G.2.1 0, 12, .inl (fun _ => 0)))] := hD
  refine lv_aload_n hx hb d_As_init_66 rfl (lv_at hl 0 rfl) ?_
  have hP : va_P G.1 dm_cl (aw G (asg a q1 q2 q3 q4 q5 q6 q7) (G.2.2.1, 0, 0, fun _ => 0) (fun _ _ => 0) [] (G.2.2.1, 0, 0, fun _ => 0) (fun _ => 0) (fun _ _ => 0) (fun _ _ => 0) (fun _ => none)) H := hP.sub [0, 3, 4, 5, 6, 7, 1, 2] rfl
  have hD : va_D A (aw G (asg a q1 q2 q3 q4 q5 q6 q7) (G.2.2.1, 0, 0, fun _ => 0) (fun _ _ => 0) [] (G.2.2.1, 0, 0, fun _ => 0) (fun _ => 0) (fun _ _ => 0) (fun _ _ => 0) (fun _ => none)) := hD.sub [0, 3, 4, 5, 6, 7, 1, 2] (by decide) rfl
  refine dm_callVw B [] (c_As_forget l G (asg a q1 q2 q3 q4 q5 q6 q7) (G.2.2.1, 0, 0, fun _ => 0) (fun _ _ => 0) [] (G.2.2.1, 0, 0, fun _ => 0) (fun _ => 0) (fun _ _ => 0) (fun _ _ => 0) (fun _ => none) _ as_ok0 as_ok0 as_f0) k_281 k_282 k_283 k_10 k_284 hd_As_forget rfl ⟨by decide, by decide⟩ 0 rfl rfl hP hD hS hl.1 (rest := []) rfl (Nat.le_of_ble_eq_true rfl) d_As_init_67 ⟨by decide, by decide⟩ (fun ov w' H locs hq hP hD hS => ?_)
  obtain ⟨hY, hk, hx1, rfl, rfl⟩ := hq
  refine W.eq (g2 := F0 m 70 ls []) rfl ?_
  exact dm_retv B d_As_init_70 (by decide) (by decide) hP hD hS ⟨asg a q1 q2 q3 q4 q5 q6 q7, rfl, hY, hk, rfl, rfl⟩
