abbrev b_Mo_cycle : ByteArray := prog_16_method_19_code
abbrev y_Mo_cycle : MethodName := { cls := "DelayMachineModel", name := "cycle", desc := "()V" }
theorem d_Mo_cycle_0 : decode b_Mo_cycle 0 = .ok (.aload_n 0, 1) := by decide +kernel
theorem d_Mo_cycle_1 : decode b_Mo_cycle 1 = .ok (.getfield 128, 3) := by decide +kernel
theorem d_Mo_cycle_4 : decode b_Mo_cycle 4 = .ok (.aload_n 0, 1) := by decide +kernel
theorem d_Mo_cycle_5 : decode b_Mo_cycle 5 = .ok (.getfield 131, 3) := by decide +kernel
theorem d_Mo_cycle_8 : decode b_Mo_cycle 8 = .ok (.if_icmp .ne (7), 3) := by decide +kernel
theorem d_Mo_cycle_11 : decode b_Mo_cycle 11 = .ok (.aload_n 0, 1) := by decide +kernel
theorem d_Mo_cycle_12 : decode b_Mo_cycle 12 = .ok (.invokevirtual 181, 3) := by decide +kernel
theorem d_Mo_cycle_15 : decode b_Mo_cycle 15 = .ok (.aload_n 0, 1) := by decide +kernel
theorem d_Mo_cycle_16 : decode b_Mo_cycle 16 = .ok (.invokevirtual 153, 3) := by decide +kernel
theorem d_Mo_cycle_19 : decode b_Mo_cycle 19 = .ok (.istore_n 1, 1) := by decide +kernel
theorem d_Mo_cycle_20 : decode b_Mo_cycle 20 = .ok (.aload_n 0, 1) := by decide +kernel
theorem d_Mo_cycle_21 : decode b_Mo_cycle 21 = .ok (.getfield 128, 3) := by decide +kernel
theorem d_Mo_cycle_24 : decode b_Mo_cycle 24 = .ok (.aload_n 0, 1) := by decide +kernel
theorem d_Mo_cycle_25 : decode b_Mo_cycle 25 = .ok (.getfield 23, 3) := by decide +kernel
theorem d_Mo_cycle_28 : decode b_Mo_cycle 28 = .ok (.isub, 1) := by decide +kernel
theorem d_Mo_cycle_29 : decode b_Mo_cycle 29 = .ok (.bipush (40), 2) := by decide +kernel
theorem d_Mo_cycle_31 : decode b_Mo_cycle 31 = .ok (.isub, 1) := by decide +kernel
theorem d_Mo_cycle_32 : decode b_Mo_cycle 32 = .ok (.istore_n 2, 1) := by decide +kernel
theorem d_Mo_cycle_33 : decode b_Mo_cycle 33 = .ok (.aload_n 0, 1) := by decide +kernel
theorem d_Mo_cycle_34 : decode b_Mo_cycle 34 = .ok (.aload_n 0, 1) := by decide +kernel
theorem d_Mo_cycle_35 : decode b_Mo_cycle 35 = .ok (.getfield 175, 3) := by decide +kernel
theorem d_Mo_cycle_38 : decode b_Mo_cycle 38 = .ok (.ifCond .eq (18), 3) := by decide +kernel
theorem d_Mo_cycle_41 : decode b_Mo_cycle 41 = .ok (.iload_n 1, 1) := by decide +kernel
theorem d_Mo_cycle_42 : decode b_Mo_cycle 42 = .ok (.ifCond .lt (10), 3) := by decide +kernel
theorem d_Mo_cycle_45 : decode b_Mo_cycle 45 = .ok (.iload_n 2, 1) := by decide +kernel
theorem d_Mo_cycle_46 : decode b_Mo_cycle 46 = .ok (.bipush (8), 2) := by decide +kernel
theorem d_Mo_cycle_48 : decode b_Mo_cycle 48 = .ok (.irem, 1) := by decide +kernel
theorem d_Mo_cycle_49 : decode b_Mo_cycle 49 = .ok (.ifCond .eq (7), 3) := by decide +kernel
theorem d_Mo_cycle_52 : decode b_Mo_cycle 52 = .ok (.iconst 1, 1) := by decide +kernel
theorem d_Mo_cycle_53 : decode b_Mo_cycle 53 = .ok (.goto (4), 3) := by decide +kernel
theorem d_Mo_cycle_56 : decode b_Mo_cycle 56 = .ok (.iconst 0, 1) := by decide +kernel
theorem d_Mo_cycle_57 : decode b_Mo_cycle 57 = .ok (.putfield 175, 3) := by decide +kernel
theorem d_Mo_cycle_60 : decode b_Mo_cycle 60 = .ok (.aload_n 0, 1) := by decide +kernel
theorem d_Mo_cycle_61 : decode b_Mo_cycle 61 = .ok (.getfield 128, 3) := by decide +kernel
theorem d_Mo_cycle_64 : decode b_Mo_cycle 64 = .ok (.aload_n 0, 1) := by decide +kernel
theorem d_Mo_cycle_65 : decode b_Mo_cycle 65 = .ok (.getfield 116, 3) := by decide +kernel
theorem d_Mo_cycle_68 : decode b_Mo_cycle 68 = .ok (.if_icmp .lt (18), 3) := by decide +kernel
theorem d_Mo_cycle_71 : decode b_Mo_cycle 71 = .ok (.aload_n 0, 1) := by decide +kernel
theorem d_Mo_cycle_72 : decode b_Mo_cycle 72 = .ok (.getfield 128, 3) := by decide +kernel
theorem d_Mo_cycle_75 : decode b_Mo_cycle 75 = .ok (.aload_n 0, 1) := by decide +kernel
theorem d_Mo_cycle_76 : decode b_Mo_cycle 76 = .ok (.getfield 119, 3) := by decide +kernel
theorem d_Mo_cycle_79 : decode b_Mo_cycle 79 = .ok (.if_icmp .gt (7), 3) := by decide +kernel
theorem d_Mo_cycle_82 : decode b_Mo_cycle 82 = .ok (.iconst 1, 1) := by decide +kernel
theorem d_Mo_cycle_83 : decode b_Mo_cycle 83 = .ok (.goto (4), 3) := by decide +kernel
theorem d_Mo_cycle_86 : decode b_Mo_cycle 86 = .ok (.iconst 0, 1) := by decide +kernel
theorem d_Mo_cycle_87 : decode b_Mo_cycle 87 = .ok (.istore_n 3, 1) := by decide +kernel
theorem d_Mo_cycle_88 : decode b_Mo_cycle 88 = .ok (.aload_n 0, 1) := by decide +kernel
theorem d_Mo_cycle_89 : decode b_Mo_cycle 89 = .ok (.invokevirtual 184, 3) := by decide +kernel
theorem d_Mo_cycle_92 : decode b_Mo_cycle 92 = .ok (.istore 4, 2) := by decide +kernel
theorem d_Mo_cycle_94 : decode b_Mo_cycle 94 = .ok (.iload 4, 2) := by decide +kernel
theorem d_Mo_cycle_96 : decode b_Mo_cycle 96 = .ok (.ifCond .lt (85), 3) := by decide +kernel
theorem d_Mo_cycle_99 : decode b_Mo_cycle 99 = .ok (.aload_n 0, 1) := by decide +kernel
theorem d_Mo_cycle_100 : decode b_Mo_cycle 100 = .ok (.iload 4, 2) := by decide +kernel
theorem d_Mo_cycle_102 : decode b_Mo_cycle 102 = .ok (.bipush (15), 2) := by decide +kernel
theorem d_Mo_cycle_104 : decode b_Mo_cycle 104 = .ok (.iand, 1) := by decide +kernel
theorem d_Mo_cycle_105 : decode b_Mo_cycle 105 = .ok (.invokevirtual 187, 3) := by decide +kernel
theorem d_Mo_cycle_108 : decode b_Mo_cycle 108 = .ok (.istore 5, 2) := by decide +kernel
theorem d_Mo_cycle_110 : decode b_Mo_cycle 110 = .ok (.aload_n 0, 1) := by decide +kernel
theorem d_Mo_cycle_111 : decode b_Mo_cycle 111 = .ok (.aload_n 0, 1) := by decide +kernel
theorem d_Mo_cycle_112 : decode b_Mo_cycle 112 = .ok (.getfield 175, 3) := by decide +kernel
theorem d_Mo_cycle_115 : decode b_Mo_cycle 115 = .ok (.ifCond .ne (17), 3) := by decide +kernel
theorem d_Mo_cycle_118 : decode b_Mo_cycle 118 = .ok (.iload_n 1, 1) := by decide +kernel
theorem d_Mo_cycle_119 : decode b_Mo_cycle 119 = .ok (.ifCond .lt (17), 3) := by decide +kernel
theorem d_Mo_cycle_122 : decode b_Mo_cycle 122 = .ok (.iload 4, 2) := by decide +kernel
theorem d_Mo_cycle_124 : decode b_Mo_cycle 124 = .ok (.bipush (15), 2) := by decide +kernel
theorem d_Mo_cycle_126 : decode b_Mo_cycle 126 = .ok (.iand, 1) := by decide +kernel
theorem d_Mo_cycle_127 : decode b_Mo_cycle 127 = .ok (.bipush (13), 2) := by decide +kernel
theorem d_Mo_cycle_129 : decode b_Mo_cycle 129 = .ok (.if_icmp .ne (7), 3) := by decide +kernel
theorem d_Mo_cycle_132 : decode b_Mo_cycle 132 = .ok (.iconst 1, 1) := by decide +kernel
theorem d_Mo_cycle_133 : decode b_Mo_cycle 133 = .ok (.goto (4), 3) := by decide +kernel
theorem d_Mo_cycle_136 : decode b_Mo_cycle 136 = .ok (.iconst 0, 1) := by decide +kernel
theorem d_Mo_cycle_137 : decode b_Mo_cycle 137 = .ok (.putfield 175, 3) := by decide +kernel
theorem d_Mo_cycle_140 : decode b_Mo_cycle 140 = .ok (.iload_n 3, 1) := by decide +kernel
theorem d_Mo_cycle_141 : decode b_Mo_cycle 141 = .ok (.ifCond .ne (27), 3) := by decide +kernel
theorem d_Mo_cycle_144 : decode b_Mo_cycle 144 = .ok (.iload 4, 2) := by decide +kernel
theorem d_Mo_cycle_146 : decode b_Mo_cycle 146 = .ok (.iconst 4, 1) := by decide +kernel
theorem d_Mo_cycle_147 : decode b_Mo_cycle 147 = .ok (.ishr, 1) := by decide +kernel
theorem d_Mo_cycle_148 : decode b_Mo_cycle 148 = .ok (.bipush (15), 2) := by decide +kernel
theorem d_Mo_cycle_150 : decode b_Mo_cycle 150 = .ok (.iand, 1) := by decide +kernel
theorem d_Mo_cycle_151 : decode b_Mo_cycle 151 = .ok (.bipush (11), 2) := by decide +kernel
theorem d_Mo_cycle_153 : decode b_Mo_cycle 153 = .ok (.if_icmp .eq (28), 3) := by decide +kernel
theorem d_Mo_cycle_156 : decode b_Mo_cycle 156 = .ok (.iload 4, 2) := by decide +kernel
theorem d_Mo_cycle_158 : decode b_Mo_cycle 158 = .ok (.iconst 4, 1) := by decide +kernel
theorem d_Mo_cycle_159 : decode b_Mo_cycle 159 = .ok (.ishr, 1) := by decide +kernel
theorem d_Mo_cycle_160 : decode b_Mo_cycle 160 = .ok (.bipush (15), 2) := by decide +kernel
theorem d_Mo_cycle_162 : decode b_Mo_cycle 162 = .ok (.iand, 1) := by decide +kernel
theorem d_Mo_cycle_163 : decode b_Mo_cycle 163 = .ok (.bipush (12), 2) := by decide +kernel
theorem d_Mo_cycle_165 : decode b_Mo_cycle 165 = .ok (.if_icmp .eq (16), 3) := by decide +kernel
theorem d_Mo_cycle_168 : decode b_Mo_cycle 168 = .ok (.aload_n 0, 1) := by decide +kernel
theorem d_Mo_cycle_169 : decode b_Mo_cycle 169 = .ok (.iload 4, 2) := by decide +kernel
theorem d_Mo_cycle_171 : decode b_Mo_cycle 171 = .ok (.iconst 4, 1) := by decide +kernel
theorem d_Mo_cycle_172 : decode b_Mo_cycle 172 = .ok (.ishr, 1) := by decide +kernel
theorem d_Mo_cycle_173 : decode b_Mo_cycle 173 = .ok (.bipush (15), 2) := by decide +kernel
theorem d_Mo_cycle_175 : decode b_Mo_cycle 175 = .ok (.iand, 1) := by decide +kernel
theorem d_Mo_cycle_176 : decode b_Mo_cycle 176 = .ok (.iload 5, 2) := by decide +kernel
theorem d_Mo_cycle_178 : decode b_Mo_cycle 178 = .ok (.invokevirtual 191, 3) := by decide +kernel
theorem d_Mo_cycle_181 : decode b_Mo_cycle 181 = .ok (.aload_n 0, 1) := by decide +kernel
theorem d_Mo_cycle_182 : decode b_Mo_cycle 182 = .ok (.invokevirtual 195, 3) := by decide +kernel
theorem d_Mo_cycle_185 : decode b_Mo_cycle 185 = .ok (.iload_n 1, 1) := by decide +kernel
theorem d_Mo_cycle_186 : decode b_Mo_cycle 186 = .ok (.ifCond .lt (23), 3) := by decide +kernel
theorem d_Mo_cycle_189 : decode b_Mo_cycle 189 = .ok (.iload_n 2, 1) := by decide +kernel
theorem d_Mo_cycle_190 : decode b_Mo_cycle 190 = .ok (.bipush (8), 2) := by decide +kernel
theorem d_Mo_cycle_192 : decode b_Mo_cycle 192 = .ok (.irem, 1) := by decide +kernel
theorem d_Mo_cycle_193 : decode b_Mo_cycle 193 = .ok (.iconst 2, 1) := by decide +kernel
theorem d_Mo_cycle_194 : decode b_Mo_cycle 194 = .ok (.if_icmp .ne (15), 3) := by decide +kernel
theorem d_Mo_cycle_197 : decode b_Mo_cycle 197 = .ok (.aload_n 0, 1) := by decide +kernel
theorem d_Mo_cycle_198 : decode b_Mo_cycle 198 = .ok (.getfield 175, 3) := by decide +kernel
theorem d_Mo_cycle_201 : decode b_Mo_cycle 201 = .ok (.ifCond .ne (8), 3) := by decide +kernel
theorem d_Mo_cycle_204 : decode b_Mo_cycle 204 = .ok (.aload_n 0, 1) := by decide +kernel
theorem d_Mo_cycle_205 : decode b_Mo_cycle 205 = .ok (.iconst 1, 1) := by decide +kernel
theorem d_Mo_cycle_206 : decode b_Mo_cycle 206 = .ok (.invokevirtual 171, 3) := by decide +kernel
theorem d_Mo_cycle_209 : decode b_Mo_cycle 209 = .ok (.aload_n 0, 1) := by decide +kernel
theorem d_Mo_cycle_210 : decode b_Mo_cycle 210 = .ok (.dup, 1) := by decide +kernel
theorem d_Mo_cycle_211 : decode b_Mo_cycle 211 = .ok (.getfield 128, 3) := by decide +kernel
theorem d_Mo_cycle_214 : decode b_Mo_cycle 214 = .ok (.iconst 1, 1) := by decide +kernel
theorem d_Mo_cycle_215 : decode b_Mo_cycle 215 = .ok (.iadd, 1) := by decide +kernel
theorem d_Mo_cycle_216 : decode b_Mo_cycle 216 = .ok (.putfield 128, 3) := by decide +kernel
theorem d_Mo_cycle_219 : decode b_Mo_cycle 219 = .ok (.return_, 1) := by decide +kernel
theorem hd_Mo_cycle : y_Mo_cycle.cls ≠ "java/lang/invoke/MethodHandle" ∧ y_Mo_cycle.cls ≠ "java/lang/invoke/VarHandle" ∧ (parseMethodDescriptor y_Mo_cycle.desc).map (fun d => d.parameters.length) = some 0 := by decide +kernel
abbrev rm_Mo_cycle : Room := { frames := 3, cells := 0, slots := 0, locals := 64 }
def F_Mo_cycle_209    (v : Nat → Int32) (f : Nat → Nat → Int32) : Option ((Nat → Int32) × (Nat → Nat → Int32)) := (some ((va_up v 2 ((v 2) + (1 : Int32))), f))
def F_Mo_cycle_181   (l1 : Int32) (l2 : Int32) (v : Nat → Int32) (f : Nat → Nat → Int32) : Option ((Nat → Int32) × (Nat → Nat → Int32)) := (Option.bind (F_Mo_multiply  v f) (fun z1 => (if l1 < (0 : Int32) then (F_Mo_cycle_209  z1.1 z1.2) else (if (l2 - l2 / (8 : Int32) * (8 : Int32)) = (2 : Int32) then (if (z1.1 24) = (0 : Int32) then (Option.bind (F_Mo_fail (1 : Int32) z1.1 z1.2) (fun z2 => (F_Mo_cycle_209  z2.1 z2.2))) else (F_Mo_cycle_209  z1.1 z1.2)) else (F_Mo_cycle_209  z1.1 z1.2)))))
def F_Mo_cycle_168   (l1 : Int32) (l2 : Int32) (l4 : Int32) (l5 : Int32) (v : Nat → Int32) (f : Nat → Nat → Int32) : Option ((Nat → Int32) × (Nat → Nat → Int32)) := (Option.bind (F_Mo_put ((l4 >>> ((4 : Int32) &&& 31)) &&& (15 : Int32)) l5 v f) (fun z1 => (F_Mo_cycle_181  l1 l2 z1.1 z1.2)))
def F_Mo_cycle_137   (l1 : Int32) (l2 : Int32) (l3 : Int32) (l4 : Int32) (l5 : Int32) (s1 : Int32) (v : Nat → Int32) (f : Nat → Nat → Int32) : Option ((Nat → Int32) × (Nat → Nat → Int32)) := (if s1 = 0 ∨ s1 = 1 then (if l3 = (0 : Int32) then (if ((l4 >>> ((4 : Int32) &&& 31)) &&& (15 : Int32)) = (11 : Int32) then (F_Mo_cycle_181  l1 l2 (va_up v 24 s1) f) else (if ((l4 >>> ((4 : Int32) &&& 31)) &&& (15 : Int32)) = (12 : Int32) then (F_Mo_cycle_181  l1 l2 (va_up v 24 s1) f) else (F_Mo_cycle_168  l1 l2 l4 l5 (va_up v 24 s1) f))) else (F_Mo_cycle_168  l1 l2 l4 l5 (va_up v 24 s1) f)) else none)
def F_Mo_cycle_132   (l1 : Int32) (l2 : Int32) (l3 : Int32) (l4 : Int32) (l5 : Int32) (v : Nat → Int32) (f : Nat → Nat → Int32) : Option ((Nat → Int32) × (Nat → Nat → Int32)) := (F_Mo_cycle_137  l1 l2 l3 l4 l5 (1 : Int32) v f)
def F_Mo_cycle_136   (l1 : Int32) (l2 : Int32) (l3 : Int32) (l4 : Int32) (l5 : Int32) (v : Nat → Int32) (f : Nat → Nat → Int32) : Option ((Nat → Int32) × (Nat → Nat → Int32)) := (F_Mo_cycle_137  l1 l2 l3 l4 l5 (0 : Int32) v f)
def F_Mo_cycle_87   (l1 : Int32) (l2 : Int32) (s0 : Int32) (v : Nat → Int32) (f : Nat → Nat → Int32) : Option ((Nat → Int32) × (Nat → Nat → Int32)) := (Option.bind (F_Mo_current  v f) (fun z1 => (if z1 < (0 : Int32) then (F_Mo_cycle_181  l1 l2 v f) else (Option.bind (F_Mo_get (z1 &&& (15 : Int32)) v f) (fun z2 => (if (v 24) = (0 : Int32) then (if l1 < (0 : Int32) then (F_Mo_cycle_136  l1 l2 s0 z1 z2 v f) else (if (z1 &&& (15 : Int32)) = (13 : Int32) then (F_Mo_cycle_132  l1 l2 s0 z1 z2 v f) else (F_Mo_cycle_136  l1 l2 s0 z1 z2 v f))) else (F_Mo_cycle_132  l1 l2 s0 z1 z2 v f)))))))
def F_Mo_cycle_86   (l1 : Int32) (l2 : Int32) (v : Nat → Int32) (f : Nat → Nat → Int32) : Option ((Nat → Int32) × (Nat → Nat → Int32)) := (F_Mo_cycle_87  l1 l2 (0 : Int32) v f)
def F_Mo_cycle_57   (l1 : Int32) (l2 : Int32) (s1 : Int32) (v : Nat → Int32) (f : Nat → Nat → Int32) : Option ((Nat → Int32) × (Nat → Nat → Int32)) := (if s1 = 0 ∨ s1 = 1 then (if (v 2) < (v 11) then (F_Mo_cycle_86  l1 l2 (va_up v 24 s1) f) else (if (v 12) < (v 2) then (F_Mo_cycle_86  l1 l2 (va_up v 24 s1) f) else (F_Mo_cycle_87  l1 l2 (1 : Int32) (va_up v 24 s1) f))) else none)
def F_Mo_cycle_56   (l1 : Int32) (l2 : Int32) (v : Nat → Int32) (f : Nat → Nat → Int32) : Option ((Nat → Int32) × (Nat → Nat → Int32)) := (F_Mo_cycle_57  l1 l2 (0 : Int32) v f)
def F_Mo_cycle_52   (l1 : Int32) (l2 : Int32) (v : Nat → Int32) (f : Nat → Nat → Int32) : Option ((Nat → Int32) × (Nat → Nat → Int32)) := (F_Mo_cycle_57  l1 l2 (1 : Int32) v f)
def F_Mo_cycle_15    (v : Nat → Int32) (f : Nat → Nat → Int32) : Option ((Nat → Int32) × (Nat → Nat → Int32)) := (Option.bind (F_Mo_row  v f) (fun z1 => (if (v 24) = (0 : Int32) then (F_Mo_cycle_56  z1 (((v 2) - (v 23)) - (40 : Int32)) v f) else (if z1 < (0 : Int32) then (F_Mo_cycle_52  z1 (((v 2) - (v 23)) - (40 : Int32)) v f) else (if ((((v 2) - (v 23)) - (40 : Int32)) - (((v 2) - (v 23)) - (40 : Int32)) / (8 : Int32) * (8 : Int32)) = (0 : Int32) then (F_Mo_cycle_56  z1 (((v 2) - (v 23)) - (40 : Int32)) v f) else (F_Mo_cycle_52  z1 (((v 2) - (v 23)) - (40 : Int32)) v f))))))
def F_Mo_cycle  (v : Nat → Int32) (f : Nat → Nat → Int32) : Option ((Nat → Int32) × (Nat → Nat → Int32)) := (if (v 2) = (v 5) then (Option.bind (F_Mo_read  v f) (fun z1 => (F_Mo_cycle_15  z1.1 z1.2))) else (F_Mo_cycle_15  v f))
set_option maxHeartbeats 4000000 in
set_option maxRecDepth 100000 in
theorem c_Mo_cycle (l : Launch) (G : dm_G) (g : Nat → Nat) (v : Nat → Int32) (f : Nat → Nat → Int32) (RES : (Nat → Int32) × (Nat → Nat → Int32)) (hF : F_Mo_cycle v f = some RES) : dm_Ct l y_Mo_cycle b_Mo_cycle 6 none rm_Mo_cycle G (tw G g v f) [.ref (g 0)] (fun ov w' => ov = none ∧ w' = (tw G g RES.1 RES.2)) := by
  refine dm_Ct.of (by decide +kernel) (Nat.le_of_ble_eq_true rfl) ?_
  intro p e s m below meth c A ls B hl hP hD hS
  have hx := B.1
  have hb := B.2.1
  have hl : lv_has ls 6 [(0, .ref (g 0))] := hl
  have K209 : ∀ (ls : Array Slot) (H : Heap) (locs : List Loc)  (v : Nat → Int32) (f : Nat → Nat → Int32), lv_has ls 6 [(0, .ref (g 0))] → va_P G.1 dm_cl (tw G g v f) H → va_D A (tw G g v f) → va_S A s.heap H locs → F_Mo_cycle_209   v f = some RES → W p l e rm_Mo_cycle s m ([.ref (g 0)] : List Value).toArray below meth c H locs 0 0 (dm_Z below G s ([.ref (g 0)] : List Value).toArray A rm_Mo_cycle.cells rm_Mo_cycle.slots (fun ov w' => ov = none ∧ w' = (tw G g RES.1 RES.2))) (F0 m 209 ls []) := by
    intro ls H locs v f hl hP hD hS hF
    have hF : (some ((va_up v 2 ((v 2) + (1 : Int32))), f)) = some RES := hF
    refine lv_aload_n hx hb d_Mo_cycle_209 rfl (lv_at hl 0 rfl) ?_
    refine lv_dup hx hb d_Mo_cycle_210 rfl ?_
    refine tw_g_0_2 (x := (v 2)) B hP rfl k_727 d_Mo_cycle_211 ?_
    refine lv_iconst (v := (1 : Int32)) hx hb d_Mo_cycle_214 (by decide) ?_
    refine lv_iadd hx hb d_Mo_cycle_215 ?_
    refine tw_p_0_2 (x := ((v 2) + (1 : Int32))) B hP hD hS k_727 d_Mo_cycle_216 (fun H locs hP hD hS => ?_)
    have hF := Option.some.inj hF
    subst hF
    exact dm_retv B d_Mo_cycle_219 (by decide) (by decide) hP hD hS ⟨rfl, rfl⟩
  have K181 : ∀ (ls : Array Slot) (H : Heap) (locs : List Loc) (l1 : Int32) (l2 : Int32) (v : Nat → Int32) (f : Nat → Nat → Int32), lv_has ls 6 [(0, .ref (g 0)), (1, .int l1), (2, .int l2)] → va_P G.1 dm_cl (tw G g v f) H → va_D A (tw G g v f) → va_S A s.heap H locs → F_Mo_cycle_181  l1 l2 v f = some RES → W p l e rm_Mo_cycle s m ([.ref (g 0)] : List Value).toArray below meth c H locs 0 0 (dm_Z below G s ([.ref (g 0)] : List Value).toArray A rm_Mo_cycle.cells rm_Mo_cycle.slots (fun ov w' => ov = none ∧ w' = (tw G g RES.1 RES.2))) (F0 m 181 ls []) := by
    intro ls H locs l1 l2 v f hl hP hD hS hF
    have hF : (Option.bind (F_Mo_multiply  v f) (fun z1 => (if l1 < (0 : Int32) then (F_Mo_cycle_209  z1.1 z1.2) else (if (l2 - l2 / (8 : Int32) * (8 : Int32)) = (2 : Int32) then (if (z1.1 24) = (0 : Int32) then (Option.bind (F_Mo_fail (1 : Int32) z1.1 z1.2) (fun z2 => (F_Mo_cycle_209  z2.1 z2.2))) else (F_Mo_cycle_209  z1.1 z1.2)) else (F_Mo_cycle_209  z1.1 z1.2))))) = some RES := hF
    refine lv_aload_n hx hb d_Mo_cycle_181 rfl (lv_at hl 0 rfl) ?_
    obtain ⟨z1, hcz1, hF⟩ := dm_bind hF
    refine dm_callVw B [] (c_Mo_multiply l G g  v f z1 hcz1) k_940 k_942 ks_26 k_14 k_943 hd_Mo_multiply rfl ⟨by decide, by decide⟩ 0 rfl rfl hP hD hS hl.1 (rest := []) rfl (Nat.le_of_ble_eq_true rfl) d_Mo_cycle_182 ⟨by decide, by decide⟩ (fun ov w' H locs hq hP hD hS => ?_)
    obtain ⟨rfl, rfl⟩ := hq
    have hP : va_P G.1 dm_cl (tw G g z1.1 z1.2) H := hP
    have hD : va_D A (tw G g z1.1 z1.2) := hD
    refine W.eq (g2 := F0 m 185 ls []) rfl ?_
    refine lv_iload_n hx hb d_Mo_cycle_185 rfl (lv_at hl 1 rfl) ?_
    refine lv_if_lt (tgt := 209) hx hb d_Mo_cycle_186 (by decide) (fun (hh : l1 < (0 : Int32)) => ?_) (fun (hh : ¬ l1 < (0 : Int32)) => ?_)
    · rw [if_pos hh] at hF
      exact K209 ls _ _ z1.1 z1.2 (lv_sub hl [0] rfl) hP hD hS hF
    · rw [if_neg hh] at hF
      refine lv_iload_n hx hb d_Mo_cycle_189 rfl (lv_at hl 2 rfl) ?_
      refine lv_bipush (v := (8 : Int32)) hx hb d_Mo_cycle_190 (by decide) ?_
      refine lv_irem hx hb d_Mo_cycle_192 (by decide) ?_
      refine lv_iconst (v := (2 : Int32)) hx hb d_Mo_cycle_193 (by decide) ?_
      refine lv_icmp_ne (tgt := 209) hx hb d_Mo_cycle_194 (by decide) (fun (hh : ¬ (l2 - l2 / (8 : Int32) * (8 : Int32)) = (2 : Int32)) => ?_) (fun (hh : (l2 - l2 / (8 : Int32) * (8 : Int32)) = (2 : Int32)) => ?_)
      · rw [if_neg hh] at hF
        exact K209 ls _ _ z1.1 z1.2 (lv_sub hl [0] rfl) hP hD hS hF
      · rw [if_pos hh] at hF
        refine lv_aload_n hx hb d_Mo_cycle_197 rfl (lv_at hl 0 rfl) ?_
        refine tw_g_0_24 (x := (z1.1 24)) B hP rfl k_749 d_Mo_cycle_198 ?_
        refine lv_if_ne (tgt := 209) hx hb d_Mo_cycle_201 (by decide) (fun (hh : ¬ (z1.1 24) = (0 : Int32)) => ?_) (fun (hh : (z1.1 24) = (0 : Int32)) => ?_)
        · rw [if_neg hh] at hF
          exact K209 ls _ _ z1.1 z1.2 (lv_sub hl [0] rfl) hP hD hS hF
        · rw [if_pos hh] at hF
          refine lv_aload_n hx hb d_Mo_cycle_204 rfl (lv_at hl 0 rfl) ?_
          refine lv_iconst (v := (1 : Int32)) hx hb d_Mo_cycle_205 (by decide) ?_
          obtain ⟨z2, hcz2, hF⟩ := dm_bind hF
          refine dm_callVw B [.int (1 : Int32)] (c_Mo_fail l G g (1 : Int32) z1.1 z1.2 z2 hcz2) k_932 k_934 ks_24 k_14 k_935 hd_Mo_fail rfl ⟨by decide, by decide⟩ 0 rfl rfl hP hD hS hl.1 (rest := []) rfl (Nat.le_of_ble_eq_true rfl) d_Mo_cycle_206 ⟨by decide, by decide⟩ (fun ov w' H locs hq hP hD hS => ?_)
          obtain ⟨rfl, rfl⟩ := hq
          have hP : va_P G.1 dm_cl (tw G g z2.1 z2.2) H := hP
          have hD : va_D A (tw G g z2.1 z2.2) := hD
          refine W.eq (g2 := F0 m 209 ls []) rfl ?_
          exact K209 ls _ _ z2.1 z2.2 (lv_sub hl [0] rfl) hP hD hS hF
  have K168 : ∀ (ls : Array Slot) (H : Heap) (locs : List Loc) (l1 : Int32) (l2 : Int32) (l4 : Int32) (l5 : Int32) (v : Nat → Int32) (f : Nat → Nat → Int32), lv_has ls 6 [(0, .ref (g 0)), (1, .int l1), (2, .int l2), (4, .int l4), (5, .int l5)] → va_P G.1 dm_cl (tw G g v f) H → va_D A (tw G g v f) → va_S A s.heap H locs → F_Mo_cycle_168  l1 l2 l4 l5 v f = some RES → W p l e rm_Mo_cycle s m ([.ref (g 0)] : List Value).toArray below meth c H locs 0 0 (dm_Z below G s ([.ref (g 0)] : List Value).toArray A rm_Mo_cycle.cells rm_Mo_cycle.slots (fun ov w' => ov = none ∧ w' = (tw G g RES.1 RES.2))) (F0 m 168 ls []) := by
    intro ls H locs l1 l2 l4 l5 v f hl hP hD hS hF
    have hF : (Option.bind (F_Mo_put ((l4 >>> ((4 : Int32) &&& 31)) &&& (15 : Int32)) l5 v f) (fun z1 => (F_Mo_cycle_181  l1 l2 z1.1 z1.2))) = some RES := hF
    refine lv_aload_n hx hb d_Mo_cycle_168 rfl (lv_at hl 0 rfl) ?_
    refine lv_iload hx hb d_Mo_cycle_169 (lv_at hl 3 rfl) ?_
    refine lv_iconst (v := (4 : Int32)) hx hb d_Mo_cycle_171 (by decide) ?_
    refine lv_ishr hx hb d_Mo_cycle_172 ?_
    refine lv_bipush (v := (15 : Int32)) hx hb d_Mo_cycle_173 (by decide) ?_
    refine lv_iand hx hb d_Mo_cycle_175 ?_
    refine lv_iload hx hb d_Mo_cycle_176 (lv_at hl 4 rfl) ?_
    obtain ⟨z1, hcz1, hF⟩ := dm_bind hF
    refine dm_callVw B [.int ((l4 >>> ((4 : Int32) &&& 31)) &&& (15 : Int32)), .int l5] (c_Mo_put l G g ((l4 >>> ((4 : Int32) &&& 31)) &&& (15 : Int32)) l5 v f z1 hcz1) k_920 k_922 ks_21 k_14 k_923 hd_Mo_put rfl ⟨by decide, by decide⟩ 0 rfl rfl hP hD hS hl.1 (rest := []) rfl (Nat.le_of_ble_eq_true rfl) d_Mo_cycle_178 ⟨by decide, by decide⟩ (fun ov w' H locs hq hP hD hS => ?_)
    obtain ⟨rfl, rfl⟩ := hq
    have hP : va_P G.1 dm_cl (tw G g z1.1 z1.2) H := hP
    have hD : va_D A (tw G g z1.1 z1.2) := hD
    refine W.eq (g2 := F0 m 181 ls []) rfl ?_
    exact K181 ls _ _ l1 l2 z1.1 z1.2 (lv_sub hl [0, 1, 2] rfl) hP hD hS hF
  have K137 : ∀ (ls : Array Slot) (H : Heap) (locs : List Loc) (l1 : Int32) (l2 : Int32) (l3 : Int32) (l4 : Int32) (l5 : Int32) (s1 : Int32) (v : Nat → Int32) (f : Nat → Nat → Int32), lv_has ls 6 [(0, .ref (g 0)), (1, .int l1), (2, .int l2), (3, .int l3), (4, .int l4), (5, .int l5)] → va_P G.1 dm_cl (tw G g v f) H → va_D A (tw G g v f) → va_S A s.heap H locs → F_Mo_cycle_137  l1 l2 l3 l4 l5 s1 v f = some RES → W p l e rm_Mo_cycle s m ([.ref (g 0)] : List Value).toArray below meth c H locs 0 0 (dm_Z below G s ([.ref (g 0)] : List Value).toArray A rm_Mo_cycle.cells rm_Mo_cycle.slots (fun ov w' => ov = none ∧ w' = (tw G g RES.1 RES.2))) (F0 m 137 ls [.int s1, .ref (g 0)]) := by
    intro ls H locs l1 l2 l3 l4 l5 s1 v f hl hP hD hS hF
    have hF : (if s1 = 0 ∨ s1 = 1 then (if l3 = (0 : Int32) then (if ((l4 >>> ((4 : Int32) &&& 31)) &&& (15 : Int32)) = (11 : Int32) then (F_Mo_cycle_181  l1 l2 (va_up v 24 s1) f) else (if ((l4 >>> ((4 : Int32) &&& 31)) &&& (15 : Int32)) = (12 : Int32) then (F_Mo_cycle_181  l1 l2 (va_up v 24 s1) f) else (F_Mo_cycle_168  l1 l2 l4 l5 (va_up v 24 s1) f))) else (F_Mo_cycle_168  l1 l2 l4 l5 (va_up v 24 s1) f)) else none) = some RES := hF
    obtain ⟨hz, hF⟩ := dm_ck1 hF
    refine tw_p_0_24 (x := s1) B hP hD hS hz k_749 d_Mo_cycle_137 (fun H locs hP hD hS => ?_)
    refine lv_iload_n hx hb d_Mo_cycle_140 rfl (lv_at hl 3 rfl) ?_
    refine lv_if_ne (tgt := 168) hx hb d_Mo_cycle_141 (by decide) (fun (hh : ¬ l3 = (0 : Int32)) => ?_) (fun (hh : l3 = (0 : Int32)) => ?_)
    · rw [if_neg hh] at hF
      exact K168 ls _ _ l1 l2 l4 l5 (va_up v 24 s1) f (lv_sub hl [0, 1, 2, 4, 5] rfl) hP hD hS hF
    · rw [if_pos hh] at hF
      refine lv_iload hx hb d_Mo_cycle_144 (lv_at hl 4 rfl) ?_
      refine lv_iconst (v := (4 : Int32)) hx hb d_Mo_cycle_146 (by decide) ?_
      refine lv_ishr hx hb d_Mo_cycle_147 ?_
      refine lv_bipush (v := (15 : Int32)) hx hb d_Mo_cycle_148 (by decide) ?_
      refine lv_iand hx hb d_Mo_cycle_150 ?_
      refine lv_bipush (v := (11 : Int32)) hx hb d_Mo_cycle_151 (by decide) ?_
      refine lv_icmp_eq (tgt := 181) hx hb d_Mo_cycle_153 (by decide) (fun (hh : ((l4 >>> ((4 : Int32) &&& 31)) &&& (15 : Int32)) = (11 : Int32)) => ?_) (fun (hh : ¬ ((l4 >>> ((4 : Int32) &&& 31)) &&& (15 : Int32)) = (11 : Int32)) => ?_)
      · rw [if_pos hh] at hF
        exact K181 ls _ _ l1 l2 (va_up v 24 s1) f (lv_sub hl [0, 1, 2] rfl) hP hD hS hF
      · rw [if_neg hh] at hF
        refine lv_iload hx hb d_Mo_cycle_156 (lv_at hl 4 rfl) ?_
        refine lv_iconst (v := (4 : Int32)) hx hb d_Mo_cycle_158 (by decide) ?_
        refine lv_ishr hx hb d_Mo_cycle_159 ?_
        refine lv_bipush (v := (15 : Int32)) hx hb d_Mo_cycle_160 (by decide) ?_
        refine lv_iand hx hb d_Mo_cycle_162 ?_
        refine lv_bipush (v := (12 : Int32)) hx hb d_Mo_cycle_163 (by decide) ?_
        refine lv_icmp_eq (tgt := 181) hx hb d_Mo_cycle_165 (by decide) (fun (hh : ((l4 >>> ((4 : Int32) &&& 31)) &&& (15 : Int32)) = (12 : Int32)) => ?_) (fun (hh : ¬ ((l4 >>> ((4 : Int32) &&& 31)) &&& (15 : Int32)) = (12 : Int32)) => ?_)
        · rw [if_pos hh] at hF
          exact K181 ls _ _ l1 l2 (va_up v 24 s1) f (lv_sub hl [0, 1, 2] rfl) hP hD hS hF
        · rw [if_neg hh] at hF
          exact K168 ls _ _ l1 l2 l4 l5 (va_up v 24 s1) f (lv_sub hl [0, 1, 2, 4, 5] rfl) hP hD hS hF
  have K132 : ∀ (ls : Array Slot) (H : Heap) (locs : List Loc) (l1 : Int32) (l2 : Int32) (l3 : Int32) (l4 : Int32) (l5 : Int32) (v : Nat → Int32) (f : Nat → Nat → Int32), lv_has ls 6 [(0, .ref (g 0)), (1, .int l1), (2, .int l2), (3, .int l3), (4, .int l4), (5, .int l5)] → va_P G.1 dm_cl (tw G g v f) H → va_D A (tw G g v f) → va_S A s.heap H locs → F_Mo_cycle_132  l1 l2 l3 l4 l5 v f = some RES → W p l e rm_Mo_cycle s m ([.ref (g 0)] : List Value).toArray below meth c H locs 0 0 (dm_Z below G s ([.ref (g 0)] : List Value).toArray A rm_Mo_cycle.cells rm_Mo_cycle.slots (fun ov w' => ov = none ∧ w' = (tw G g RES.1 RES.2))) (F0 m 132 ls [.ref (g 0)]) := by
    intro ls H locs l1 l2 l3 l4 l5 v f hl hP hD hS hF
    have hF : (F_Mo_cycle_137  l1 l2 l3 l4 l5 (1 : Int32) v f) = some RES := hF
    refine lv_iconst (v := (1 : Int32)) hx hb d_Mo_cycle_132 (by decide) ?_
    refine lv_goto (tgt := 137) hx hb d_Mo_cycle_133 (by decide) ?_
    exact K137 ls _ _ l1 l2 l3 l4 l5 (1 : Int32) v f (lv_sub hl [0, 1, 2, 3, 4, 5] rfl) hP hD hS hF
  have K136 : ∀ (ls : Array Slot) (H : Heap) (locs : List Loc) (l1 : Int32) (l2 : Int32) (l3 : Int32) (l4 : Int32) (l5 : Int32) (v : Nat → Int32) (f : Nat → Nat → Int32), lv_has ls 6 [(0, .ref (g 0)), (1, .int l1), (2, .int l2), (3, .int l3), (4, .int l4), (5, .int l5)] → va_P G.1 dm_cl (tw G g v f) H → va_D A (tw G g v f) → va_S A s.heap H locs → F_Mo_cycle_136  l1 l2 l3 l4 l5 v f = some RES → W p l e rm_Mo_cycle s m ([.ref (g 0)] : List Value).toArray below meth c H locs 0 0 (dm_Z below G s ([.ref (g 0)] : List Value).toArray A rm_Mo_cycle.cells rm_Mo_cycle.slots (fun ov w' => ov = none ∧ w' = (tw G g RES.1 RES.2))) (F0 m 136 ls [.ref (g 0)]) := by
    intro ls H locs l1 l2 l3 l4 l5 v f hl hP hD hS hF
    have hF : (F_Mo_cycle_137  l1 l2 l3 l4 l5 (0 : Int32) v f) = some RES := hF
    refine lv_iconst (v := (0 : Int32)) hx hb d_Mo_cycle_136 (by decide) ?_
    exact K137 ls _ _ l1 l2 l3 l4 l5 (0 : Int32) v f (lv_sub hl [0, 1, 2, 3, 4, 5] rfl) hP hD hS hF
  have K87 : ∀ (ls : Array Slot) (H : Heap) (locs : List Loc) (l1 : Int32) (l2 : Int32) (s0 : Int32) (v : Nat → Int32) (f : Nat → Nat → Int32), lv_has ls 6 [(0, .ref (g 0)), (1, .int l1), (2, .int l2)] → va_P G.1 dm_cl (tw G g v f) H → va_D A (tw G g v f) → va_S A s.heap H locs → F_Mo_cycle_87  l1 l2 s0 v f = some RES → W p l e rm_Mo_cycle s m ([.ref (g 0)] : List Value).toArray below meth c H locs 0 0 (dm_Z below G s ([.ref (g 0)] : List Value).toArray A rm_Mo_cycle.cells rm_Mo_cycle.slots (fun ov w' => ov = none ∧ w' = (tw G g RES.1 RES.2))) (F0 m 87 ls [.int s0]) := by
    intro ls H locs l1 l2 s0 v f hl hP hD hS hF
    have hF : (Option.bind (F_Mo_current  v f) (fun z1 => (if z1 < (0 : Int32) then (F_Mo_cycle_181  l1 l2 v f) else (Option.bind (F_Mo_get (z1 &&& (15 : Int32)) v f) (fun z2 => (if (v 24) = (0 : Int32) then (if l1 < (0 : Int32) then (F_Mo_cycle_136  l1 l2 s0 z1 z2 v f) else (if (z1 &&& (15 : Int32)) = (13 : Int32) then (F_Mo_cycle_132  l1 l2 s0 z1 z2 v f) else (F_Mo_cycle_136  l1 l2 s0 z1 z2 v f))) else (F_Mo_cycle_132  l1 l2 s0 z1 z2 v f))))))) = some RES := hF
    refine lv_istore_n (lv' := [(3, .int s0), (0, .ref (g 0)), (1, .int l1), (2, .int l2)]) hx hb d_Mo_cycle_87 rfl hl (Nat.le_of_ble_eq_true rfl) rfl (fun ls hl => ?_)
    have hl : lv_has ls 6 [(0, .ref (g 0)), (1, .int l1), (2, .int l2), (3, .int s0)] := lv_sub hl [1, 2, 3, 0] rfl
    refine lv_aload_n hx hb d_Mo_cycle_88 rfl (lv_at hl 0 rfl) ?_
    obtain ⟨z1, hcz1, hF⟩ := dm_bind hF
    refine dm_callVw B [] (c_Mo_current l G g  v f z1 hcz1) k_912 k_914 ks_19 k_14 k_915 hd_Mo_current rfl ⟨by decide, by decide⟩ 0 rfl rfl hP hD hS hl.1 (rest := []) rfl (Nat.le_of_ble_eq_true rfl) d_Mo_cycle_89 ⟨by decide, by decide⟩ (fun ov w' H locs hq hP hD hS => ?_)
    obtain ⟨rfl, rfl⟩ := hq
    have hP : va_P G.1 dm_cl (tw G g v f) H := hP
    have hD : va_D A (tw G g v f) := hD
    refine W.eq (g2 := F0 m 92 ls [.int z1]) rfl ?_
    refine lv_istore (lv' := [(4, .int z1), (0, .ref (g 0)), (1, .int l1), (2, .int l2), (3, .int s0)]) hx hb d_Mo_cycle_92 hl (Nat.le_of_ble_eq_true rfl) rfl (fun ls hl => ?_)
    have hl : lv_has ls 6 [(0, .ref (g 0)), (1, .int l1), (2, .int l2), (3, .int s0), (4, .int z1)] := lv_sub hl [1, 2, 3, 4, 0] rfl
    refine lv_iload hx hb d_Mo_cycle_94 (lv_at hl 4 rfl) ?_
    refine lv_if_lt (tgt := 181) hx hb d_Mo_cycle_96 (by decide) (fun (hh : z1 < (0 : Int32)) => ?_) (fun (hh : ¬ z1 < (0 : Int32)) => ?_)
    · rw [if_pos hh] at hF
      exact K181 ls _ _ l1 l2 v f (lv_sub hl [0, 1, 2] rfl) hP hD hS hF
    · rw [if_neg hh] at hF
      refine lv_aload_n hx hb d_Mo_cycle_99 rfl (lv_at hl 0 rfl) ?_
      refine lv_iload hx hb d_Mo_cycle_100 (lv_at hl 4 rfl) ?_
      refine lv_bipush (v := (15 : Int32)) hx hb d_Mo_cycle_102 (by decide) ?_
      refine lv_iand hx hb d_Mo_cycle_104 ?_
      obtain ⟨z2, hcz2, hF⟩ := dm_bind hF
      refine dm_callVw B [.int (z1 &&& (15 : Int32))] (c_Mo_get l G g (z1 &&& (15 : Int32)) v f z2 hcz2) k_916 k_918 ks_20 k_14 k_919 hd_Mo_get rfl ⟨by decide, by decide⟩ 0 rfl rfl hP hD hS hl.1 (rest := []) rfl (Nat.le_of_ble_eq_true rfl) d_Mo_cycle_105 ⟨by decide, by decide⟩ (fun ov w' H locs hq hP hD hS => ?_)
      obtain ⟨rfl, rfl⟩ := hq
      have hP : va_P G.1 dm_cl (tw G g v f) H := hP
      have hD : va_D A (tw G g v f) := hD
      refine W.eq (g2 := F0 m 108 ls [.int z2]) rfl ?_
      refine lv_istore (lv' := [(5, .int z2), (0, .ref (g 0)), (1, .int l1), (2, .int l2), (3, .int s0), (4, .int z1)]) hx hb d_Mo_cycle_108 hl (Nat.le_of_ble_eq_true rfl) rfl (fun ls hl => ?_)
      have hl : lv_has ls 6 [(0, .ref (g 0)), (1, .int l1), (2, .int l2), (3, .int s0), (4, .int z1), (5, .int z2)] := lv_sub hl [1, 2, 3, 4, 5, 0] rfl
      refine lv_aload_n hx hb d_Mo_cycle_110 rfl (lv_at hl 0 rfl) ?_
      refine lv_aload_n hx hb d_Mo_cycle_111 rfl (lv_at hl 0 rfl) ?_
      refine tw_g_0_24 (x := (v 24)) B hP rfl k_749 d_Mo_cycle_112 ?_
      refine lv_if_ne (tgt := 132) hx hb d_Mo_cycle_115 (by decide) (fun (hh : ¬ (v 24) = (0 : Int32)) => ?_) (fun (hh : (v 24) = (0 : Int32)) => ?_)
      · rw [if_neg hh] at hF
        exact K132 ls _ _ l1 l2 s0 z1 z2 v f (lv_sub hl [0, 1, 2, 3, 4, 5] rfl) hP hD hS hF
      · rw [if_pos hh] at hF
        refine lv_iload_n hx hb d_Mo_cycle_118 rfl (lv_at hl 1 rfl) ?_
        refine lv_if_lt (tgt := 136) hx hb d_Mo_cycle_119 (by decide) (fun (hh : l1 < (0 : Int32)) => ?_) (fun (hh : ¬ l1 < (0 : Int32)) => ?_)
        · rw [if_pos hh] at hF
          exact K136 ls _ _ l1 l2 s0 z1 z2 v f (lv_sub hl [0, 1, 2, 3, 4, 5] rfl) hP hD hS hF
        · rw [if_neg hh] at hF
          refine lv_iload hx hb d_Mo_cycle_122 (lv_at hl 4 rfl) ?_
          refine lv_bipush (v := (15 : Int32)) hx hb d_Mo_cycle_124 (by decide) ?_
          refine lv_iand hx hb d_Mo_cycle_126 ?_
          refine lv_bipush (v := (13 : Int32)) hx hb d_Mo_cycle_127 (by decide) ?_
          refine lv_icmp_ne (tgt := 136) hx hb d_Mo_cycle_129 (by decide) (fun (hh : ¬ (z1 &&& (15 : Int32)) = (13 : Int32)) => ?_) (fun (hh : (z1 &&& (15 : Int32)) = (13 : Int32)) => ?_)
          · rw [if_neg hh] at hF
            exact K136 ls _ _ l1 l2 s0 z1 z2 v f (lv_sub hl [0, 1, 2, 3, 4, 5] rfl) hP hD hS hF
          · rw [if_pos hh] at hF
            exact K132 ls _ _ l1 l2 s0 z1 z2 v f (lv_sub hl [0, 1, 2, 3, 4, 5] rfl) hP hD hS hF
  have K86 : ∀ (ls : Array Slot) (H : Heap) (locs : List Loc) (l1 : Int32) (l2 : Int32) (v : Nat → Int32) (f : Nat → Nat → Int32), lv_has ls 6 [(0, .ref (g 0)), (1, .int l1), (2, .int l2)] → va_P G.1 dm_cl (tw G g v f) H → va_D A (tw G g v f) → va_S A s.heap H locs → F_Mo_cycle_86  l1 l2 v f = some RES → W p l e rm_Mo_cycle s m ([.ref (g 0)] : List Value).toArray below meth c H locs 0 0 (dm_Z below G s ([.ref (g 0)] : List Value).toArray A rm_Mo_cycle.cells rm_Mo_cycle.slots (fun ov w' => ov = none ∧ w' = (tw G g RES.1 RES.2))) (F0 m 86 ls []) := by
    intro ls H locs l1 l2 v f hl hP hD hS hF
    have hF : (F_Mo_cycle_87  l1 l2 (0 : Int32) v f) = some RES := hF
    refine lv_iconst (v := (0 : Int32)) hx hb d_Mo_cycle_86 (by decide) ?_
    exact K87 ls _ _ l1 l2 (0 : Int32) v f (lv_sub hl [0, 1, 2] rfl) hP hD hS hF
  have K57 : ∀ (ls : Array Slot) (H : Heap) (locs : List Loc) (l1 : Int32) (l2 : Int32) (s1 : Int32) (v : Nat → Int32) (f : Nat → Nat → Int32), lv_has ls 6 [(0, .ref (g 0)), (1, .int l1), (2, .int l2)] → va_P G.1 dm_cl (tw G g v f) H → va_D A (tw G g v f) → va_S A s.heap H locs → F_Mo_cycle_57  l1 l2 s1 v f = some RES → W p l e rm_Mo_cycle s m ([.ref (g 0)] : List Value).toArray below meth c H locs 0 0 (dm_Z below G s ([.ref (g 0)] : List Value).toArray A rm_Mo_cycle.cells rm_Mo_cycle.slots (fun ov w' => ov = none ∧ w' = (tw G g RES.1 RES.2))) (F0 m 57 ls [.int s1, .ref (g 0)]) := by
    intro ls H locs l1 l2 s1 v f hl hP hD hS hF
    have hF : (if s1 = 0 ∨ s1 = 1 then (if (v 2) < (v 11) then (F_Mo_cycle_86  l1 l2 (va_up v 24 s1) f) else (if (v 12) < (v 2) then (F_Mo_cycle_86  l1 l2 (va_up v 24 s1) f) else (F_Mo_cycle_87  l1 l2 (1 : Int32) (va_up v 24 s1) f))) else none) = some RES := hF
    obtain ⟨hz, hF⟩ := dm_ck1 hF
    refine tw_p_0_24 (x := s1) B hP hD hS hz k_749 d_Mo_cycle_57 (fun H locs hP hD hS => ?_)
    refine lv_aload_n hx hb d_Mo_cycle_60 rfl (lv_at hl 0 rfl) ?_
    refine tw_g_0_2 (x := (v 2)) B hP rfl k_727 d_Mo_cycle_61 ?_
    refine lv_aload_n hx hb d_Mo_cycle_64 rfl (lv_at hl 0 rfl) ?_
    refine tw_g_0_11 (x := (v 11)) B hP rfl k_736 d_Mo_cycle_65 ?_
    refine lv_icmp_lt (tgt := 86) hx hb d_Mo_cycle_68 (by decide) (fun (hh : (v 2) < (v 11)) => ?_) (fun (hh : ¬ (v 2) < (v 11)) => ?_)
    · rw [if_pos hh] at hF
      exact K86 ls _ _ l1 l2 (va_up v 24 s1) f (lv_sub hl [0, 1, 2] rfl) hP hD hS hF
    · rw [if_neg hh] at hF
      refine lv_aload_n hx hb d_Mo_cycle_71 rfl (lv_at hl 0 rfl) ?_
      refine tw_g_0_2 (x := (v 2)) B hP rfl k_727 d_Mo_cycle_72 ?_
      refine lv_aload_n hx hb d_Mo_cycle_75 rfl (lv_at hl 0 rfl) ?_
      refine tw_g_0_12 (x := (v 12)) B hP rfl k_737 d_Mo_cycle_76 ?_
      refine lv_icmp_gt (tgt := 86) hx hb d_Mo_cycle_79 (by decide) (fun (hh : (v 12) < (v 2)) => ?_) (fun (hh : ¬ (v 12) < (v 2)) => ?_)
      · rw [if_pos hh] at hF
        exact K86 ls _ _ l1 l2 (va_up v 24 s1) f (lv_sub hl [0, 1, 2] rfl) hP hD hS hF
      · rw [if_neg hh] at hF
        refine lv_iconst (v := (1 : Int32)) hx hb d_Mo_cycle_82 (by decide) ?_
        refine lv_goto (tgt := 87) hx hb d_Mo_cycle_83 (by decide) ?_
        exact K87 ls _ _ l1 l2 (1 : Int32) (va_up v 24 s1) f (lv_sub hl [0, 1, 2] rfl) hP hD hS hF
  have K56 : ∀ (ls : Array Slot) (H : Heap) (locs : List Loc) (l1 : Int32) (l2 : Int32) (v : Nat → Int32) (f : Nat → Nat → Int32), lv_has ls 6 [(0, .ref (g 0)), (1, .int l1), (2, .int l2)] → va_P G.1 dm_cl (tw G g v f) H → va_D A (tw G g v f) → va_S A s.heap H locs → F_Mo_cycle_56  l1 l2 v f = some RES → W p l e rm_Mo_cycle s m ([.ref (g 0)] : List Value).toArray below meth c H locs 0 0 (dm_Z below G s ([.ref (g 0)] : List Value).toArray A rm_Mo_cycle.cells rm_Mo_cycle.slots (fun ov w' => ov = none ∧ w' = (tw G g RES.1 RES.2))) (F0 m 56 ls [.ref (g 0)]) := by
    intro ls H locs l1 l2 v f hl hP hD hS hF
    have hF : (F_Mo_cycle_57  l1 l2 (0 : Int32) v f) = some RES := hF
    refine lv_iconst (v := (0 : Int32)) hx hb d_Mo_cycle_56 (by decide) ?_
    exact K57 ls _ _ l1 l2 (0 : Int32) v f (lv_sub hl [0, 1, 2] rfl) hP hD hS hF
  have K52 : ∀ (ls : Array Slot) (H : Heap) (locs : List Loc) (l1 : Int32) (l2 : Int32) (v : Nat → Int32) (f : Nat → Nat → Int32), lv_has ls 6 [(0, .ref (g 0)), (1, .int l1), (2, .int l2)] → va_P G.1 dm_cl (tw G g v f) H → va_D A (tw G g v f) → va_S A s.heap H locs → F_Mo_cycle_52  l1 l2 v f = some RES → W p l e rm_Mo_cycle s m ([.ref (g 0)] : List Value).toArray below meth c H locs 0 0 (dm_Z below G s ([.ref (g 0)] : List Value).toArray A rm_Mo_cycle.cells rm_Mo_cycle.slots (fun ov w' => ov = none ∧ w' = (tw G g RES.1 RES.2))) (F0 m 52 ls [.ref (g 0)]) := by
    intro ls H locs l1 l2 v f hl hP hD hS hF
    have hF : (F_Mo_cycle_57  l1 l2 (1 : Int32) v f) = some RES := hF
    refine lv_iconst (v := (1 : Int32)) hx hb d_Mo_cycle_52 (by decide) ?_
    refine lv_goto (tgt := 57) hx hb d_Mo_cycle_53 (by decide) ?_
    exact K57 ls _ _ l1 l2 (1 : Int32) v f (lv_sub hl [0, 1, 2] rfl) hP hD hS hF
  have K15 : ∀ (ls : Array Slot) (H : Heap) (locs : List Loc)  (v : Nat → Int32) (f : Nat → Nat → Int32), lv_has ls 6 [(0, .ref (g 0))] → va_P G.1 dm_cl (tw G g v f) H → va_D A (tw G g v f) → va_S A s.heap H locs → F_Mo_cycle_15   v f = some RES → W p l e rm_Mo_cycle s m ([.ref (g 0)] : List Value).toArray below meth c H locs 0 0 (dm_Z below G s ([.ref (g 0)] : List Value).toArray A rm_Mo_cycle.cells rm_Mo_cycle.slots (fun ov w' => ov = none ∧ w' = (tw G g RES.1 RES.2))) (F0 m 15 ls []) := by
    intro ls H locs v f hl hP hD hS hF
    have hF : (Option.bind (F_Mo_row  v f) (fun z1 => (if (v 24) = (0 : Int32) then (F_Mo_cycle_56  z1 (((v 2) - (v 23)) - (40 : Int32)) v f) else (if z1 < (0 : Int32) then (F_Mo_cycle_52  z1 (((v 2) - (v 23)) - (40 : Int32)) v f) else (if ((((v 2) - (v 23)) - (40 : Int32)) - (((v 2) - (v 23)) - (40 : Int32)) / (8 : Int32) * (8 : Int32)) = (0 : Int32) then (F_Mo_cycle_56  z1 (((v 2) - (v 23)) - (40 : Int32)) v f) else (F_Mo_cycle_52  z1 (((v 2) - (v 23)) - (40 : Int32)) v f)))))) = some RES := hF
    refine lv_aload_n hx hb d_Mo_cycle_15 rfl (lv_at hl 0 rfl) ?_
    obtain ⟨z1, hcz1, hF⟩ := dm_bind hF
    refine dm_callVw B [] (c_Mo_row l G g  v f z1 hcz1) k_908 k_910 ks_18 k_14 k_911 hd_Mo_row rfl ⟨by decide, by decide⟩ 0 rfl rfl hP hD hS hl.1 (rest := []) rfl (Nat.le_of_ble_eq_true rfl) d_Mo_cycle_16 ⟨by decide, by decide⟩ (fun ov w' H locs hq hP hD hS => ?_)
    obtain ⟨rfl, rfl⟩ := hq
    have hP : va_P G.1 dm_cl (tw G g v f) H := hP
    have hD : va_D A (tw G g v f) := hD
    refine W.eq (g2 := F0 m 19 ls [.int z1]) rfl ?_
    refine lv_istore_n (lv' := [(1, .int z1), (0, .ref (g 0))]) hx hb d_Mo_cycle_19 rfl hl (Nat.le_of_ble_eq_true rfl) rfl (fun ls hl => ?_)
    have hl : lv_has ls 6 [(0, .ref (g 0)), (1, .int z1)] := lv_sub hl [1, 0] rfl
    refine lv_aload_n hx hb d_Mo_cycle_20 rfl (lv_at hl 0 rfl) ?_
    refine tw_g_0_2 (x := (v 2)) B hP rfl k_727 d_Mo_cycle_21 ?_
    refine lv_aload_n hx hb d_Mo_cycle_24 rfl (lv_at hl 0 rfl) ?_
    refine tw_g_0_23 (x := (v 23)) B hP rfl k_748 d_Mo_cycle_25 ?_
    refine lv_isub hx hb d_Mo_cycle_28 ?_
    refine lv_bipush (v := (40 : Int32)) hx hb d_Mo_cycle_29 (by decide) ?_
    refine lv_isub hx hb d_Mo_cycle_31 ?_
    refine lv_istore_n (lv' := [(2, .int (((v 2) - (v 23)) - (40 : Int32))), (0, .ref (g 0)), (1, .int z1)]) hx hb d_Mo_cycle_32 rfl hl (Nat.le_of_ble_eq_true rfl) rfl (fun ls hl => ?_)
    have hl : lv_has ls 6 [(0, .ref (g 0)), (1, .int z1), (2, .int (((v 2) - (v 23)) - (40 : Int32)))] := lv_sub hl [1, 2, 0] rfl
    refine lv_aload_n hx hb d_Mo_cycle_33 rfl (lv_at hl 0 rfl) ?_
    refine lv_aload_n hx hb d_Mo_cycle_34 rfl (lv_at hl 0 rfl) ?_
    refine tw_g_0_24 (x := (v 24)) B hP rfl k_749 d_Mo_cycle_35 ?_
    refine lv_if_eq (tgt := 56) hx hb d_Mo_cycle_38 (by decide) (fun (hh : (v 24) = (0 : Int32)) => ?_) (fun (hh : ¬ (v 24) = (0 : Int32)) => ?_)
    · rw [if_pos hh] at hF
      exact K56 ls _ _ z1 (((v 2) - (v 23)) - (40 : Int32)) v f (lv_sub hl [0, 1, 2] rfl) hP hD hS hF
    · rw [if_neg hh] at hF
      refine lv_iload_n hx hb d_Mo_cycle_41 rfl (lv_at hl 1 rfl) ?_
      refine lv_if_lt (tgt := 52) hx hb d_Mo_cycle_42 (by decide) (fun (hh : z1 < (0 : Int32)) => ?_) (fun (hh : ¬ z1 < (0 : Int32)) => ?_)
      · rw [if_pos hh] at hF
        exact K52 ls _ _ z1 (((v 2) - (v 23)) - (40 : Int32)) v f (lv_sub hl [0, 1, 2] rfl) hP hD hS hF
      · rw [if_neg hh] at hF
        refine lv_iload_n hx hb d_Mo_cycle_45 rfl (lv_at hl 2 rfl) ?_
        refine lv_bipush (v := (8 : Int32)) hx hb d_Mo_cycle_46 (by decide) ?_
        refine lv_irem hx hb d_Mo_cycle_48 (by decide) ?_
        refine lv_if_eq (tgt := 56) hx hb d_Mo_cycle_49 (by decide) (fun (hh : ((((v 2) - (v 23)) - (40 : Int32)) - (((v 2) - (v 23)) - (40 : Int32)) / (8 : Int32) * (8 : Int32)) = (0 : Int32)) => ?_) (fun (hh : ¬ ((((v 2) - (v 23)) - (40 : Int32)) - (((v 2) - (v 23)) - (40 : Int32)) / (8 : Int32) * (8 : Int32)) = (0 : Int32)) => ?_)
        · rw [if_pos hh] at hF
          exact K56 ls _ _ z1 (((v 2) - (v 23)) - (40 : Int32)) v f (lv_sub hl [0, 1, 2] rfl) hP hD hS hF
        · rw [if_neg hh] at hF
          exact K52 ls _ _ z1 (((v 2) - (v 23)) - (40 : Int32)) v f (lv_sub hl [0, 1, 2] rfl) hP hD hS hF
  have hF : (if (v 2) = (v 5) then (Option.bind (F_Mo_read  v f) (fun z1 => (F_Mo_cycle_15  z1.1 z1.2))) else (F_Mo_cycle_15  v f)) = some RES := hF
  refine lv_aload_n hx hb d_Mo_cycle_0 rfl (lv_at hl 0 rfl) ?_
  refine tw_g_0_2 (x := (v 2)) B hP rfl k_727 d_Mo_cycle_1 ?_
  refine lv_aload_n hx hb d_Mo_cycle_4 rfl (lv_at hl 0 rfl) ?_
  refine tw_g_0_5 (x := (v 5)) B hP rfl k_730 d_Mo_cycle_5 ?_
  refine lv_icmp_ne (tgt := 15) hx hb d_Mo_cycle_8 (by decide) (fun (hh : ¬ (v 2) = (v 5)) => ?_) (fun (hh : (v 2) = (v 5)) => ?_)
  · rw [if_neg hh] at hF
    exact K15 ls _ _ v f (lv_sub hl [0] rfl) hP hD hS hF
  · rw [if_pos hh] at hF
    refine lv_aload_n hx hb d_Mo_cycle_11 rfl (lv_at hl 0 rfl) ?_
    obtain ⟨z1, hcz1, hF⟩ := dm_bind hF
    refine dm_callVw B [] (c_Mo_read l G g  v f z1 hcz1) k_898 k_900 ks_17 k_14 k_901 hd_Mo_read rfl ⟨by decide, by decide⟩ 0 rfl rfl hP hD hS hl.1 (rest := []) rfl (Nat.le_of_ble_eq_true rfl) d_Mo_cycle_12 ⟨by decide, by decide⟩ (fun ov w' H locs hq hP hD hS => ?_)
    obtain ⟨rfl, rfl⟩ := hq
    have hP : va_P G.1 dm_cl (tw G g z1.1 z1.2) H := hP
    have hD : va_D A (tw G g z1.1 z1.2) := hD
    refine W.eq (g2 := F0 m 15 ls []) rfl ?_
    exact K15 ls _ _ z1.1 z1.2 (lv_sub hl [0] rfl) hP hD hS hF
abbrev b_Mo_run : ByteArray := prog_16_method_21_code
abbrev y_Mo_run : MethodName := { cls := "DelayMachineModel", name := "run", desc := "(I)I" }
theorem d_Mo_run_0 : decode b_Mo_run 0 = .ok (.iload_n 1, 1) := by decide +kernel
theorem d_Mo_run_1 : decode b_Mo_run 1 = .ok (.ifCond .lt (10), 3) := by decide +kernel
theorem d_Mo_run_4 : decode b_Mo_run 4 = .ok (.iload_n 1, 1) := by decide +kernel
theorem d_Mo_run_5 : decode b_Mo_run 5 = .ok (.sipush (2000), 3) := by decide +kernel
theorem d_Mo_run_8 : decode b_Mo_run 8 = .ok (.if_icmp .le (5), 3) := by decide +kernel
theorem d_Mo_run_11 : decode b_Mo_run 11 = .ok (.iconst (-1), 1) := by decide +kernel
theorem d_Mo_run_12 : decode b_Mo_run 12 = .ok (.ireturn, 1) := by decide +kernel
theorem d_Mo_run_13 : decode b_Mo_run 13 = .ok (.iconst 0, 1) := by decide +kernel
theorem d_Mo_run_14 : decode b_Mo_run 14 = .ok (.istore_n 2, 1) := by decide +kernel
theorem d_Mo_run_15 : decode b_Mo_run 15 = .ok (.iload_n 2, 1) := by decide +kernel
theorem d_Mo_run_16 : decode b_Mo_run 16 = .ok (.iload_n 1, 1) := by decide +kernel
theorem d_Mo_run_17 : decode b_Mo_run 17 = .ok (.if_icmp .ge (20), 3) := by decide +kernel
theorem d_Mo_run_20 : decode b_Mo_run 20 = .ok (.aload_n 0, 1) := by decide +kernel
theorem d_Mo_run_21 : decode b_Mo_run 21 = .ok (.getfield 97, 3) := by decide +kernel
theorem d_Mo_run_24 : decode b_Mo_run 24 = .ok (.ifCond .eq (13), 3) := by decide +kernel
theorem d_Mo_run_27 : decode b_Mo_run 27 = .ok (.aload_n 0, 1) := by decide +kernel
theorem d_Mo_run_28 : decode b_Mo_run 28 = .ok (.invokevirtual 199, 3) := by decide +kernel
theorem d_Mo_run_31 : decode b_Mo_run 31 = .ok (.iinc 2 (1), 3) := by decide +kernel
theorem d_Mo_run_34 : decode b_Mo_run 34 = .ok (.goto (-19), 3) := by decide +kernel
theorem d_Mo_run_37 : decode b_Mo_run 37 = .ok (.iload_n 2, 1) := by decide +kernel
theorem d_Mo_run_38 : decode b_Mo_run 38 = .ok (.ireturn, 1) := by decide +kernel
theorem hd_Mo_run : y_Mo_run.cls ≠ "java/lang/invoke/MethodHandle" ∧ y_Mo_run.cls ≠ "java/lang/invoke/VarHandle" ∧ (parseMethodDescriptor y_Mo_run.desc).map (fun d => d.parameters.length) = some 1 := by decide +kernel
abbrev rm_Mo_run : Room := { frames := 4, cells := 0, slots := 0, locals := 89 }
def F_Mo_run_11 (x1 : Int32)    (v : Nat → Int32) (f : Nat → Nat → Int32) : Option (Int32 × (Nat → Int32) × (Nat → Nat → Int32)) := (some ((-1 : Int32), v, f))
def F_Mo_run_37 (x1 : Int32)   (l2 : Int32) (v : Nat → Int32) (f : Nat → Nat → Int32) : Option (Int32 × (Nat → Int32) × (Nat → Nat → Int32)) := (some (l2, v, f))
def F_Mo_run_15 (x1 : Int32)   : Nat → Int32 → (Nat → Int32) → (Nat → Nat → Int32) → Option (Int32 × (Nat → Int32) × (Nat → Nat → Int32))
  | 0, _, _, _ => none
  | n + 1, l2, v, f => (if x1 ≤ l2 then (F_Mo_run_37 x1 l2 v f) else (if (v 3) = (0 : Int32) then (F_Mo_run_37 x1 l2 v f) else (Option.bind (F_Mo_cycle  v f) (fun z1 => (F_Mo_run_15 x1 n (l2 + (1 : Int32)) z1.1 z1.2)))))
def F_Mo_run (x1 : Int32)  (v : Nat → Int32) (f : Nat → Nat → Int32) : Option (Int32 × (Nat → Int32) × (Nat → Nat → Int32)) := (if x1 < (0 : Int32) then (F_Mo_run_11 x1 v f) else (if x1 ≤ (2000 : Int32) then (F_Mo_run_15 x1 2001 (0 : Int32) v f) else (F_Mo_run_11 x1 v f)))
set_option maxHeartbeats 4000000 in
set_option maxRecDepth 100000 in
theorem c_Mo_run (l : Launch) (G : dm_G) (g : Nat → Nat) (x1 : Int32) (v : Nat → Int32) (f : Nat → Nat → Int32) (RES : Int32 × (Nat → Int32) × (Nat → Nat → Int32)) (hF : F_Mo_run x1 v f = some RES) : dm_Ct l y_Mo_run b_Mo_run 3 (some .int) rm_Mo_run G (tw G g v f) [.ref (g 0), .int x1] (fun ov w' => ov = some (.int RES.1) ∧ w' = (tw G g RES.2.1 RES.2.2)) := by
  refine dm_Ct.of (by decide +kernel) (Nat.le_of_ble_eq_true rfl) ?_
  intro p e s m below meth c A ls B hl hP hD hS
  have hx := B.1
  have hb := B.2.1
  have hl : lv_has ls 3 [(0, .ref (g 0)), (1, .int x1)] := hl
  have K11 : ∀ (ls : Array Slot) (H : Heap) (locs : List Loc)  (v : Nat → Int32) (f : Nat → Nat → Int32), lv_has ls 3 [] → va_P G.1 dm_cl (tw G g v f) H → va_D A (tw G g v f) → va_S A s.heap H locs → F_Mo_run_11 x1  v f = some RES → W p l e rm_Mo_run s m ([.ref (g 0), .int x1] : List Value).toArray below meth c H locs 0 0 (dm_Z below G s ([.ref (g 0), .int x1] : List Value).toArray A rm_Mo_run.cells rm_Mo_run.slots (fun ov w' => ov = some (.int RES.1) ∧ w' = (tw G g RES.2.1 RES.2.2))) (F0 m 11 ls []) := by
    intro ls H locs v f hl hP hD hS hF
    have hF : (some ((-1 : Int32), v, f)) = some RES := hF
    refine lv_iconst (v := (-1 : Int32)) hx hb d_Mo_run_11 (by decide) ?_
    have hF := Option.some.inj hF
    subst hF
    exact dm_ret B rfl d_Mo_run_12 (by decide) (by decide) hP hD hS ⟨rfl, rfl⟩
  have K37 : ∀ (ls : Array Slot) (H : Heap) (locs : List Loc) (l2 : Int32) (v : Nat → Int32) (f : Nat → Nat → Int32), lv_has ls 3 [(2, .int l2)] → va_P G.1 dm_cl (tw G g v f) H → va_D A (tw G g v f) → va_S A s.heap H locs → F_Mo_run_37 x1 l2 v f = some RES → W p l e rm_Mo_run s m ([.ref (g 0), .int x1] : List Value).toArray below meth c H locs 0 0 (dm_Z below G s ([.ref (g 0), .int x1] : List Value).toArray A rm_Mo_run.cells rm_Mo_run.slots (fun ov w' => ov = some (.int RES.1) ∧ w' = (tw G g RES.2.1 RES.2.2))) (F0 m 37 ls []) := by
    intro ls H locs l2 v f hl hP hD hS hF
    have hF : (some (l2, v, f)) = some RES := hF
    refine lv_iload_n hx hb d_Mo_run_37 rfl (lv_at hl 0 rfl) ?_
    have hF := Option.some.inj hF
    subst hF
    exact dm_ret B rfl d_Mo_run_38 (by decide) (by decide) hP hD hS ⟨rfl, rfl⟩
  have K15 : ∀ (n15 : Nat) (ls : Array Slot) (H : Heap) (locs : List Loc) (l2 : Int32) (v : Nat → Int32) (f : Nat → Nat → Int32), lv_has ls 3 [(0, .ref (g 0)), (1, .int x1), (2, .int l2)] → va_P G.1 dm_cl (tw G g v f) H → va_D A (tw G g v f) → va_S A s.heap H locs → F_Mo_run_15 x1 n15 l2 v f = some RES → W p l e rm_Mo_run s m ([.ref (g 0), .int x1] : List Value).toArray below meth c H locs 0 0 (dm_Z below G s ([.ref (g 0), .int x1] : List Value).toArray A rm_Mo_run.cells rm_Mo_run.slots (fun ov w' => ov = some (.int RES.1) ∧ w' = (tw G g RES.2.1 RES.2.2))) (F0 m 15 ls []) := by
    intro n15
    induction n15 with
    | zero => intro ls H locs l2 v f hl hP hD hS hF; cases hF
    | succ n15 ih15 =>
      intro ls H locs l2 v f hl hP hD hS hF
      have hF : (if x1 ≤ l2 then (F_Mo_run_37 x1 l2 v f) else (if (v 3) = (0 : Int32) then (F_Mo_run_37 x1 l2 v f) else (Option.bind (F_Mo_cycle  v f) (fun z1 => (F_Mo_run_15 x1 n15 (l2 + (1 : Int32)) z1.1 z1.2))))) = some RES := hF
      refine lv_iload_n hx hb d_Mo_run_15 rfl (lv_at hl 2 rfl) ?_
      refine lv_iload_n hx hb d_Mo_run_16 rfl (lv_at hl 1 rfl) ?_
      refine lv_icmp_ge (tgt := 37) hx hb d_Mo_run_17 (by decide) (fun (hh : x1 ≤ l2) => ?_) (fun (hh : ¬ x1 ≤ l2) => ?_)
      · rw [if_pos hh] at hF
        exact K37 ls _ _ l2 v f (lv_sub hl [2] rfl) hP hD hS hF
      · rw [if_neg hh] at hF
        refine lv_aload_n hx hb d_Mo_run_20 rfl (lv_at hl 0 rfl) ?_
        refine tw_g_0_3 (x := (v 3)) B hP rfl k_728 d_Mo_run_21 ?_
        refine lv_if_eq (tgt := 37) hx hb d_Mo_run_24 (by decide) (fun (hh : (v 3) = (0 : Int32)) => ?_) (fun (hh : ¬ (v 3) = (0 : Int32)) => ?_)
        · rw [if_pos hh] at hF
          exact K37 ls _ _ l2 v f (lv_sub hl [2] rfl) hP hD hS hF
        · rw [if_neg hh] at hF
          refine lv_aload_n hx hb d_Mo_run_27 rfl (lv_at hl 0 rfl) ?_
          obtain ⟨z1, hcz1, hF⟩ := dm_bind hF
          refine dm_callVw B [] (c_Mo_cycle l G g  v f z1 hcz1) k_894 k_896 ks_16 k_14 k_897 hd_Mo_cycle rfl ⟨by decide, by decide⟩ 0 rfl rfl hP hD hS hl.1 (rest := []) rfl (Nat.le_of_ble_eq_true rfl) d_Mo_run_28 ⟨by decide, by decide⟩ (fun ov w' H locs hq hP hD hS => ?_)
          obtain ⟨rfl, rfl⟩ := hq
          have hP : va_P G.1 dm_cl (tw G g z1.1 z1.2) H := hP
          have hD : va_D A (tw G g z1.1 z1.2) := hD
          refine W.eq (g2 := F0 m 31 ls []) rfl ?_
          refine lv_iinc (k := 2) (v := (l2 + (1 : Int32))) (lv' := [(2, .int (l2 + (1 : Int32))), (0, .ref (g 0)), (1, .int x1)]) hx hb d_Mo_run_31 hl rfl (congrArg (fun q => l2 + q) (by decide)) (Nat.le_of_ble_eq_true rfl) rfl (fun ls hl => ?_)
          have hl : lv_has ls 3 [(0, .ref (g 0)), (1, .int x1), (2, .int (l2 + (1 : Int32)))] := lv_sub hl [1, 2, 0] rfl
          refine lv_goto (tgt := 15) hx hb d_Mo_run_34 (by decide) ?_
          exact ih15 ls _ _ (l2 + (1 : Int32)) z1.1 z1.2 (lv_sub hl [0, 1, 2] rfl) hP hD hS hF
  have hF : (if x1 < (0 : Int32) then (F_Mo_run_11 x1 v f) else (if x1 ≤ (2000 : Int32) then (F_Mo_run_15 x1 2001 (0 : Int32) v f) else (F_Mo_run_11 x1 v f))) = some RES := hF
  refine lv_iload_n hx hb d_Mo_run_0 rfl (lv_at hl 1 rfl) ?_
  refine lv_if_lt (tgt := 11) hx hb d_Mo_run_1 (by decide) (fun (hh : x1 < (0 : Int32)) => ?_) (fun (hh : ¬ x1 < (0 : Int32)) => ?_)
  · rw [if_pos hh] at hF
    exact K11 ls _ _ v f (lv_sub hl [] rfl) hP hD hS hF
  · rw [if_neg hh] at hF
    refine lv_iload_n hx hb d_Mo_run_4 rfl (lv_at hl 1 rfl) ?_
    refine lv_sipush (v := (2000 : Int32)) hx hb d_Mo_run_5 (by decide) ?_
    refine lv_icmp_le (tgt := 13) hx hb d_Mo_run_8 (by decide) (fun (hh : x1 ≤ (2000 : Int32)) => ?_) (fun (hh : ¬ x1 ≤ (2000 : Int32)) => ?_)
    · rw [if_pos hh] at hF
      refine lv_iconst (v := (0 : Int32)) hx hb d_Mo_run_13 (by decide) ?_
      refine lv_istore_n (lv' := [(2, .int (0 : Int32)), (0, .ref (g 0)), (1, .int x1)]) hx hb d_Mo_run_14 rfl hl (Nat.le_of_ble_eq_true rfl) rfl (fun ls hl => ?_)
      have hl : lv_has ls 3 [(0, .ref (g 0)), (1, .int x1), (2, .int (0 : Int32))] := lv_sub hl [1, 2, 0] rfl
      exact K15 2001 ls _ _ (0 : Int32) v f (lv_sub hl [0, 1, 2] rfl) hP hD hS hF
    · rw [if_neg hh] at hF
      exact K11 ls _ _ v f (lv_sub hl [] rfl) hP hD hS hF
abbrev b_Mo_look : ByteArray := prog_16_method_22_code
abbrev y_Mo_look : MethodName := { cls := "DelayMachineModel", name := "look", desc := "(I)I" }
theorem d_Mo_look_0 : decode b_Mo_look 0 = .ok (.iload_n 1, 1) := by decide +kernel
theorem d_Mo_look_1 : decode b_Mo_look 1 = .ok (.tableswitch (126) (0) (8) #[51, 64, 69, 74, 90, 106, 111, 116, 121], 51) := by decide +kernel
theorem d_Mo_look_52 : decode b_Mo_look 52 = .ok (.aload_n 0, 1) := by decide +kernel
theorem d_Mo_look_53 : decode b_Mo_look 53 = .ok (.getfield 97, 3) := by decide +kernel
theorem d_Mo_look_56 : decode b_Mo_look 56 = .ok (.ifCond .eq (7), 3) := by decide +kernel
theorem d_Mo_look_59 : decode b_Mo_look 59 = .ok (.iconst 1, 1) := by decide +kernel
theorem d_Mo_look_60 : decode b_Mo_look 60 = .ok (.goto (4), 3) := by decide +kernel
theorem d_Mo_look_63 : decode b_Mo_look 63 = .ok (.iconst 0, 1) := by decide +kernel
theorem d_Mo_look_64 : decode b_Mo_look 64 = .ok (.ireturn, 1) := by decide +kernel
theorem d_Mo_look_65 : decode b_Mo_look 65 = .ok (.aload_n 0, 1) := by decide +kernel
theorem d_Mo_look_66 : decode b_Mo_look 66 = .ok (.getfield 101, 3) := by decide +kernel
theorem d_Mo_look_69 : decode b_Mo_look 69 = .ok (.ireturn, 1) := by decide +kernel
theorem d_Mo_look_70 : decode b_Mo_look 70 = .ok (.aload_n 0, 1) := by decide +kernel
theorem d_Mo_look_71 : decode b_Mo_look 71 = .ok (.getfield 128, 3) := by decide +kernel
theorem d_Mo_look_74 : decode b_Mo_look 74 = .ok (.ireturn, 1) := by decide +kernel
theorem d_Mo_look_75 : decode b_Mo_look 75 = .ok (.aload_n 0, 1) := by decide +kernel
theorem d_Mo_look_76 : decode b_Mo_look 76 = .ok (.getfield 107, 3) := by decide +kernel
theorem d_Mo_look_79 : decode b_Mo_look 79 = .ok (.ifCond .ne (7), 3) := by decide +kernel
theorem d_Mo_look_82 : decode b_Mo_look 82 = .ok (.iconst (-1), 1) := by decide +kernel
theorem d_Mo_look_83 : decode b_Mo_look 83 = .ok (.goto (7), 3) := by decide +kernel
theorem d_Mo_look_86 : decode b_Mo_look 86 = .ok (.aload_n 0, 1) := by decide +kernel
theorem d_Mo_look_87 : decode b_Mo_look 87 = .ok (.getfield 110, 3) := by decide +kernel
theorem d_Mo_look_90 : decode b_Mo_look 90 = .ok (.ireturn, 1) := by decide +kernel
theorem d_Mo_look_91 : decode b_Mo_look 91 = .ok (.aload_n 0, 1) := by decide +kernel
theorem d_Mo_look_92 : decode b_Mo_look 92 = .ok (.getfield 107, 3) := by decide +kernel
theorem d_Mo_look_95 : decode b_Mo_look 95 = .ok (.ifCond .ne (7), 3) := by decide +kernel
theorem d_Mo_look_98 : decode b_Mo_look 98 = .ok (.iconst (-1), 1) := by decide +kernel
theorem d_Mo_look_99 : decode b_Mo_look 99 = .ok (.goto (7), 3) := by decide +kernel
theorem d_Mo_look_102 : decode b_Mo_look 102 = .ok (.aload_n 0, 1) := by decide +kernel
theorem d_Mo_look_103 : decode b_Mo_look 103 = .ok (.getfield 113, 3) := by decide +kernel
theorem d_Mo_look_106 : decode b_Mo_look 106 = .ok (.ireturn, 1) := by decide +kernel
theorem d_Mo_look_107 : decode b_Mo_look 107 = .ok (.aload_n 0, 1) := by decide +kernel
theorem d_Mo_look_108 : decode b_Mo_look 108 = .ok (.getfield 107, 3) := by decide +kernel
theorem d_Mo_look_111 : decode b_Mo_look 111 = .ok (.ireturn, 1) := by decide +kernel
theorem d_Mo_look_112 : decode b_Mo_look 112 = .ok (.aload_n 0, 1) := by decide +kernel
theorem d_Mo_look_113 : decode b_Mo_look 113 = .ok (.getfield 94, 3) := by decide +kernel
theorem d_Mo_look_116 : decode b_Mo_look 116 = .ok (.ireturn, 1) := by decide +kernel
theorem d_Mo_look_117 : decode b_Mo_look 117 = .ok (.aload_n 0, 1) := by decide +kernel
theorem d_Mo_look_118 : decode b_Mo_look 118 = .ok (.getfield 178, 3) := by decide +kernel
theorem d_Mo_look_121 : decode b_Mo_look 121 = .ok (.ireturn, 1) := by decide +kernel
theorem d_Mo_look_122 : decode b_Mo_look 122 = .ok (.aload_n 0, 1) := by decide +kernel
theorem d_Mo_look_123 : decode b_Mo_look 123 = .ok (.getfield 104, 3) := by decide +kernel
theorem d_Mo_look_126 : decode b_Mo_look 126 = .ok (.ireturn, 1) := by decide +kernel
theorem d_Mo_look_127 : decode b_Mo_look 127 = .ok (.iconst (-1), 1) := by decide +kernel
theorem d_Mo_look_128 : decode b_Mo_look 128 = .ok (.ireturn, 1) := by decide +kernel
theorem hd_Mo_look : y_Mo_look.cls ≠ "java/lang/invoke/MethodHandle" ∧ y_Mo_look.cls ≠ "java/lang/invoke/VarHandle" ∧ (parseMethodDescriptor y_Mo_look.desc).map (fun d => d.parameters.length) = some 1 := by decide +kernel
abbrev rm_Mo_look : Room := { frames := 0, cells := 0, slots := 0, locals := 0 }
def F_Mo_look (x1 : Int32) (v : Nat → Int32) (f : Nat → Nat → Int32)  : Option (Int32) := (if x1 = (0 : Int32) then (if (v 3) = (0 : Int32) then (some (0 : Int32)) else (some (1 : Int32))) else (if x1 = (1 : Int32) then (some (v 4)) else (if x1 = (2 : Int32) then (some (v 2)) else (if x1 = (3 : Int32) then (if (v 9) = (0 : Int32) then (some (-1 : Int32)) else (some (v 7))) else (if x1 = (4 : Int32) then (if (v 9) = (0 : Int32) then (some (-1 : Int32)) else (some (v 8))) else (if x1 = (5 : Int32) then (some (v 9)) else (if x1 = (6 : Int32) then (some (v 19)) else (if x1 = (7 : Int32) then (some (v 25)) else (if x1 = (8 : Int32) then (some (v 17)) else (some (-1 : Int32)))))))))))
set_option maxHeartbeats 4000000 in
set_option maxRecDepth 100000 in
theorem c_Mo_look (l : Launch) (G : dm_G) (g : Nat → Nat) (x1 : Int32) (v : Nat → Int32) (f : Nat → Nat → Int32) (RES : Int32) (hF : F_Mo_look x1 v f = some RES) : dm_Ct l y_Mo_look b_Mo_look 2 (some .int) rm_Mo_look G (tw G g v f) [.ref (g 0), .int x1] (fun ov w' => ov = some (.int RES) ∧ w' = (tw G g v f)) := by
  refine dm_Ct.of (by decide +kernel) (Nat.le_of_ble_eq_true rfl) ?_
  intro p e s m below meth c A ls B hl hP hD hS
  have hx := B.1
  have hb := B.2.1
  have hl : lv_has ls 2 [(0, .ref (g 0)), (1, .int x1)] := hl
  have hF : (if x1 = (0 : Int32) then (if (v 3) = (0 : Int32) then (some (0 : Int32)) else (some (1 : Int32))) else (if x1 = (1 : Int32) then (some (v 4)) else (if x1 = (2 : Int32) then (some (v 2)) else (if x1 = (3 : Int32) then (if (v 9) = (0 : Int32) then (some (-1 : Int32)) else (some (v 7))) else (if x1 = (4 : Int32) then (if (v 9) = (0 : Int32) then (some (-1 : Int32)) else (some (v 8))) else (if x1 = (5 : Int32) then (some (v 9)) else (if x1 = (6 : Int32) then (some (v 19)) else (if x1 = (7 : Int32) then (some (v 25)) else (if x1 = (8 : Int32) then (some (v 17)) else (some (-1 : Int32))))))))))) = some RES := hF
  refine lv_iload_n hx hb d_Mo_look_0 rfl (lv_at hl 1 rfl) ?_
  by_cases h0 : x1 = (0 : Int32)
  · rw [if_pos h0] at hF
    refine lv_tableIn (off := 51) (tgt := 52) hx hb d_Mo_look_1 (by rw [h0]; decide) (by rw [h0]; decide) (by rw [h0]; rfl) (by decide) ?_
    refine lv_aload_n hx hb d_Mo_look_52 rfl (lv_at hl 0 rfl) ?_
    refine tw_g_0_3 (x := (v 3)) B hP rfl k_728 d_Mo_look_53 ?_
    refine lv_if_eq (tgt := 63) hx hb d_Mo_look_56 (by decide) (fun (hh : (v 3) = (0 : Int32)) => ?_) (fun (hh : ¬ (v 3) = (0 : Int32)) => ?_)
    · rw [if_pos hh] at hF
      refine lv_iconst (v := (0 : Int32)) hx hb d_Mo_look_63 (by decide) ?_
      have hF := Option.some.inj hF
      subst hF
      exact dm_ret B rfl d_Mo_look_64 (by decide) (by decide) hP hD hS ⟨rfl, rfl⟩
    · rw [if_neg hh] at hF
      refine lv_iconst (v := (1 : Int32)) hx hb d_Mo_look_59 (by decide) ?_
      refine lv_goto (tgt := 64) hx hb d_Mo_look_60 (by decide) ?_
      have hF := Option.some.inj hF
      subst hF
      exact dm_ret B rfl d_Mo_look_64 (by decide) (by decide) hP hD hS ⟨rfl, rfl⟩
  rw [if_neg h0] at hF
  by_cases h1 : x1 = (1 : Int32)
  · rw [if_pos h1] at hF
    refine lv_tableIn (off := 64) (tgt := 65) hx hb d_Mo_look_1 (by rw [h1]; decide) (by rw [h1]; decide) (by rw [h1]; rfl) (by decide) ?_
    refine lv_aload_n hx hb d_Mo_look_65 rfl (lv_at hl 0 rfl) ?_
    refine tw_g_0_4 (x := (v 4)) B hP rfl k_729 d_Mo_look_66 ?_
    have hF := Option.some.inj hF
    subst hF
    exact dm_ret B rfl d_Mo_look_69 (by decide) (by decide) hP hD hS ⟨rfl, rfl⟩
  rw [if_neg h1] at hF
  by_cases h2 : x1 = (2 : Int32)
  · rw [if_pos h2] at hF
    refine lv_tableIn (off := 69) (tgt := 70) hx hb d_Mo_look_1 (by rw [h2]; decide) (by rw [h2]; decide) (by rw [h2]; rfl) (by decide) ?_
    refine lv_aload_n hx hb d_Mo_look_70 rfl (lv_at hl 0 rfl) ?_
    refine tw_g_0_2 (x := (v 2)) B hP rfl k_727 d_Mo_look_71 ?_
    have hF := Option.some.inj hF
    subst hF
    exact dm_ret B rfl d_Mo_look_74 (by decide) (by decide) hP hD hS ⟨rfl, rfl⟩
  rw [if_neg h2] at hF
  by_cases h3 : x1 = (3 : Int32)
  · rw [if_pos h3] at hF
    refine lv_tableIn (off := 74) (tgt := 75) hx hb d_Mo_look_1 (by rw [h3]; decide) (by rw [h3]; decide) (by rw [h3]; rfl) (by decide) ?_
    refine lv_aload_n hx hb d_Mo_look_75 rfl (lv_at hl 0 rfl) ?_
    refine tw_g_0_9 (x := (v 9)) B hP rfl k_734 d_Mo_look_76 ?_
    refine lv_if_ne (tgt := 86) hx hb d_Mo_look_79 (by decide) (fun (hh : ¬ (v 9) = (0 : Int32)) => ?_) (fun (hh : (v 9) = (0 : Int32)) => ?_)
    · rw [if_neg hh] at hF
      refine lv_aload_n hx hb d_Mo_look_86 rfl (lv_at hl 0 rfl) ?_
      refine tw_g_0_7 (x := (v 7)) B hP rfl k_732 d_Mo_look_87 ?_
      have hF := Option.some.inj hF
      subst hF
      exact dm_ret B rfl d_Mo_look_90 (by decide) (by decide) hP hD hS ⟨rfl, rfl⟩
    · rw [if_pos hh] at hF
      refine lv_iconst (v := (-1 : Int32)) hx hb d_Mo_look_82 (by decide) ?_
      refine lv_goto (tgt := 90) hx hb d_Mo_look_83 (by decide) ?_
      have hF := Option.some.inj hF
      subst hF
      exact dm_ret B rfl d_Mo_look_90 (by decide) (by decide) hP hD hS ⟨rfl, rfl⟩
  rw [if_neg h3] at hF
  by_cases h4 : x1 = (4 : Int32)
  · rw [if_pos h4] at hF
    refine lv_tableIn (off := 90) (tgt := 91) hx hb d_Mo_look_1 (by rw [h4]; decide) (by rw [h4]; decide) (by rw [h4]; rfl) (by decide) ?_
    refine lv_aload_n hx hb d_Mo_look_91 rfl (lv_at hl 0 rfl) ?_
    refine tw_g_0_9 (x := (v 9)) B hP rfl k_734 d_Mo_look_92 ?_
    refine lv_if_ne (tgt := 102) hx hb d_Mo_look_95 (by decide) (fun (hh : ¬ (v 9) = (0 : Int32)) => ?_) (fun (hh : (v 9) = (0 : Int32)) => ?_)
    · rw [if_neg hh] at hF
      refine lv_aload_n hx hb d_Mo_look_102 rfl (lv_at hl 0 rfl) ?_
      refine tw_g_0_8 (x := (v 8)) B hP rfl k_733 d_Mo_look_103 ?_
      have hF := Option.some.inj hF
      subst hF
      exact dm_ret B rfl d_Mo_look_106 (by decide) (by decide) hP hD hS ⟨rfl, rfl⟩
    · rw [if_pos hh] at hF
      refine lv_iconst (v := (-1 : Int32)) hx hb d_Mo_look_98 (by decide) ?_
      refine lv_goto (tgt := 106) hx hb d_Mo_look_99 (by decide) ?_
      have hF := Option.some.inj hF
      subst hF
      exact dm_ret B rfl d_Mo_look_106 (by decide) (by decide) hP hD hS ⟨rfl, rfl⟩
  rw [if_neg h4] at hF
  by_cases h5 : x1 = (5 : Int32)
  · rw [if_pos h5] at hF
    refine lv_tableIn (off := 106) (tgt := 107) hx hb d_Mo_look_1 (by rw [h5]; decide) (by rw [h5]; decide) (by rw [h5]; rfl) (by decide) ?_
    refine lv_aload_n hx hb d_Mo_look_107 rfl (lv_at hl 0 rfl) ?_
    refine tw_g_0_9 (x := (v 9)) B hP rfl k_734 d_Mo_look_108 ?_
    have hF := Option.some.inj hF
    subst hF
    exact dm_ret B rfl d_Mo_look_111 (by decide) (by decide) hP hD hS ⟨rfl, rfl⟩
  rw [if_neg h5] at hF
  by_cases h6 : x1 = (6 : Int32)
  · rw [if_pos h6] at hF
    refine lv_tableIn (off := 111) (tgt := 112) hx hb d_Mo_look_1 (by rw [h6]; decide) (by rw [h6]; decide) (by rw [h6]; rfl) (by decide) ?_
    refine lv_aload_n hx hb d_Mo_look_112 rfl (lv_at hl 0 rfl) ?_
    refine tw_g_0_19 (x := (v 19)) B hP rfl k_744 d_Mo_look_113 ?_
    have hF := Option.some.inj hF
    subst hF
    exact dm_ret B rfl d_Mo_look_116 (by decide) (by decide) hP hD hS ⟨rfl, rfl⟩
  rw [if_neg h6] at hF
  by_cases h7 : x1 = (7 : Int32)
  · rw [if_pos h7] at hF
    refine lv_tableIn (off := 116) (tgt := 117) hx hb d_Mo_look_1 (by rw [h7]; decide) (by rw [h7]; decide) (by rw [h7]; rfl) (by decide) ?_
    refine lv_aload_n hx hb d_Mo_look_117 rfl (lv_at hl 0 rfl) ?_
    refine tw_g_0_25 (x := (v 25)) B hP rfl k_750 d_Mo_look_118 ?_
    have hF := Option.some.inj hF
    subst hF
    exact dm_ret B rfl d_Mo_look_121 (by decide) (by decide) hP hD hS ⟨rfl, rfl⟩
  rw [if_neg h7] at hF
  by_cases h8 : x1 = (8 : Int32)
  · rw [if_pos h8] at hF
    refine lv_tableIn (off := 121) (tgt := 122) hx hb d_Mo_look_1 (by rw [h8]; decide) (by rw [h8]; decide) (by rw [h8]; rfl) (by decide) ?_
    refine lv_aload_n hx hb d_Mo_look_122 rfl (lv_at hl 0 rfl) ?_
    refine tw_g_0_17 (x := (v 17)) B hP rfl k_742 d_Mo_look_123 ?_
    have hF := Option.some.inj hF
    subst hF
    exact dm_ret B rfl d_Mo_look_126 (by decide) (by decide) hP hD hS ⟨rfl, rfl⟩
  rw [if_neg h8] at hF
  have e0 := lv_neT (a := 0) h0 (by decide)
  have e1 := lv_neT (a := 1) h1 (by decide)
  have e2 := lv_neT (a := 2) h2 (by decide)
  have e3 := lv_neT (a := 3) h3 (by decide)
  have e4 := lv_neT (a := 4) h4 (by decide)
  have e5 := lv_neT (a := 5) h5 (by decide)
  have e6 := lv_neT (a := 6) h6 (by decide)
  have e7 := lv_neT (a := 7) h7 (by decide)
  have e8 := lv_neT (a := 8) h8 (by decide)
  refine lv_tableOut (tgt := 127) hx hb d_Mo_look_1 (by omega) (by decide) ?_
  refine lv_iconst (v := (-1 : Int32)) hx hb d_Mo_look_127 (by decide) ?_
  have hF := Option.some.inj hF
  subst hF
  exact dm_ret B rfl d_Mo_look_128 (by decide) (by decide) hP hD hS ⟨rfl, rfl⟩
abbrev b_Mo_peek : ByteArray := prog_16_method_23_code
abbrev y_Mo_peek : MethodName := { cls := "DelayMachineModel", name := "peek", desc := "(II)S" }
theorem d_Mo_peek_0 : decode b_Mo_peek 0 = .ok (.iload_n 1, 1) := by decide +kernel
theorem d_Mo_peek_1 : decode b_Mo_peek 1 = .ok (.iload_n 2, 1) := by decide +kernel
theorem d_Mo_peek_2 : decode b_Mo_peek 2 = .ok (.invokestatic 87, 3) := by decide +kernel
theorem d_Mo_peek_5 : decode b_Mo_peek 5 = .ok (.istore_n 3, 1) := by decide +kernel
theorem d_Mo_peek_6 : decode b_Mo_peek 6 = .ok (.iload_n 3, 1) := by decide +kernel
theorem d_Mo_peek_7 : decode b_Mo_peek 7 = .ok (.ifCond .ge (7), 3) := by decide +kernel
theorem d_Mo_peek_10 : decode b_Mo_peek 10 = .ok (.iconst 0, 1) := by decide +kernel
theorem d_Mo_peek_11 : decode b_Mo_peek 11 = .ok (.goto (9), 3) := by decide +kernel
theorem d_Mo_peek_14 : decode b_Mo_peek 14 = .ok (.aload_n 0, 1) := by decide +kernel
theorem d_Mo_peek_15 : decode b_Mo_peek 15 = .ok (.getfield 13, 3) := by decide +kernel
theorem d_Mo_peek_18 : decode b_Mo_peek 18 = .ok (.iload_n 3, 1) := by decide +kernel
theorem d_Mo_peek_19 : decode b_Mo_peek 19 = .ok (.saload, 1) := by decide +kernel
theorem d_Mo_peek_20 : decode b_Mo_peek 20 = .ok (.ireturn, 1) := by decide +kernel
theorem hd_Mo_peek : y_Mo_peek.cls ≠ "java/lang/invoke/MethodHandle" ∧ y_Mo_peek.cls ≠ "java/lang/invoke/VarHandle" ∧ (parseMethodDescriptor y_Mo_peek.desc).map (fun d => d.parameters.length) = some 2 := by decide +kernel
abbrev rm_Mo_peek : Room := { frames := 1, cells := 0, slots := 0, locals := 21 }
def F_Mo_peek (x1 x2 : Int32) (v : Nat → Int32) (f : Nat → Nat → Int32)  : Option (Int32) := (Option.bind (F_Mo_wordAt x1 x2) (fun z1 => (if (0 : Int32) ≤ z1 then (if z1 < 0 ∨ 132 ≤ z1.toNatClampNeg then none else (if ((f 1) z1.toNatClampNeg).toInt16.toInt32 = ((f 1) z1.toNatClampNeg) then (some ((f 1) z1.toNatClampNeg)) else none)) else (some (0 : Int32)))))
set_option maxHeartbeats 4000000 in
set_option maxRecDepth 100000 in
theorem c_Mo_peek (l : Launch) (G : dm_G) (g : Nat → Nat) (x1 x2 : Int32) (v : Nat → Int32) (f : Nat → Nat → Int32) (RES : Int32) (hF : F_Mo_peek x1 x2 v f = some RES) : dm_Ct l y_Mo_peek b_Mo_peek 4 (some .short) rm_Mo_peek G (tw G g v f) [.ref (g 0), .int x1, .int x2] (fun ov w' => ov = some (.int RES) ∧ w' = (tw G g v f)) := by
  refine dm_Ct.of (by decide +kernel) (Nat.le_of_ble_eq_true rfl) ?_
  intro p e s m below meth c A ls B hl hP hD hS
  have hx := B.1
  have hb := B.2.1
  have hl : lv_has ls 4 [(0, .ref (g 0)), (1, .int x1), (2, .int x2)] := hl
  have hF : (Option.bind (F_Mo_wordAt x1 x2) (fun z1 => (if (0 : Int32) ≤ z1 then (if z1 < 0 ∨ 132 ≤ z1.toNatClampNeg then none else (if ((f 1) z1.toNatClampNeg).toInt16.toInt32 = ((f 1) z1.toNatClampNeg) then (some ((f 1) z1.toNatClampNeg)) else none)) else (some (0 : Int32))))) = some RES := hF
  refine lv_iload_n hx hb d_Mo_peek_0 rfl (lv_at hl 1 rfl) ?_
  refine lv_iload_n hx hb d_Mo_peek_1 rfl (lv_at hl 2 rfl) ?_
  obtain ⟨z1, hcz1, hF⟩ := dm_bind hF
  refine dm_callSw B [.int x1, .int x2] (c_Mo_wordAt l G (tw G g v f) x1 x2 z1 hcz1) k_879 k_880 k_14 k_881 hd_Mo_wordAt rfl ⟨by decide, by decide⟩ hP hD hS hl.1 (rest := []) rfl (Nat.le_of_ble_eq_true rfl) d_Mo_peek_2 ⟨by decide, by decide⟩ (fun ov w' H locs hq hP hD hS => ?_)
  obtain ⟨rfl, rfl⟩ := hq
  have hP : va_P G.1 dm_cl (tw G g v f) H := hP
  have hD : va_D A (tw G g v f) := hD
  refine W.eq (g2 := F0 m 5 ls [.int z1]) rfl ?_
  refine lv_istore_n (lv' := [(3, .int z1), (0, .ref (g 0)), (1, .int x1), (2, .int x2)]) hx hb d_Mo_peek_5 rfl hl (Nat.le_of_ble_eq_true rfl) rfl (fun ls hl => ?_)
  have hl : lv_has ls 4 [(0, .ref (g 0)), (1, .int x1), (2, .int x2), (3, .int z1)] := lv_sub hl [1, 2, 3, 0] rfl
  refine lv_iload_n hx hb d_Mo_peek_6 rfl (lv_at hl 3 rfl) ?_
  refine lv_if_ge (tgt := 14) hx hb d_Mo_peek_7 (by decide) (fun (hh : (0 : Int32) ≤ z1) => ?_) (fun (hh : ¬ (0 : Int32) ≤ z1) => ?_)
  · rw [if_pos hh] at hF
    refine lv_aload_n hx hb d_Mo_peek_14 rfl (lv_at hl 0 rfl) ?_
    refine tw_g_0_1 B hP k_726 d_Mo_peek_15 ?_
    refine lv_iload_n hx hb d_Mo_peek_18 rfl (lv_at hl 3 rfl) ?_
    obtain ⟨hi, hF⟩ := dm_chk hF
    refine tw_a_2 (F := (f 1)) B hP rfl hi d_Mo_peek_19 ?_
    obtain ⟨hz, hF⟩ := dm_ck1 hF
    have hF := Option.some.inj hF
    subst hF
    exact dm_ret B (dm_nsh hz) d_Mo_peek_20 (by decide) (by decide) hP hD hS ⟨rfl, rfl⟩
  · rw [if_neg hh] at hF
    refine lv_iconst (v := (0 : Int32)) hx hb d_Mo_peek_10 (by decide) ?_
    refine lv_goto (tgt := 20) hx hb d_Mo_peek_11 (by decide) ?_
    have hF := Option.some.inj hF
    subst hF
    exact dm_ret B (by decide) d_Mo_peek_20 (by decide) (by decide) hP hD hS ⟨rfl, rfl⟩
abbrev b_Mo_read2 : ByteArray := prog_16_method_24_code
abbrev y_Mo_read2 : MethodName := { cls := "DelayMachineModel", name := "read", desc := "(II)I" }
theorem d_Mo_read2_0 : decode b_Mo_read2 0 = .ok (.iload_n 1, 1) := by decide +kernel
theorem d_Mo_read2_1 : decode b_Mo_read2 1 = .ok (.iload_n 2, 1) := by decide +kernel
theorem d_Mo_read2_2 : decode b_Mo_read2 2 = .ok (.invokestatic 82, 3) := by decide +kernel
theorem d_Mo_read2_5 : decode b_Mo_read2 5 = .ok (.ifCond .eq (17), 3) := by decide +kernel
theorem d_Mo_read2_8 : decode b_Mo_read2 8 = .ok (.aload_n 0, 1) := by decide +kernel
theorem d_Mo_read2_9 : decode b_Mo_read2 9 = .ok (.getfield 7, 3) := by decide +kernel
theorem d_Mo_read2_12 : decode b_Mo_read2 12 = .ok (.bipush (32), 2) := by decide +kernel
theorem d_Mo_read2_14 : decode b_Mo_read2 14 = .ok (.iload_n 1, 1) := by decide +kernel
theorem d_Mo_read2_15 : decode b_Mo_read2 15 = .ok (.imul, 1) := by decide +kernel
theorem d_Mo_read2_16 : decode b_Mo_read2 16 = .ok (.iload_n 2, 1) := by decide +kernel
theorem d_Mo_read2_17 : decode b_Mo_read2 17 = .ok (.iadd, 1) := by decide +kernel
theorem d_Mo_read2_18 : decode b_Mo_read2 18 = .ok (.iaload, 1) := by decide +kernel
theorem d_Mo_read2_19 : decode b_Mo_read2 19 = .ok (.goto (4), 3) := by decide +kernel
theorem d_Mo_read2_22 : decode b_Mo_read2 22 = .ok (.iconst (-1), 1) := by decide +kernel
theorem d_Mo_read2_23 : decode b_Mo_read2 23 = .ok (.ireturn, 1) := by decide +kernel
theorem hd_Mo_read2 : y_Mo_read2.cls ≠ "java/lang/invoke/MethodHandle" ∧ y_Mo_read2.cls ≠ "java/lang/invoke/VarHandle" ∧ (parseMethodDescriptor y_Mo_read2.desc).map (fun d => d.parameters.length) = some 2 := by decide +kernel
abbrev rm_Mo_read2 : Room := { frames := 1, cells := 0, slots := 0, locals := 21 }
def F_Mo_read2 (x1 x2 : Int32) (v : Nat → Int32) (f : Nat → Nat → Int32)  : Option (Int32) := (Option.bind (F_Mo_isOrder x1 x2) (fun z1 => (if z1 = (0 : Int32) then (some (-1 : Int32)) else (if (((32 : Int32) * x1) + x2) < 0 ∨ 64 ≤ (((32 : Int32) * x1) + x2).toNatClampNeg then none else (some ((f 0) (((32 : Int32) * x1) + x2).toNatClampNeg))))))
set_option maxHeartbeats 4000000 in
set_option maxRecDepth 100000 in
theorem c_Mo_read2 (l : Launch) (G : dm_G) (g : Nat → Nat) (x1 x2 : Int32) (v : Nat → Int32) (f : Nat → Nat → Int32) (RES : Int32) (hF : F_Mo_read2 x1 x2 v f = some RES) : dm_Ct l y_Mo_read2 b_Mo_read2 3 (some .int) rm_Mo_read2 G (tw G g v f) [.ref (g 0), .int x1, .int x2] (fun ov w' => ov = some (.int RES) ∧ w' = (tw G g v f)) := by
  refine dm_Ct.of (by decide +kernel) (Nat.le_of_ble_eq_true rfl) ?_
  intro p e s m below meth c A ls B hl hP hD hS
  have hx := B.1
  have hb := B.2.1
  have hl : lv_has ls 3 [(0, .ref (g 0)), (1, .int x1), (2, .int x2)] := hl
  have hF : (Option.bind (F_Mo_isOrder x1 x2) (fun z1 => (if z1 = (0 : Int32) then (some (-1 : Int32)) else (if (((32 : Int32) * x1) + x2) < 0 ∨ 64 ≤ (((32 : Int32) * x1) + x2).toNatClampNeg then none else (some ((f 0) (((32 : Int32) * x1) + x2).toNatClampNeg)))))) = some RES := hF
  refine lv_iload_n hx hb d_Mo_read2_0 rfl (lv_at hl 1 rfl) ?_
  refine lv_iload_n hx hb d_Mo_read2_1 rfl (lv_at hl 2 rfl) ?_
  obtain ⟨z1, hcz1, hF⟩ := dm_bind hF
  refine dm_callSw B [.int x1, .int x2] (c_Mo_isOrder l G (tw G g v f) x1 x2 z1 hcz1) k_871 k_872 k_14 k_873 hd_Mo_isOrder rfl ⟨by decide, by decide⟩ hP hD hS hl.1 (rest := []) rfl (Nat.le_of_ble_eq_true rfl) d_Mo_read2_2 ⟨by decide, by decide⟩ (fun ov w' H locs hq hP hD hS => ?_)
  obtain ⟨rfl, rfl⟩ := hq
  have hP : va_P G.1 dm_cl (tw G g v f) H := hP
  have hD : va_D A (tw G g v f) := hD
  refine W.eq (g2 := F0 m 5 ls [.int z1]) rfl ?_
  refine lv_if_eq (tgt := 22) hx hb d_Mo_read2_5 (by decide) (fun (hh : z1 = (0 : Int32)) => ?_) (fun (hh : ¬ z1 = (0 : Int32)) => ?_)
  · rw [if_pos hh] at hF
    refine lv_iconst (v := (-1 : Int32)) hx hb d_Mo_read2_22 (by decide) ?_
    have hF := Option.some.inj hF
    subst hF
    exact dm_ret B rfl d_Mo_read2_23 (by decide) (by decide) hP hD hS ⟨rfl, rfl⟩
  · rw [if_neg hh] at hF
    refine lv_aload_n hx hb d_Mo_read2_8 rfl (lv_at hl 0 rfl) ?_
    refine tw_g_0_0 B hP k_725 d_Mo_read2_9 ?_
    refine lv_bipush (v := (32 : Int32)) hx hb d_Mo_read2_12 (by decide) ?_
    refine lv_iload_n hx hb d_Mo_read2_14 rfl (lv_at hl 1 rfl) ?_
    refine lv_imul hx hb d_Mo_read2_15 ?_
    refine lv_iload_n hx hb d_Mo_read2_16 rfl (lv_at hl 2 rfl) ?_
    refine lv_iadd hx hb d_Mo_read2_17 ?_
    obtain ⟨hi, hF⟩ := dm_chk hF
    refine tw_a_1 (F := (f 0)) B hP rfl hi d_Mo_read2_18 ?_
    refine lv_goto (tgt := 23) hx hb d_Mo_read2_19 (by decide) ?_
    have hF := Option.some.inj hF
    subst hF
    exact dm_ret B rfl d_Mo_read2_23 (by decide) (by decide) hP hD hS ⟨rfl, rfl⟩
abbrev b_Mo_punched : ByteArray := prog_16_method_25_code
abbrev y_Mo_punched : MethodName := { cls := "DelayMachineModel", name := "punched", desc := "(I)S" }
theorem d_Mo_punched_0 : decode b_Mo_punched 0 = .ok (.iload_n 1, 1) := by decide +kernel
theorem d_Mo_punched_1 : decode b_Mo_punched 1 = .ok (.ifCond .lt (11), 3) := by decide +kernel
theorem d_Mo_punched_4 : decode b_Mo_punched 4 = .ok (.iload_n 1, 1) := by decide +kernel
theorem d_Mo_punched_5 : decode b_Mo_punched 5 = .ok (.aload_n 0, 1) := by decide +kernel
theorem d_Mo_punched_6 : decode b_Mo_punched 6 = .ok (.getfield 178, 3) := by decide +kernel
theorem d_Mo_punched_9 : decode b_Mo_punched 9 = .ok (.if_icmp .lt (7), 3) := by decide +kernel
theorem d_Mo_punched_12 : decode b_Mo_punched 12 = .ok (.iconst 0, 1) := by decide +kernel
theorem d_Mo_punched_13 : decode b_Mo_punched 13 = .ok (.goto (9), 3) := by decide +kernel
theorem d_Mo_punched_16 : decode b_Mo_punched 16 = .ok (.aload_n 0, 1) := by decide +kernel
theorem d_Mo_punched_17 : decode b_Mo_punched 17 = .ok (.getfield 27, 3) := by decide +kernel
theorem d_Mo_punched_20 : decode b_Mo_punched 20 = .ok (.iload_n 1, 1) := by decide +kernel
theorem d_Mo_punched_21 : decode b_Mo_punched 21 = .ok (.saload, 1) := by decide +kernel
theorem d_Mo_punched_22 : decode b_Mo_punched 22 = .ok (.ireturn, 1) := by decide +kernel
theorem hd_Mo_punched : y_Mo_punched.cls ≠ "java/lang/invoke/MethodHandle" ∧ y_Mo_punched.cls ≠ "java/lang/invoke/VarHandle" ∧ (parseMethodDescriptor y_Mo_punched.desc).map (fun d => d.parameters.length) = some 1 := by decide +kernel
abbrev rm_Mo_punched : Room := { frames := 0, cells := 0, slots := 0, locals := 0 }
def F_Mo_punched_12 (x1 : Int32) (v : Nat → Int32) (f : Nat → Nat → Int32)    : Option (Int32) := (some (0 : Int32))
def F_Mo_punched (x1 : Int32) (v : Nat → Int32) (f : Nat → Nat → Int32)  : Option (Int32) := (if x1 < (0 : Int32) then (F_Mo_punched_12 x1 v f) else (if x1 < (v 25) then (if x1 < 0 ∨ 60 ≤ x1.toNatClampNeg then none else (if ((f 26) x1.toNatClampNeg).toInt16.toInt32 = ((f 26) x1.toNatClampNeg) then (some ((f 26) x1.toNatClampNeg)) else none)) else (F_Mo_punched_12 x1 v f)))
set_option maxHeartbeats 4000000 in
set_option maxRecDepth 100000 in
theorem c_Mo_punched (l : Launch) (G : dm_G) (g : Nat → Nat) (x1 : Int32) (v : Nat → Int32) (f : Nat → Nat → Int32) (RES : Int32) (hF : F_Mo_punched x1 v f = some RES) : dm_Ct l y_Mo_punched b_Mo_punched 2 (some .short) rm_Mo_punched G (tw G g v f) [.ref (g 0), .int x1] (fun ov w' => ov = some (.int RES) ∧ w' = (tw G g v f)) := by
  refine dm_Ct.of (by decide +kernel) (Nat.le_of_ble_eq_true rfl) ?_
  intro p e s m below meth c A ls B hl hP hD hS
  have hx := B.1
  have hb := B.2.1
  have hl : lv_has ls 2 [(0, .ref (g 0)), (1, .int x1)] := hl
  have K12 : ∀ (ls : Array Slot) (H : Heap) (locs : List Loc)  , lv_has ls 2 [] → va_P G.1 dm_cl (tw G g v f) H → va_D A (tw G g v f) → va_S A s.heap H locs → F_Mo_punched_12 x1 v f   = some RES → W p l e rm_Mo_punched s m ([.ref (g 0), .int x1] : List Value).toArray below meth c H locs 0 0 (dm_Z below G s ([.ref (g 0), .int x1] : List Value).toArray A rm_Mo_punched.cells rm_Mo_punched.slots (fun ov w' => ov = some (.int RES) ∧ w' = (tw G g v f))) (F0 m 12 ls []) := by
    intro ls H locs  hl hP hD hS hF
    have hF : (some (0 : Int32)) = some RES := hF
    refine lv_iconst (v := (0 : Int32)) hx hb d_Mo_punched_12 (by decide) ?_
    refine lv_goto (tgt := 22) hx hb d_Mo_punched_13 (by decide) ?_
    have hF := Option.some.inj hF
    subst hF
    exact dm_ret B (by decide) d_Mo_punched_22 (by decide) (by decide) hP hD hS ⟨rfl, rfl⟩
  have hF : (if x1 < (0 : Int32) then (F_Mo_punched_12 x1 v f) else (if x1 < (v 25) then (if x1 < 0 ∨ 60 ≤ x1.toNatClampNeg then none else (if ((f 26) x1.toNatClampNeg).toInt16.toInt32 = ((f 26) x1.toNatClampNeg) then (some ((f 26) x1.toNatClampNeg)) else none)) else (F_Mo_punched_12 x1 v f))) = some RES := hF
  refine lv_iload_n hx hb d_Mo_punched_0 rfl (lv_at hl 1 rfl) ?_
  refine lv_if_lt (tgt := 12) hx hb d_Mo_punched_1 (by decide) (fun (hh : x1 < (0 : Int32)) => ?_) (fun (hh : ¬ x1 < (0 : Int32)) => ?_)
  · rw [if_pos hh] at hF
    exact K12 ls _ _  (lv_sub hl [] rfl) hP hD hS hF
  · rw [if_neg hh] at hF
    refine lv_iload_n hx hb d_Mo_punched_4 rfl (lv_at hl 1 rfl) ?_
    refine lv_aload_n hx hb d_Mo_punched_5 rfl (lv_at hl 0 rfl) ?_
    refine tw_g_0_25 (x := (v 25)) B hP rfl k_750 d_Mo_punched_6 ?_
    refine lv_icmp_lt (tgt := 16) hx hb d_Mo_punched_9 (by decide) (fun (hh : x1 < (v 25)) => ?_) (fun (hh : ¬ x1 < (v 25)) => ?_)
    · rw [if_pos hh] at hF
      refine lv_aload_n hx hb d_Mo_punched_16 rfl (lv_at hl 0 rfl) ?_
      refine tw_g_0_26 B hP k_751 d_Mo_punched_17 ?_
      refine lv_iload_n hx hb d_Mo_punched_20 rfl (lv_at hl 1 rfl) ?_
      obtain ⟨hi, hF⟩ := dm_chk hF
      refine tw_a_5 (F := (f 26)) B hP rfl hi d_Mo_punched_21 ?_
      obtain ⟨hz, hF⟩ := dm_ck1 hF
      have hF := Option.some.inj hF
      subst hF
      exact dm_ret B (dm_nsh hz) d_Mo_punched_22 (by decide) (by decide) hP hD hS ⟨rfl, rfl⟩
    · rw [if_neg hh] at hF
      exact K12 ls _ _  (lv_sub hl [] rfl) hP hD hS hF
abbrev b_Mo_isVariable : ByteArray := prog_16_method_26_code
abbrev y_Mo_isVariable : MethodName := { cls := "DelayMachineModel", name := "isVariable", desc := "(I)Z" }
theorem d_Mo_isVariable_0 : decode b_Mo_isVariable 0 = .ok (.iload_n 0, 1) := by decide +kernel
theorem d_Mo_isVariable_1 : decode b_Mo_isVariable 1 = .ok (.ifCond .lt (13), 3) := by decide +kernel
theorem d_Mo_isVariable_4 : decode b_Mo_isVariable 4 = .ok (.iload_n 0, 1) := by decide +kernel
theorem d_Mo_isVariable_5 : decode b_Mo_isVariable 5 = .ok (.bipush (16), 2) := by decide +kernel
theorem d_Mo_isVariable_7 : decode b_Mo_isVariable 7 = .ok (.if_icmp .ge (7), 3) := by decide +kernel
theorem d_Mo_isVariable_10 : decode b_Mo_isVariable 10 = .ok (.iconst 1, 1) := by decide +kernel
theorem d_Mo_isVariable_11 : decode b_Mo_isVariable 11 = .ok (.goto (4), 3) := by decide +kernel
theorem d_Mo_isVariable_14 : decode b_Mo_isVariable 14 = .ok (.iconst 0, 1) := by decide +kernel
theorem d_Mo_isVariable_15 : decode b_Mo_isVariable 15 = .ok (.ireturn, 1) := by decide +kernel
theorem hd_Mo_isVariable : y_Mo_isVariable.cls ≠ "java/lang/invoke/MethodHandle" ∧ y_Mo_isVariable.cls ≠ "java/lang/invoke/VarHandle" ∧ (parseMethodDescriptor y_Mo_isVariable.desc).map (fun d => d.parameters.length) = some 1 := by decide +kernel
abbrev rm_Mo_isVariable : Room := { frames := 0, cells := 0, slots := 0, locals := 0 }
def F_Mo_isVariable_14 (x0 : Int32)     : Option (Int32) := (some (0 : Int32))
def F_Mo_isVariable (x0 : Int32)   : Option (Int32) := (if x0 < (0 : Int32) then (F_Mo_isVariable_14 x0) else (if (16 : Int32) ≤ x0 then (F_Mo_isVariable_14 x0) else (some (1 : Int32))))
set_option maxHeartbeats 4000000 in
set_option maxRecDepth 100000 in
theorem c_Mo_isVariable (l : Launch) (G : dm_G)  (w : va_W) (x0 : Int32)  (RES : Int32) (hF : F_Mo_isVariable x0 = some RES) : dm_Ct l y_Mo_isVariable b_Mo_isVariable 1 (some .boolean) rm_Mo_isVariable G w [.int x0] (fun ov w' => ov = some (.int RES) ∧ w' = w) := by
  refine dm_Ct.of (by decide +kernel) (Nat.le_of_ble_eq_true rfl) ?_
  intro p e s m below meth c A ls B hl hP hD hS
  have hx := B.1
  have hb := B.2.1
  have hl : lv_has ls 1 [(0, .int x0)] := hl
  have K14 : ∀ (ls : Array Slot) (H : Heap) (locs : List Loc)  , lv_has ls 1 [] → va_P G.1 dm_cl w H → va_D A w → va_S A s.heap H locs → F_Mo_isVariable_14 x0   = some RES → W p l e rm_Mo_isVariable s m ([.int x0] : List Value).toArray below meth c H locs 0 0 (dm_Z below G s ([.int x0] : List Value).toArray A rm_Mo_isVariable.cells rm_Mo_isVariable.slots (fun ov w' => ov = some (.int RES) ∧ w' = w)) (F0 m 14 ls []) := by
    intro ls H locs  hl hP hD hS hF
    have hF : (some (0 : Int32)) = some RES := hF
    refine lv_iconst (v := (0 : Int32)) hx hb d_Mo_isVariable_14 (by decide) ?_
    have hF := Option.some.inj hF
    subst hF
    exact dm_ret B (by decide) d_Mo_isVariable_15 (by decide) (by decide) hP hD hS ⟨rfl, rfl⟩
  have hF : (if x0 < (0 : Int32) then (F_Mo_isVariable_14 x0) else (if (16 : Int32) ≤ x0 then (F_Mo_isVariable_14 x0) else (some (1 : Int32)))) = some RES := hF
  refine lv_iload_n hx hb d_Mo_isVariable_0 rfl (lv_at hl 0 rfl) ?_
  refine lv_if_lt (tgt := 14) hx hb d_Mo_isVariable_1 (by decide) (fun (hh : x0 < (0 : Int32)) => ?_) (fun (hh : ¬ x0 < (0 : Int32)) => ?_)
  · rw [if_pos hh] at hF
    exact K14 ls _ _  (lv_sub hl [] rfl) hP hD hS hF
  · rw [if_neg hh] at hF
    refine lv_iload_n hx hb d_Mo_isVariable_4 rfl (lv_at hl 0 rfl) ?_
    refine lv_bipush (v := (16 : Int32)) hx hb d_Mo_isVariable_5 (by decide) ?_
    refine lv_icmp_ge (tgt := 14) hx hb d_Mo_isVariable_7 (by decide) (fun (hh : (16 : Int32) ≤ x0) => ?_) (fun (hh : ¬ (16 : Int32) ≤ x0) => ?_)
    · rw [if_pos hh] at hF
      exact K14 ls _ _  (lv_sub hl [] rfl) hP hD hS hF
    · rw [if_neg hh] at hF
      refine lv_iconst (v := (1 : Int32)) hx hb d_Mo_isVariable_10 (by decide) ?_
      refine lv_goto (tgt := 15) hx hb d_Mo_isVariable_11 (by decide) ?_
      have hF := Option.some.inj hF
      subst hF
      exact dm_ret B (by decide) d_Mo_isVariable_15 (by decide) (by decide) hP hD hS ⟨rfl, rfl⟩
abbrev b_Mo_statement : ByteArray := prog_16_method_27_code
abbrev y_Mo_statement : MethodName := { cls := "DelayMachineModel", name := "statement", desc := "(IIIII)I" }
theorem d_Mo_statement_0 : decode b_Mo_statement 0 = .ok (.iload_n 1, 1) := by decide +kernel
theorem d_Mo_statement_1 : decode b_Mo_statement 1 = .ok (.ifCond .lt (52), 3) := by decide +kernel
theorem d_Mo_statement_4 : decode b_Mo_statement 4 = .ok (.iload_n 1, 1) := by decide +kernel
theorem d_Mo_statement_5 : decode b_Mo_statement 5 = .ok (.bipush (6), 2) := by decide +kernel
theorem d_Mo_statement_7 : decode b_Mo_statement 7 = .ok (.if_icmp .gt (46), 3) := by decide +kernel
theorem d_Mo_statement_10 : decode b_Mo_statement 10 = .ok (.iload_n 2, 1) := by decide +kernel
theorem d_Mo_statement_11 : decode b_Mo_statement 11 = .ok (.invokestatic 202, 3) := by decide +kernel
theorem d_Mo_statement_14 : decode b_Mo_statement 14 = .ok (.ifCond .eq (39), 3) := by decide +kernel
theorem d_Mo_statement_17 : decode b_Mo_statement 17 = .ok (.iload_n 3, 1) := by decide +kernel
theorem d_Mo_statement_18 : decode b_Mo_statement 18 = .ok (.invokestatic 202, 3) := by decide +kernel
theorem d_Mo_statement_21 : decode b_Mo_statement 21 = .ok (.ifCond .eq (32), 3) := by decide +kernel
theorem d_Mo_statement_24 : decode b_Mo_statement 24 = .ok (.iload 4, 2) := by decide +kernel
theorem d_Mo_statement_26 : decode b_Mo_statement 26 = .ok (.invokestatic 202, 3) := by decide +kernel
theorem d_Mo_statement_29 : decode b_Mo_statement 29 = .ok (.ifCond .eq (24), 3) := by decide +kernel
theorem d_Mo_statement_32 : decode b_Mo_statement 32 = .ok (.iload_n 1, 1) := by decide +kernel
theorem d_Mo_statement_33 : decode b_Mo_statement 33 = .ok (.iconst 4, 1) := by decide +kernel
theorem d_Mo_statement_34 : decode b_Mo_statement 34 = .ok (.if_icmp .ne (15), 3) := by decide +kernel
theorem d_Mo_statement_37 : decode b_Mo_statement 37 = .ok (.iload 5, 2) := by decide +kernel
theorem d_Mo_statement_39 : decode b_Mo_statement 39 = .ok (.ifCond .lt (14), 3) := by decide +kernel
theorem d_Mo_statement_42 : decode b_Mo_statement 42 = .ok (.iload 5, 2) := by decide +kernel
theorem d_Mo_statement_44 : decode b_Mo_statement 44 = .ok (.bipush (11), 2) := by decide +kernel
theorem d_Mo_statement_46 : decode b_Mo_statement 46 = .ok (.if_icmp .gt (7), 3) := by decide +kernel
theorem d_Mo_statement_49 : decode b_Mo_statement 49 = .ok (.iconst 1, 1) := by decide +kernel
theorem d_Mo_statement_50 : decode b_Mo_statement 50 = .ok (.goto (4), 3) := by decide +kernel
theorem d_Mo_statement_53 : decode b_Mo_statement 53 = .ok (.iconst 0, 1) := by decide +kernel
theorem d_Mo_statement_54 : decode b_Mo_statement 54 = .ok (.istore 6, 2) := by decide +kernel
theorem d_Mo_statement_56 : decode b_Mo_statement 56 = .ok (.aload_n 0, 1) := by decide +kernel
theorem d_Mo_statement_57 : decode b_Mo_statement 57 = .ok (.getfield 206, 3) := by decide +kernel
theorem d_Mo_statement_60 : decode b_Mo_statement 60 = .ok (.bipush (12), 2) := by decide +kernel
theorem d_Mo_statement_62 : decode b_Mo_statement 62 = .ok (.if_icmp .eq (8), 3) := by decide +kernel
theorem d_Mo_statement_65 : decode b_Mo_statement 65 = .ok (.iload 6, 2) := by decide +kernel
theorem d_Mo_statement_67 : decode b_Mo_statement 67 = .ok (.ifCond .ne (5), 3) := by decide +kernel
theorem d_Mo_statement_70 : decode b_Mo_statement 70 = .ok (.iconst (-1), 1) := by decide +kernel
theorem d_Mo_statement_71 : decode b_Mo_statement 71 = .ok (.ireturn, 1) := by decide +kernel
theorem d_Mo_statement_72 : decode b_Mo_statement 72 = .ok (.aload_n 0, 1) := by decide +kernel
theorem d_Mo_statement_73 : decode b_Mo_statement 73 = .ok (.getfield 33, 3) := by decide +kernel
theorem d_Mo_statement_76 : decode b_Mo_statement 76 = .ok (.aload_n 0, 1) := by decide +kernel
theorem d_Mo_statement_77 : decode b_Mo_statement 77 = .ok (.getfield 206, 3) := by decide +kernel
theorem d_Mo_statement_80 : decode b_Mo_statement 80 = .ok (.iload_n 1, 1) := by decide +kernel
theorem d_Mo_statement_81 : decode b_Mo_statement 81 = .ok (.iastore, 1) := by decide +kernel
theorem d_Mo_statement_82 : decode b_Mo_statement 82 = .ok (.aload_n 0, 1) := by decide +kernel
theorem d_Mo_statement_83 : decode b_Mo_statement 83 = .ok (.getfield 36, 3) := by decide +kernel
theorem d_Mo_statement_86 : decode b_Mo_statement 86 = .ok (.aload_n 0, 1) := by decide +kernel
theorem d_Mo_statement_87 : decode b_Mo_statement 87 = .ok (.getfield 206, 3) := by decide +kernel
theorem d_Mo_statement_90 : decode b_Mo_statement 90 = .ok (.iload_n 2, 1) := by decide +kernel
theorem d_Mo_statement_91 : decode b_Mo_statement 91 = .ok (.iastore, 1) := by decide +kernel
theorem d_Mo_statement_92 : decode b_Mo_statement 92 = .ok (.aload_n 0, 1) := by decide +kernel
theorem d_Mo_statement_93 : decode b_Mo_statement 93 = .ok (.getfield 39, 3) := by decide +kernel
theorem d_Mo_statement_96 : decode b_Mo_statement 96 = .ok (.aload_n 0, 1) := by decide +kernel
theorem d_Mo_statement_97 : decode b_Mo_statement 97 = .ok (.getfield 206, 3) := by decide +kernel
theorem d_Mo_statement_100 : decode b_Mo_statement 100 = .ok (.iload_n 3, 1) := by decide +kernel
theorem d_Mo_statement_101 : decode b_Mo_statement 101 = .ok (.iastore, 1) := by decide +kernel
theorem d_Mo_statement_102 : decode b_Mo_statement 102 = .ok (.aload_n 0, 1) := by decide +kernel
theorem d_Mo_statement_103 : decode b_Mo_statement 103 = .ok (.getfield 42, 3) := by decide +kernel
theorem d_Mo_statement_106 : decode b_Mo_statement 106 = .ok (.aload_n 0, 1) := by decide +kernel
theorem d_Mo_statement_107 : decode b_Mo_statement 107 = .ok (.getfield 206, 3) := by decide +kernel
theorem d_Mo_statement_110 : decode b_Mo_statement 110 = .ok (.iload 4, 2) := by decide +kernel
theorem d_Mo_statement_112 : decode b_Mo_statement 112 = .ok (.iastore, 1) := by decide +kernel
theorem d_Mo_statement_113 : decode b_Mo_statement 113 = .ok (.aload_n 0, 1) := by decide +kernel
theorem d_Mo_statement_114 : decode b_Mo_statement 114 = .ok (.getfield 45, 3) := by decide +kernel
theorem d_Mo_statement_117 : decode b_Mo_statement 117 = .ok (.aload_n 0, 1) := by decide +kernel
theorem d_Mo_statement_118 : decode b_Mo_statement 118 = .ok (.getfield 206, 3) := by decide +kernel
theorem d_Mo_statement_121 : decode b_Mo_statement 121 = .ok (.iload 5, 2) := by decide +kernel
theorem d_Mo_statement_123 : decode b_Mo_statement 123 = .ok (.iastore, 1) := by decide +kernel
theorem d_Mo_statement_124 : decode b_Mo_statement 124 = .ok (.aload_n 0, 1) := by decide +kernel
theorem d_Mo_statement_125 : decode b_Mo_statement 125 = .ok (.dup, 1) := by decide +kernel
theorem d_Mo_statement_126 : decode b_Mo_statement 126 = .ok (.getfield 206, 3) := by decide +kernel
theorem d_Mo_statement_129 : decode b_Mo_statement 129 = .ok (.iconst 1, 1) := by decide +kernel
theorem d_Mo_statement_130 : decode b_Mo_statement 130 = .ok (.iadd, 1) := by decide +kernel
theorem d_Mo_statement_131 : decode b_Mo_statement 131 = .ok (.putfield 206, 3) := by decide +kernel
theorem d_Mo_statement_134 : decode b_Mo_statement 134 = .ok (.aload_n 0, 1) := by decide +kernel
theorem d_Mo_statement_135 : decode b_Mo_statement 135 = .ok (.getfield 206, 3) := by decide +kernel
theorem d_Mo_statement_138 : decode b_Mo_statement 138 = .ok (.iconst 1, 1) := by decide +kernel
theorem d_Mo_statement_139 : decode b_Mo_statement 139 = .ok (.isub, 1) := by decide +kernel
theorem d_Mo_statement_140 : decode b_Mo_statement 140 = .ok (.ireturn, 1) := by decide +kernel
theorem hd_Mo_statement : y_Mo_statement.cls ≠ "java/lang/invoke/MethodHandle" ∧ y_Mo_statement.cls ≠ "java/lang/invoke/VarHandle" ∧ (parseMethodDescriptor y_Mo_statement.desc).map (fun d => d.parameters.length) = some 5 := by decide +kernel
abbrev rm_Mo_statement : Room := { frames := 1, cells := 0, slots := 0, locals := 20 }
def F_Mo_statement_70 (x1 x2 x3 x4 x5 : Int32)    (v : Nat → Int32) (f : Nat → Nat → Int32) : Option (Int32 × (Nat → Int32) × (Nat → Nat → Int32)) := (some ((-1 : Int32), v, f))
def F_Mo_statement_54 (x1 x2 x3 x4 x5 : Int32)   (s0 : Int32) (v : Nat → Int32) (f : Nat → Nat → Int32) : Option (Int32 × (Nat → Int32) × (Nat → Nat → Int32)) := (if (v 28) = (12 : Int32) then (F_Mo_statement_70 x1 x2 x3 x4 x5 v f) else (if s0 = (0 : Int32) then (F_Mo_statement_70 x1 x2 x3 x4 x5 v f) else (if (v 28) < 0 ∨ 12 ≤ (v 28).toNatClampNeg then none else (if (v 28) < 0 ∨ 12 ≤ (v 28).toNatClampNeg then none else (if (v 28) < 0 ∨ 12 ≤ (v 28).toNatClampNeg then none else (if (v 28) < 0 ∨ 12 ≤ (v 28).toNatClampNeg then none else (if (v 28) < 0 ∨ 12 ≤ (v 28).toNatClampNeg then none else (some ((((v 28) + (1 : Int32)) - (1 : Int32)), (va_up v 28 ((v 28) + (1 : Int32))), (va_up (va_up (va_up (va_up (va_up f 29 (upd (f 29) (v 28).toNatClampNeg x1)) 30 (upd (f 30) (v 28).toNatClampNeg x2)) 31 (upd (f 31) (v 28).toNatClampNeg x3)) 32 (upd (f 32) (v 28).toNatClampNeg x4)) 33 (upd (f 33) (v 28).toNatClampNeg x5)))))))))))
def F_Mo_statement_49 (x1 x2 x3 x4 x5 : Int32)    (v : Nat → Int32) (f : Nat → Nat → Int32) : Option (Int32 × (Nat → Int32) × (Nat → Nat → Int32)) := (F_Mo_statement_54 x1 x2 x3 x4 x5 (1 : Int32) v f)
def F_Mo_statement_53 (x1 x2 x3 x4 x5 : Int32)    (v : Nat → Int32) (f : Nat → Nat → Int32) : Option (Int32 × (Nat → Int32) × (Nat → Nat → Int32)) := (F_Mo_statement_54 x1 x2 x3 x4 x5 (0 : Int32) v f)
def F_Mo_statement (x1 x2 x3 x4 x5 : Int32)  (v : Nat → Int32) (f : Nat → Nat → Int32) : Option (Int32 × (Nat → Int32) × (Nat → Nat → Int32)) := (if x1 < (0 : Int32) then (F_Mo_statement_53 x1 x2 x3 x4 x5 v f) else (if (6 : Int32) < x1 then (F_Mo_statement_53 x1 x2 x3 x4 x5 v f) else (Option.bind (F_Mo_isVariable x2) (fun z1 => (if z1 = (0 : Int32) then (F_Mo_statement_53 x1 x2 x3 x4 x5 v f) else (Option.bind (F_Mo_isVariable x3) (fun z2 => (if z2 = (0 : Int32) then (F_Mo_statement_53 x1 x2 x3 x4 x5 v f) else (Option.bind (F_Mo_isVariable x4) (fun z3 => (if z3 = (0 : Int32) then (F_Mo_statement_53 x1 x2 x3 x4 x5 v f) else (if x1 = (4 : Int32) then (if x5 < (0 : Int32) then (F_Mo_statement_53 x1 x2 x3 x4 x5 v f) else (if (11 : Int32) < x5 then (F_Mo_statement_53 x1 x2 x3 x4 x5 v f) else (F_Mo_statement_49 x1 x2 x3 x4 x5 v f))) else (F_Mo_statement_49 x1 x2 x3 x4 x5 v f)))))))))))))
set_option maxHeartbeats 4000000 in
set_option maxRecDepth 100000 in
theorem c_Mo_statement (l : Launch) (G : dm_G) (g : Nat → Nat) (x1 x2 x3 x4 x5 : Int32) (v : Nat → Int32) (f : Nat → Nat → Int32) (RES : Int32 × (Nat → Int32) × (Nat → Nat → Int32)) (hF : F_Mo_statement x1 x2 x3 x4 x5 v f = some RES) : dm_Ct l y_Mo_statement b_Mo_statement 7 (some .int) rm_Mo_statement G (tw G g v f) [.ref (g 0), .int x1, .int x2, .int x3, .int x4, .int x5] (fun ov w' => ov = some (.int RES.1) ∧ w' = (tw G g RES.2.1 RES.2.2)) := by
  refine dm_Ct.of (by decide +kernel) (Nat.le_of_ble_eq_true rfl) ?_
  intro p e s m below meth c A ls B hl hP hD hS
  have hx := B.1
  have hb := B.2.1
  have hl : lv_has ls 7 [(0, .ref (g 0)), (1, .int x1), (2, .int x2), (3, .int x3), (4, .int x4), (5, .int x5)] := hl
  have K70 : ∀ (ls : Array Slot) (H : Heap) (locs : List Loc)  (v : Nat → Int32) (f : Nat → Nat → Int32), lv_has ls 7 [] → va_P G.1 dm_cl (tw G g v f) H → va_D A (tw G g v f) → va_S A s.heap H locs → F_Mo_statement_70 x1 x2 x3 x4 x5  v f = some RES → W p l e rm_Mo_statement s m ([.ref (g 0), .int x1, .int x2, .int x3, .int x4, .int x5] : List Value).toArray below meth c H locs 0 0 (dm_Z below G s ([.ref (g 0), .int x1, .int x2, .int x3, .int x4, .int x5] : List Value).toArray A rm_Mo_statement.cells rm_Mo_statement.slots (fun ov w' => ov = some (.int RES.1) ∧ w' = (tw G g RES.2.1 RES.2.2))) (F0 m 70 ls []) := by
    intro ls H locs v f hl hP hD hS hF
    have hF : (some ((-1 : Int32), v, f)) = some RES := hF
    refine lv_iconst (v := (-1 : Int32)) hx hb d_Mo_statement_70 (by decide) ?_
    have hF := Option.some.inj hF
    subst hF
    exact dm_ret B rfl d_Mo_statement_71 (by decide) (by decide) hP hD hS ⟨rfl, rfl⟩
  have K54 : ∀ (ls : Array Slot) (H : Heap) (locs : List Loc) (s0 : Int32) (v : Nat → Int32) (f : Nat → Nat → Int32), lv_has ls 7 [(0, .ref (g 0)), (1, .int x1), (2, .int x2), (3, .int x3), (4, .int x4), (5, .int x5)] → va_P G.1 dm_cl (tw G g v f) H → va_D A (tw G g v f) → va_S A s.heap H locs → F_Mo_statement_54 x1 x2 x3 x4 x5 s0 v f = some RES → W p l e rm_Mo_statement s m ([.ref (g 0), .int x1, .int x2, .int x3, .int x4, .int x5] : List Value).toArray below meth c H locs 0 0 (dm_Z below G s ([.ref (g 0), .int x1, .int x2, .int x3, .int x4, .int x5] : List Value).toArray A rm_Mo_statement.cells rm_Mo_statement.slots (fun ov w' => ov = some (.int RES.1) ∧ w' = (tw G g RES.2.1 RES.2.2))) (F0 m 54 ls [.int s0]) := by
    intro ls H locs s0 v f hl hP hD hS hF
    have hF : (if (v 28) = (12 : Int32) then (F_Mo_statement_70 x1 x2 x3 x4 x5 v f) else (if s0 = (0 : Int32) then (F_Mo_statement_70 x1 x2 x3 x4 x5 v f) else (if (v 28) < 0 ∨ 12 ≤ (v 28).toNatClampNeg then none else (if (v 28) < 0 ∨ 12 ≤ (v 28).toNatClampNeg then none else (if (v 28) < 0 ∨ 12 ≤ (v 28).toNatClampNeg then none else (if (v 28) < 0 ∨ 12 ≤ (v 28).toNatClampNeg then none else (if (v 28) < 0 ∨ 12 ≤ (v 28).toNatClampNeg then none else (some ((((v 28) + (1 : Int32)) - (1 : Int32)), (va_up v 28 ((v 28) + (1 : Int32))), (va_up (va_up (va_up (va_up (va_up f 29 (upd (f 29) (v 28).toNatClampNeg x1)) 30 (upd (f 30) (v 28).toNatClampNeg x2)) 31 (upd (f 31) (v 28).toNatClampNeg x3)) 32 (upd (f 32) (v 28).toNatClampNeg x4)) 33 (upd (f 33) (v 28).toNatClampNeg x5))))))))))) = some RES := hF
    refine lv_istore (lv' := [(6, .int s0), (0, .ref (g 0)), (1, .int x1), (2, .int x2), (3, .int x3), (4, .int x4), (5, .int x5)]) hx hb d_Mo_statement_54 hl (Nat.le_of_ble_eq_true rfl) rfl (fun ls hl => ?_)
    have hl : lv_has ls 7 [(0, .ref (g 0)), (1, .int x1), (2, .int x2), (3, .int x3), (4, .int x4), (5, .int x5), (6, .int s0)] := lv_sub hl [1, 2, 3, 4, 5, 6, 0] rfl
    refine lv_aload_n hx hb d_Mo_statement_56 rfl (lv_at hl 0 rfl) ?_
    refine tw_g_0_28 (x := (v 28)) B hP rfl k_753 d_Mo_statement_57 ?_
    refine lv_bipush (v := (12 : Int32)) hx hb d_Mo_statement_60 (by decide) ?_
    refine lv_icmp_eq (tgt := 70) hx hb d_Mo_statement_62 (by decide) (fun (hh : (v 28) = (12 : Int32)) => ?_) (fun (hh : ¬ (v 28) = (12 : Int32)) => ?_)
    · rw [if_pos hh] at hF
      exact K70 ls _ _ v f (lv_sub hl [] rfl) hP hD hS hF
    · rw [if_neg hh] at hF
      refine lv_iload hx hb d_Mo_statement_65 (lv_at hl 6 rfl) ?_
      refine lv_if_ne (tgt := 72) hx hb d_Mo_statement_67 (by decide) (fun (hh : ¬ s0 = (0 : Int32)) => ?_) (fun (hh : s0 = (0 : Int32)) => ?_)
      · rw [if_neg hh] at hF
        refine lv_aload_n hx hb d_Mo_statement_72 rfl (lv_at hl 0 rfl) ?_
        refine tw_g_0_29 B hP k_754 d_Mo_statement_73 ?_
        refine lv_aload_n hx hb d_Mo_statement_76 rfl (lv_at hl 0 rfl) ?_
        refine tw_g_0_28 (x := (v 28)) B hP rfl k_753 d_Mo_statement_77 ?_
        refine lv_iload_n hx hb d_Mo_statement_80 rfl (lv_at hl 1 rfl) ?_
        obtain ⟨hi, hF⟩ := dm_chk hF
        refine tw_s_6 (F := (f 29)) B hP hD hS rfl hi d_Mo_statement_81 (fun H locs hP hD hS => ?_)
        refine lv_aload_n hx hb d_Mo_statement_82 rfl (lv_at hl 0 rfl) ?_
        refine tw_g_0_30 B hP k_755 d_Mo_statement_83 ?_
        refine lv_aload_n hx hb d_Mo_statement_86 rfl (lv_at hl 0 rfl) ?_
        refine tw_g_0_28 (x := (v 28)) B hP rfl k_753 d_Mo_statement_87 ?_
        refine lv_iload_n hx hb d_Mo_statement_90 rfl (lv_at hl 2 rfl) ?_
        obtain ⟨hi, hF⟩ := dm_chk hF
        refine tw_s_7 (F := (f 30)) B hP hD hS rfl hi d_Mo_statement_91 (fun H locs hP hD hS => ?_)
        refine lv_aload_n hx hb d_Mo_statement_92 rfl (lv_at hl 0 rfl) ?_
        refine tw_g_0_31 B hP k_756 d_Mo_statement_93 ?_
        refine lv_aload_n hx hb d_Mo_statement_96 rfl (lv_at hl 0 rfl) ?_
        refine tw_g_0_28 (x := (v 28)) B hP rfl k_753 d_Mo_statement_97 ?_
        refine lv_iload_n hx hb d_Mo_statement_100 rfl (lv_at hl 3 rfl) ?_
        obtain ⟨hi, hF⟩ := dm_chk hF
        refine tw_s_8 (F := (f 31)) B hP hD hS rfl hi d_Mo_statement_101 (fun H locs hP hD hS => ?_)
        refine lv_aload_n hx hb d_Mo_statement_102 rfl (lv_at hl 0 rfl) ?_
        refine tw_g_0_32 B hP k_757 d_Mo_statement_103 ?_
        refine lv_aload_n hx hb d_Mo_statement_106 rfl (lv_at hl 0 rfl) ?_
        refine tw_g_0_28 (x := (v 28)) B hP rfl k_753 d_Mo_statement_107 ?_
        refine lv_iload hx hb d_Mo_statement_110 (lv_at hl 4 rfl) ?_
        obtain ⟨hi, hF⟩ := dm_chk hF
        refine tw_s_9 (F := (f 32)) B hP hD hS rfl hi d_Mo_statement_112 (fun H locs hP hD hS => ?_)
        refine lv_aload_n hx hb d_Mo_statement_113 rfl (lv_at hl 0 rfl) ?_
        refine tw_g_0_33 B hP k_758 d_Mo_statement_114 ?_
        refine lv_aload_n hx hb d_Mo_statement_117 rfl (lv_at hl 0 rfl) ?_
        refine tw_g_0_28 (x := (v 28)) B hP rfl k_753 d_Mo_statement_118 ?_
        refine lv_iload hx hb d_Mo_statement_121 (lv_at hl 5 rfl) ?_
        obtain ⟨hi, hF⟩ := dm_chk hF
        refine tw_s_10 (F := (f 33)) B hP hD hS rfl hi d_Mo_statement_123 (fun H locs hP hD hS => ?_)
        refine lv_aload_n hx hb d_Mo_statement_124 rfl (lv_at hl 0 rfl) ?_
        refine lv_dup hx hb d_Mo_statement_125 rfl ?_
        refine tw_g_0_28 (x := (v 28)) B hP rfl k_753 d_Mo_statement_126 ?_
        refine lv_iconst (v := (1 : Int32)) hx hb d_Mo_statement_129 (by decide) ?_
        refine lv_iadd hx hb d_Mo_statement_130 ?_
        refine tw_p_0_28 (x := ((v 28) + (1 : Int32))) B hP hD hS k_753 d_Mo_statement_131 (fun H locs hP hD hS => ?_)
        refine lv_aload_n hx hb d_Mo_statement_134 rfl (lv_at hl 0 rfl) ?_
        refine tw_g_0_28 (x := ((v 28) + (1 : Int32))) B hP rfl k_753 d_Mo_statement_135 ?_
        refine lv_iconst (v := (1 : Int32)) hx hb d_Mo_statement_138 (by decide) ?_
        refine lv_isub hx hb d_Mo_statement_139 ?_
        have hF := Option.some.inj hF
        subst hF
        exact dm_ret B rfl d_Mo_statement_140 (by decide) (by decide) hP hD hS ⟨rfl, rfl⟩
      · rw [if_pos hh] at hF
        exact K70 ls _ _ v f (lv_sub hl [] rfl) hP hD hS hF
  have K49 : ∀ (ls : Array Slot) (H : Heap) (locs : List Loc)  (v : Nat → Int32) (f : Nat → Nat → Int32), lv_has ls 7 [(0, .ref (g 0)), (1, .int x1), (2, .int x2), (3, .int x3), (4, .int x4), (5, .int x5)] → va_P G.1 dm_cl (tw G g v f) H → va_D A (tw G g v f) → va_S A s.heap H locs → F_Mo_statement_49 x1 x2 x3 x4 x5  v f = some RES → W p l e rm_Mo_statement s m ([.ref (g 0), .int x1, .int x2, .int x3, .int x4, .int x5] : List Value).toArray below meth c H locs 0 0 (dm_Z below G s ([.ref (g 0), .int x1, .int x2, .int x3, .int x4, .int x5] : List Value).toArray A rm_Mo_statement.cells rm_Mo_statement.slots (fun ov w' => ov = some (.int RES.1) ∧ w' = (tw G g RES.2.1 RES.2.2))) (F0 m 49 ls []) := by
    intro ls H locs v f hl hP hD hS hF
    have hF : (F_Mo_statement_54 x1 x2 x3 x4 x5 (1 : Int32) v f) = some RES := hF
    refine lv_iconst (v := (1 : Int32)) hx hb d_Mo_statement_49 (by decide) ?_
    refine lv_goto (tgt := 54) hx hb d_Mo_statement_50 (by decide) ?_
    exact K54 ls _ _ (1 : Int32) v f (lv_sub hl [0, 1, 2, 3, 4, 5] rfl) hP hD hS hF
  have K53 : ∀ (ls : Array Slot) (H : Heap) (locs : List Loc)  (v : Nat → Int32) (f : Nat → Nat → Int32), lv_has ls 7 [(0, .ref (g 0)), (1, .int x1), (2, .int x2), (3, .int x3), (4, .int x4), (5, .int x5)] → va_P G.1 dm_cl (tw G g v f) H → va_D A (tw G g v f) → va_S A s.heap H locs → F_Mo_statement_53 x1 x2 x3 x4 x5  v f = some RES → W p l e rm_Mo_statement s m ([.ref (g 0), .int x1, .int x2, .int x3, .int x4, .int x5] : List Value).toArray below meth c H locs 0 0 (dm_Z below G s ([.ref (g 0), .int x1, .int x2, .int x3, .int x4, .int x5] : List Value).toArray A rm_Mo_statement.cells rm_Mo_statement.slots (fun ov w' => ov = some (.int RES.1) ∧ w' = (tw G g RES.2.1 RES.2.2))) (F0 m 53 ls []) := by
    intro ls H locs v f hl hP hD hS hF
    have hF : (F_Mo_statement_54 x1 x2 x3 x4 x5 (0 : Int32) v f) = some RES := hF
    refine lv_iconst (v := (0 : Int32)) hx hb d_Mo_statement_53 (by decide) ?_
    exact K54 ls _ _ (0 : Int32) v f (lv_sub hl [0, 1, 2, 3, 4, 5] rfl) hP hD hS hF
  have hF : (if x1 < (0 : Int32) then (F_Mo_statement_53 x1 x2 x3 x4 x5 v f) else (if (6 : Int32) < x1 then (F_Mo_statement_53 x1 x2 x3 x4 x5 v f) else (Option.bind (F_Mo_isVariable x2) (fun z1 => (if z1 = (0 : Int32) then (F_Mo_statement_53 x1 x2 x3 x4 x5 v f) else (Option.bind (F_Mo_isVariable x3) (fun z2 => (if z2 = (0 : Int32) then (F_Mo_statement_53 x1 x2 x3 x4 x5 v f) else (Option.bind (F_Mo_isVariable x4) (fun z3 => (if z3 = (0 : Int32) then (F_Mo_statement_53 x1 x2 x3 x4 x5 v f) else (if x1 = (4 : Int32) then (if x5 < (0 : Int32) then (F_Mo_statement_53 x1 x2 x3 x4 x5 v f) else (if (11 : Int32) < x5 then (F_Mo_statement_53 x1 x2 x3 x4 x5 v f) else (F_Mo_statement_49 x1 x2 x3 x4 x5 v f))) else (F_Mo_statement_49 x1 x2 x3 x4 x5 v f))))))))))))) = some RES := hF
  refine lv_iload_n hx hb d_Mo_statement_0 rfl (lv_at hl 1 rfl) ?_
  refine lv_if_lt (tgt := 53) hx hb d_Mo_statement_1 (by decide) (fun (hh : x1 < (0 : Int32)) => ?_) (fun (hh : ¬ x1 < (0 : Int32)) => ?_)
  · rw [if_pos hh] at hF
    exact K53 ls _ _ v f (lv_sub hl [0, 1, 2, 3, 4, 5] rfl) hP hD hS hF
  · rw [if_neg hh] at hF
    refine lv_iload_n hx hb d_Mo_statement_4 rfl (lv_at hl 1 rfl) ?_
    refine lv_bipush (v := (6 : Int32)) hx hb d_Mo_statement_5 (by decide) ?_
    refine lv_icmp_gt (tgt := 53) hx hb d_Mo_statement_7 (by decide) (fun (hh : (6 : Int32) < x1) => ?_) (fun (hh : ¬ (6 : Int32) < x1) => ?_)
    · rw [if_pos hh] at hF
      exact K53 ls _ _ v f (lv_sub hl [0, 1, 2, 3, 4, 5] rfl) hP hD hS hF
    · rw [if_neg hh] at hF
      refine lv_iload_n hx hb d_Mo_statement_10 rfl (lv_at hl 2 rfl) ?_
      obtain ⟨z1, hcz1, hF⟩ := dm_bind hF
      refine dm_callSw B [.int x2] (c_Mo_isVariable l G (tw G g v f) x2 z1 hcz1) k_965 k_966 k_14 k_967 hd_Mo_isVariable rfl ⟨by decide, by decide⟩ hP hD hS hl.1 (rest := []) rfl (Nat.le_of_ble_eq_true rfl) d_Mo_statement_11 ⟨by decide, by decide⟩ (fun ov w' H locs hq hP hD hS => ?_)
      obtain ⟨rfl, rfl⟩ := hq
      have hP : va_P G.1 dm_cl (tw G g v f) H := hP
      have hD : va_D A (tw G g v f) := hD
      refine W.eq (g2 := F0 m 14 ls [.int z1]) rfl ?_
      refine lv_if_eq (tgt := 53) hx hb d_Mo_statement_14 (by decide) (fun (hh : z1 = (0 : Int32)) => ?_) (fun (hh : ¬ z1 = (0 : Int32)) => ?_)
      · rw [if_pos hh] at hF
        exact K53 ls _ _ v f (lv_sub hl [0, 1, 2, 3, 4, 5] rfl) hP hD hS hF
      · rw [if_neg hh] at hF
        refine lv_iload_n hx hb d_Mo_statement_17 rfl (lv_at hl 3 rfl) ?_
        obtain ⟨z2, hcz2, hF⟩ := dm_bind hF
        refine dm_callSw B [.int x3] (c_Mo_isVariable l G (tw G g v f) x3 z2 hcz2) k_965 k_966 k_14 k_967 hd_Mo_isVariable rfl ⟨by decide, by decide⟩ hP hD hS hl.1 (rest := []) rfl (Nat.le_of_ble_eq_true rfl) d_Mo_statement_18 ⟨by decide, by decide⟩ (fun ov w' H locs hq hP hD hS => ?_)
        obtain ⟨rfl, rfl⟩ := hq
        have hP : va_P G.1 dm_cl (tw G g v f) H := hP
        have hD : va_D A (tw G g v f) := hD
        refine W.eq (g2 := F0 m 21 ls [.int z2]) rfl ?_
        refine lv_if_eq (tgt := 53) hx hb d_Mo_statement_21 (by decide) (fun (hh : z2 = (0 : Int32)) => ?_) (fun (hh : ¬ z2 = (0 : Int32)) => ?_)
        · rw [if_pos hh] at hF
          exact K53 ls _ _ v f (lv_sub hl [0, 1, 2, 3, 4, 5] rfl) hP hD hS hF
        · rw [if_neg hh] at hF
          refine lv_iload hx hb d_Mo_statement_24 (lv_at hl 4 rfl) ?_
          obtain ⟨z3, hcz3, hF⟩ := dm_bind hF
          refine dm_callSw B [.int x4] (c_Mo_isVariable l G (tw G g v f) x4 z3 hcz3) k_965 k_966 k_14 k_967 hd_Mo_isVariable rfl ⟨by decide, by decide⟩ hP hD hS hl.1 (rest := []) rfl (Nat.le_of_ble_eq_true rfl) d_Mo_statement_26 ⟨by decide, by decide⟩ (fun ov w' H locs hq hP hD hS => ?_)
          obtain ⟨rfl, rfl⟩ := hq
          have hP : va_P G.1 dm_cl (tw G g v f) H := hP
          have hD : va_D A (tw G g v f) := hD
          refine W.eq (g2 := F0 m 29 ls [.int z3]) rfl ?_
          refine lv_if_eq (tgt := 53) hx hb d_Mo_statement_29 (by decide) (fun (hh : z3 = (0 : Int32)) => ?_) (fun (hh : ¬ z3 = (0 : Int32)) => ?_)
          · rw [if_pos hh] at hF
            exact K53 ls _ _ v f (lv_sub hl [0, 1, 2, 3, 4, 5] rfl) hP hD hS hF
          · rw [if_neg hh] at hF
            refine lv_iload_n hx hb d_Mo_statement_32 rfl (lv_at hl 1 rfl) ?_
            refine lv_iconst (v := (4 : Int32)) hx hb d_Mo_statement_33 (by decide) ?_
            refine lv_icmp_ne (tgt := 49) hx hb d_Mo_statement_34 (by decide) (fun (hh : ¬ x1 = (4 : Int32)) => ?_) (fun (hh : x1 = (4 : Int32)) => ?_)
            · rw [if_neg hh] at hF
              exact K49 ls _ _ v f (lv_sub hl [0, 1, 2, 3, 4, 5] rfl) hP hD hS hF
            · rw [if_pos hh] at hF
              refine lv_iload hx hb d_Mo_statement_37 (lv_at hl 5 rfl) ?_
              refine lv_if_lt (tgt := 53) hx hb d_Mo_statement_39 (by decide) (fun (hh : x5 < (0 : Int32)) => ?_) (fun (hh : ¬ x5 < (0 : Int32)) => ?_)
              · rw [if_pos hh] at hF
                exact K53 ls _ _ v f (lv_sub hl [0, 1, 2, 3, 4, 5] rfl) hP hD hS hF
              · rw [if_neg hh] at hF
                refine lv_iload hx hb d_Mo_statement_42 (lv_at hl 5 rfl) ?_
                refine lv_bipush (v := (11 : Int32)) hx hb d_Mo_statement_44 (by decide) ?_
                refine lv_icmp_gt (tgt := 53) hx hb d_Mo_statement_46 (by decide) (fun (hh : (11 : Int32) < x5) => ?_) (fun (hh : ¬ (11 : Int32) < x5) => ?_)
                · rw [if_pos hh] at hF
                  exact K53 ls _ _ v f (lv_sub hl [0, 1, 2, 3, 4, 5] rfl) hP hD hS hF
                · rw [if_neg hh] at hF
                  exact K49 ls _ _ v f (lv_sub hl [0, 1, 2, 3, 4, 5] rfl) hP hD hS hF
abbrev b_Mo_clear : ByteArray := prog_16_method_28_code
abbrev y_Mo_clear : MethodName := { cls := "DelayMachineModel", name := "clear", desc := "()V" }
theorem d_Mo_clear_0 : decode b_Mo_clear 0 = .ok (.aload_n 0, 1) := by decide +kernel
theorem d_Mo_clear_1 : decode b_Mo_clear 1 = .ok (.iconst 0, 1) := by decide +kernel
theorem d_Mo_clear_2 : decode b_Mo_clear 2 = .ok (.putfield 206, 3) := by decide +kernel
theorem d_Mo_clear_5 : decode b_Mo_clear 5 = .ok (.return_, 1) := by decide +kernel
theorem hd_Mo_clear : y_Mo_clear.cls ≠ "java/lang/invoke/MethodHandle" ∧ y_Mo_clear.cls ≠ "java/lang/invoke/VarHandle" ∧ (parseMethodDescriptor y_Mo_clear.desc).map (fun d => d.parameters.length) = some 0 := by decide +kernel
abbrev rm_Mo_clear : Room := { frames := 0, cells := 0, slots := 0, locals := 0 }
def F_Mo_clear  (v : Nat → Int32) (f : Nat → Nat → Int32) : Option ((Nat → Int32) × (Nat → Nat → Int32)) := (some ((va_up v 28 (0 : Int32)), f))
set_option maxHeartbeats 4000000 in
set_option maxRecDepth 100000 in
theorem c_Mo_clear (l : Launch) (G : dm_G) (g : Nat → Nat) (v : Nat → Int32) (f : Nat → Nat → Int32) (RES : (Nat → Int32) × (Nat → Nat → Int32)) (hF : F_Mo_clear v f = some RES) : dm_Ct l y_Mo_clear b_Mo_clear 1 none rm_Mo_clear G (tw G g v f) [.ref (g 0)] (fun ov w' => ov = none ∧ w' = (tw G g RES.1 RES.2)) := by
  refine dm_Ct.of (by decide +kernel) (Nat.le_of_ble_eq_true rfl) ?_
  intro p e s m below meth c A ls B hl hP hD hS
  have hx := B.1
  have hb := B.2.1
  have hl : lv_has ls 1 [(0, .ref (g 0))] := hl
  have hF : (some ((va_up v 28 (0 : Int32)), f)) = some RES := hF
  refine lv_aload_n hx hb d_Mo_clear_0 rfl (lv_at hl 0 rfl) ?_
  refine lv_iconst (v := (0 : Int32)) hx hb d_Mo_clear_1 (by decide) ?_
  refine tw_p_0_28 (x := (0 : Int32)) B hP hD hS k_753 d_Mo_clear_2 (fun H locs hP hD hS => ?_)
  have hF := Option.some.inj hF
  subst hF
  exact dm_retv B d_Mo_clear_5 (by decide) (by decide) hP hD hS ⟨rfl, rfl⟩
abbrev b_Mo_list : ByteArray := prog_16_method_29_code
abbrev y_Mo_list : MethodName := { cls := "DelayMachineModel", name := "list", desc := "(IIII)V" }
theorem d_Mo_list_0 : decode b_Mo_list 0 = .ok (.aload_n 0, 1) := by decide +kernel
theorem d_Mo_list_1 : decode b_Mo_list 1 = .ok (.getfield 48, 3) := by decide +kernel
theorem d_Mo_list_4 : decode b_Mo_list 4 = .ok (.aload_n 0, 1) := by decide +kernel
theorem d_Mo_list_5 : decode b_Mo_list 5 = .ok (.getfield 209, 3) := by decide +kernel
theorem d_Mo_list_8 : decode b_Mo_list 8 = .ok (.iload_n 1, 1) := by decide +kernel
theorem d_Mo_list_9 : decode b_Mo_list 9 = .ok (.iastore, 1) := by decide +kernel
theorem d_Mo_list_10 : decode b_Mo_list 10 = .ok (.aload_n 0, 1) := by decide +kernel
theorem d_Mo_list_11 : decode b_Mo_list 11 = .ok (.getfield 51, 3) := by decide +kernel
theorem d_Mo_list_14 : decode b_Mo_list 14 = .ok (.aload_n 0, 1) := by decide +kernel
theorem d_Mo_list_15 : decode b_Mo_list 15 = .ok (.getfield 209, 3) := by decide +kernel
theorem d_Mo_list_18 : decode b_Mo_list 18 = .ok (.iload_n 2, 1) := by decide +kernel
theorem d_Mo_list_19 : decode b_Mo_list 19 = .ok (.iastore, 1) := by decide +kernel
theorem d_Mo_list_20 : decode b_Mo_list 20 = .ok (.aload_n 0, 1) := by decide +kernel
theorem d_Mo_list_21 : decode b_Mo_list 21 = .ok (.getfield 54, 3) := by decide +kernel
theorem d_Mo_list_24 : decode b_Mo_list 24 = .ok (.aload_n 0, 1) := by decide +kernel
theorem d_Mo_list_25 : decode b_Mo_list 25 = .ok (.getfield 209, 3) := by decide +kernel
theorem d_Mo_list_28 : decode b_Mo_list 28 = .ok (.iload_n 3, 1) := by decide +kernel
theorem d_Mo_list_29 : decode b_Mo_list 29 = .ok (.iastore, 1) := by decide +kernel
theorem d_Mo_list_30 : decode b_Mo_list 30 = .ok (.aload_n 0, 1) := by decide +kernel
theorem d_Mo_list_31 : decode b_Mo_list 31 = .ok (.getfield 57, 3) := by decide +kernel
theorem d_Mo_list_34 : decode b_Mo_list 34 = .ok (.aload_n 0, 1) := by decide +kernel
theorem d_Mo_list_35 : decode b_Mo_list 35 = .ok (.getfield 209, 3) := by decide +kernel
theorem d_Mo_list_38 : decode b_Mo_list 38 = .ok (.iload 4, 2) := by decide +kernel
theorem d_Mo_list_40 : decode b_Mo_list 40 = .ok (.iastore, 1) := by decide +kernel
theorem d_Mo_list_41 : decode b_Mo_list 41 = .ok (.aload_n 0, 1) := by decide +kernel
theorem d_Mo_list_42 : decode b_Mo_list 42 = .ok (.dup, 1) := by decide +kernel
theorem d_Mo_list_43 : decode b_Mo_list 43 = .ok (.getfield 209, 3) := by decide +kernel
theorem d_Mo_list_46 : decode b_Mo_list 46 = .ok (.iconst 1, 1) := by decide +kernel
theorem d_Mo_list_47 : decode b_Mo_list 47 = .ok (.iadd, 1) := by decide +kernel
theorem d_Mo_list_48 : decode b_Mo_list 48 = .ok (.putfield 209, 3) := by decide +kernel
theorem d_Mo_list_51 : decode b_Mo_list 51 = .ok (.return_, 1) := by decide +kernel
theorem hd_Mo_list : y_Mo_list.cls ≠ "java/lang/invoke/MethodHandle" ∧ y_Mo_list.cls ≠ "java/lang/invoke/VarHandle" ∧ (parseMethodDescriptor y_Mo_list.desc).map (fun d => d.parameters.length) = some 4 := by decide +kernel
abbrev rm_Mo_list : Room := { frames := 0, cells := 0, slots := 0, locals := 0 }
def F_Mo_list (x1 x2 x3 x4 : Int32)  (v : Nat → Int32) (f : Nat → Nat → Int32) : Option ((Nat → Int32) × (Nat → Nat → Int32)) := (if (v 34) < 0 ∨ 64 ≤ (v 34).toNatClampNeg then none else (if (v 34) < 0 ∨ 64 ≤ (v 34).toNatClampNeg then none else (if (v 34) < 0 ∨ 64 ≤ (v 34).toNatClampNeg then none else (if (v 34) < 0 ∨ 64 ≤ (v 34).toNatClampNeg then none else (some ((va_up v 34 ((v 34) + (1 : Int32))), (va_up (va_up (va_up (va_up f 35 (upd (f 35) (v 34).toNatClampNeg x1)) 36 (upd (f 36) (v 34).toNatClampNeg x2)) 37 (upd (f 37) (v 34).toNatClampNeg x3)) 38 (upd (f 38) (v 34).toNatClampNeg x4))))))))
set_option maxHeartbeats 4000000 in
set_option maxRecDepth 100000 in
theorem c_Mo_list (l : Launch) (G : dm_G) (g : Nat → Nat) (x1 x2 x3 x4 : Int32) (v : Nat → Int32) (f : Nat → Nat → Int32) (RES : (Nat → Int32) × (Nat → Nat → Int32)) (hF : F_Mo_list x1 x2 x3 x4 v f = some RES) : dm_Ct l y_Mo_list b_Mo_list 5 none rm_Mo_list G (tw G g v f) [.ref (g 0), .int x1, .int x2, .int x3, .int x4] (fun ov w' => ov = none ∧ w' = (tw G g RES.1 RES.2)) := by
  refine dm_Ct.of (by decide +kernel) (Nat.le_of_ble_eq_true rfl) ?_
  intro p e s m below meth c A ls B hl hP hD hS
  have hx := B.1
  have hb := B.2.1
  have hl : lv_has ls 5 [(0, .ref (g 0)), (1, .int x1), (2, .int x2), (3, .int x3), (4, .int x4)] := hl
  have hF : (if (v 34) < 0 ∨ 64 ≤ (v 34).toNatClampNeg then none else (if (v 34) < 0 ∨ 64 ≤ (v 34).toNatClampNeg then none else (if (v 34) < 0 ∨ 64 ≤ (v 34).toNatClampNeg then none else (if (v 34) < 0 ∨ 64 ≤ (v 34).toNatClampNeg then none else (some ((va_up v 34 ((v 34) + (1 : Int32))), (va_up (va_up (va_up (va_up f 35 (upd (f 35) (v 34).toNatClampNeg x1)) 36 (upd (f 36) (v 34).toNatClampNeg x2)) 37 (upd (f 37) (v 34).toNatClampNeg x3)) 38 (upd (f 38) (v 34).toNatClampNeg x4)))))))) = some RES := hF
  refine lv_aload_n hx hb d_Mo_list_0 rfl (lv_at hl 0 rfl) ?_
  refine tw_g_0_35 B hP k_760 d_Mo_list_1 ?_
  refine lv_aload_n hx hb d_Mo_list_4 rfl (lv_at hl 0 rfl) ?_
  refine tw_g_0_34 (x := (v 34)) B hP rfl k_759 d_Mo_list_5 ?_
  refine lv_iload_n hx hb d_Mo_list_8 rfl (lv_at hl 1 rfl) ?_
  obtain ⟨hi, hF⟩ := dm_chk hF
  refine tw_s_11 (F := (f 35)) B hP hD hS rfl hi d_Mo_list_9 (fun H locs hP hD hS => ?_)
  refine lv_aload_n hx hb d_Mo_list_10 rfl (lv_at hl 0 rfl) ?_
  refine tw_g_0_36 B hP k_761 d_Mo_list_11 ?_
  refine lv_aload_n hx hb d_Mo_list_14 rfl (lv_at hl 0 rfl) ?_
  refine tw_g_0_34 (x := (v 34)) B hP rfl k_759 d_Mo_list_15 ?_
  refine lv_iload_n hx hb d_Mo_list_18 rfl (lv_at hl 2 rfl) ?_
  obtain ⟨hi, hF⟩ := dm_chk hF
  refine tw_s_12 (F := (f 36)) B hP hD hS rfl hi d_Mo_list_19 (fun H locs hP hD hS => ?_)
  refine lv_aload_n hx hb d_Mo_list_20 rfl (lv_at hl 0 rfl) ?_
  refine tw_g_0_37 B hP k_762 d_Mo_list_21 ?_
  refine lv_aload_n hx hb d_Mo_list_24 rfl (lv_at hl 0 rfl) ?_
  refine tw_g_0_34 (x := (v 34)) B hP rfl k_759 d_Mo_list_25 ?_
  refine lv_iload_n hx hb d_Mo_list_28 rfl (lv_at hl 3 rfl) ?_
  obtain ⟨hi, hF⟩ := dm_chk hF
  refine tw_s_13 (F := (f 37)) B hP hD hS rfl hi d_Mo_list_29 (fun H locs hP hD hS => ?_)
  refine lv_aload_n hx hb d_Mo_list_30 rfl (lv_at hl 0 rfl) ?_
  refine tw_g_0_38 B hP k_763 d_Mo_list_31 ?_
  refine lv_aload_n hx hb d_Mo_list_34 rfl (lv_at hl 0 rfl) ?_
  refine tw_g_0_34 (x := (v 34)) B hP rfl k_759 d_Mo_list_35 ?_
  refine lv_iload hx hb d_Mo_list_38 (lv_at hl 4 rfl) ?_
  obtain ⟨hi, hF⟩ := dm_chk hF
  refine tw_s_14 (F := (f 38)) B hP hD hS rfl hi d_Mo_list_40 (fun H locs hP hD hS => ?_)
  refine lv_aload_n hx hb d_Mo_list_41 rfl (lv_at hl 0 rfl) ?_
  refine lv_dup hx hb d_Mo_list_42 rfl ?_
  refine tw_g_0_34 (x := (v 34)) B hP rfl k_759 d_Mo_list_43 ?_
  refine lv_iconst (v := (1 : Int32)) hx hb d_Mo_list_46 (by decide) ?_
  refine lv_iadd hx hb d_Mo_list_47 ?_
  refine tw_p_0_34 (x := ((v 34) + (1 : Int32))) B hP hD hS k_759 d_Mo_list_48 (fun H locs hP hD hS => ?_)
  have hF := Option.some.inj hF
  subst hF
  exact dm_retv B d_Mo_list_51 (by decide) (by decide) hP hD hS ⟨rfl, rfl⟩
