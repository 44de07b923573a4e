abbrev b_Mo_listAll : ByteArray := prog_16_method_30_code
abbrev y_Mo_listAll : MethodName := { cls := "DelayMachineModel", name := "listAll", desc := "()V" }
theorem d_Mo_listAll_0 : decode b_Mo_listAll 0 = .ok (.aload_n 0, 1) := by decide +kernel
theorem d_Mo_listAll_1 : decode b_Mo_listAll 1 = .ok (.iconst 0, 1) := by decide +kernel
theorem d_Mo_listAll_2 : decode b_Mo_listAll 2 = .ok (.putfield 209, 3) := by decide +kernel
theorem d_Mo_listAll_5 : decode b_Mo_listAll 5 = .ok (.iconst 0, 1) := by decide +kernel
theorem d_Mo_listAll_6 : decode b_Mo_listAll 6 = .ok (.istore_n 1, 1) := by decide +kernel
theorem d_Mo_listAll_7 : decode b_Mo_listAll 7 = .ok (.iload_n 1, 1) := by decide +kernel
theorem d_Mo_listAll_8 : decode b_Mo_listAll 8 = .ok (.aload_n 0, 1) := by decide +kernel
theorem d_Mo_listAll_9 : decode b_Mo_listAll 9 = .ok (.getfield 206, 3) := by decide +kernel
theorem d_Mo_listAll_12 : decode b_Mo_listAll 12 = .ok (.if_icmp .ge (202), 3) := by decide +kernel
theorem d_Mo_listAll_15 : decode b_Mo_listAll 15 = .ok (.aload_n 0, 1) := by decide +kernel
theorem d_Mo_listAll_16 : decode b_Mo_listAll 16 = .ok (.getfield 36, 3) := by decide +kernel
theorem d_Mo_listAll_19 : decode b_Mo_listAll 19 = .ok (.iload_n 1, 1) := by decide +kernel
theorem d_Mo_listAll_20 : decode b_Mo_listAll 20 = .ok (.iaload, 1) := by decide +kernel
theorem d_Mo_listAll_21 : decode b_Mo_listAll 21 = .ok (.istore_n 2, 1) := by decide +kernel
theorem d_Mo_listAll_22 : decode b_Mo_listAll 22 = .ok (.aload_n 0, 1) := by decide +kernel
theorem d_Mo_listAll_23 : decode b_Mo_listAll 23 = .ok (.getfield 39, 3) := by decide +kernel
theorem d_Mo_listAll_26 : decode b_Mo_listAll 26 = .ok (.iload_n 1, 1) := by decide +kernel
theorem d_Mo_listAll_27 : decode b_Mo_listAll 27 = .ok (.iaload, 1) := by decide +kernel
theorem d_Mo_listAll_28 : decode b_Mo_listAll 28 = .ok (.istore_n 3, 1) := by decide +kernel
theorem d_Mo_listAll_29 : decode b_Mo_listAll 29 = .ok (.aload_n 0, 1) := by decide +kernel
theorem d_Mo_listAll_30 : decode b_Mo_listAll 30 = .ok (.getfield 42, 3) := by decide +kernel
theorem d_Mo_listAll_33 : decode b_Mo_listAll 33 = .ok (.iload_n 1, 1) := by decide +kernel
theorem d_Mo_listAll_34 : decode b_Mo_listAll 34 = .ok (.iaload, 1) := by decide +kernel
theorem d_Mo_listAll_35 : decode b_Mo_listAll 35 = .ok (.istore 4, 2) := by decide +kernel
theorem d_Mo_listAll_37 : decode b_Mo_listAll 37 = .ok (.aload_n 0, 1) := by decide +kernel
theorem d_Mo_listAll_38 : decode b_Mo_listAll 38 = .ok (.getfield 33, 3) := by decide +kernel
theorem d_Mo_listAll_41 : decode b_Mo_listAll 41 = .ok (.iload_n 1, 1) := by decide +kernel
theorem d_Mo_listAll_42 : decode b_Mo_listAll 42 = .ok (.iaload, 1) := by decide +kernel
theorem d_Mo_listAll_43 : decode b_Mo_listAll 43 = .ok (.tableswitch (157) (0) (5) #[37, 37, 82, 104, 116, 144], 37) := by decide +kernel
theorem d_Mo_listAll_80 : decode b_Mo_listAll 80 = .ok (.aload_n 0, 1) := by decide +kernel
theorem d_Mo_listAll_81 : decode b_Mo_listAll 81 = .ok (.iconst 2, 1) := by decide +kernel
theorem d_Mo_listAll_82 : decode b_Mo_listAll 82 = .ok (.bipush (6), 2) := by decide +kernel
theorem d_Mo_listAll_84 : decode b_Mo_listAll 84 = .ok (.iload_n 2, 1) := by decide +kernel
theorem d_Mo_listAll_85 : decode b_Mo_listAll 85 = .ok (.iload_n 1, 1) := by decide +kernel
theorem d_Mo_listAll_86 : decode b_Mo_listAll 86 = .ok (.invokevirtual 212, 3) := by decide +kernel
theorem d_Mo_listAll_89 : decode b_Mo_listAll 89 = .ok (.aload_n 0, 1) := by decide +kernel
theorem d_Mo_listAll_90 : decode b_Mo_listAll 90 = .ok (.iconst 2, 1) := by decide +kernel
theorem d_Mo_listAll_91 : decode b_Mo_listAll 91 = .ok (.aload_n 0, 1) := by decide +kernel
theorem d_Mo_listAll_92 : decode b_Mo_listAll 92 = .ok (.getfield 33, 3) := by decide +kernel
theorem d_Mo_listAll_95 : decode b_Mo_listAll 95 = .ok (.iload_n 1, 1) := by decide +kernel
theorem d_Mo_listAll_96 : decode b_Mo_listAll 96 = .ok (.iaload, 1) := by decide +kernel
theorem d_Mo_listAll_97 : decode b_Mo_listAll 97 = .ok (.ifCond .ne (8), 3) := by decide +kernel
theorem d_Mo_listAll_100 : decode b_Mo_listAll 100 = .ok (.bipush (9), 2) := by decide +kernel
theorem d_Mo_listAll_102 : decode b_Mo_listAll 102 = .ok (.goto (5), 3) := by decide +kernel
theorem d_Mo_listAll_105 : decode b_Mo_listAll 105 = .ok (.bipush (10), 2) := by decide +kernel
theorem d_Mo_listAll_107 : decode b_Mo_listAll 107 = .ok (.iload_n 3, 1) := by decide +kernel
theorem d_Mo_listAll_108 : decode b_Mo_listAll 108 = .ok (.iload_n 1, 1) := by decide +kernel
theorem d_Mo_listAll_109 : decode b_Mo_listAll 109 = .ok (.invokevirtual 212, 3) := by decide +kernel
theorem d_Mo_listAll_112 : decode b_Mo_listAll 112 = .ok (.aload_n 0, 1) := by decide +kernel
theorem d_Mo_listAll_113 : decode b_Mo_listAll 113 = .ok (.bipush (6), 2) := by decide +kernel
theorem d_Mo_listAll_115 : decode b_Mo_listAll 115 = .ok (.iconst 2, 1) := by decide +kernel
theorem d_Mo_listAll_116 : decode b_Mo_listAll 116 = .ok (.iload 4, 2) := by decide +kernel
theorem d_Mo_listAll_118 : decode b_Mo_listAll 118 = .ok (.iload_n 1, 1) := by decide +kernel
theorem d_Mo_listAll_119 : decode b_Mo_listAll 119 = .ok (.invokevirtual 212, 3) := by decide +kernel
theorem d_Mo_listAll_122 : decode b_Mo_listAll 122 = .ok (.goto (86), 3) := by decide +kernel
theorem d_Mo_listAll_125 : decode b_Mo_listAll 125 = .ok (.aload_n 0, 1) := by decide +kernel
theorem d_Mo_listAll_126 : decode b_Mo_listAll 126 = .ok (.iconst 2, 1) := by decide +kernel
theorem d_Mo_listAll_127 : decode b_Mo_listAll 127 = .ok (.bipush (6), 2) := by decide +kernel
theorem d_Mo_listAll_129 : decode b_Mo_listAll 129 = .ok (.iload_n 2, 1) := by decide +kernel
theorem d_Mo_listAll_130 : decode b_Mo_listAll 130 = .ok (.iload_n 1, 1) := by decide +kernel
theorem d_Mo_listAll_131 : decode b_Mo_listAll 131 = .ok (.invokevirtual 212, 3) := by decide +kernel
theorem d_Mo_listAll_134 : decode b_Mo_listAll 134 = .ok (.aload_n 0, 1) := by decide +kernel
theorem d_Mo_listAll_135 : decode b_Mo_listAll 135 = .ok (.bipush (6), 2) := by decide +kernel
theorem d_Mo_listAll_137 : decode b_Mo_listAll 137 = .ok (.iconst 2, 1) := by decide +kernel
theorem d_Mo_listAll_138 : decode b_Mo_listAll 138 = .ok (.iload 4, 2) := by decide +kernel
theorem d_Mo_listAll_140 : decode b_Mo_listAll 140 = .ok (.iload_n 1, 1) := by decide +kernel
theorem d_Mo_listAll_141 : decode b_Mo_listAll 141 = .ok (.invokevirtual 212, 3) := by decide +kernel
theorem d_Mo_listAll_144 : decode b_Mo_listAll 144 = .ok (.goto (64), 3) := by decide +kernel
theorem d_Mo_listAll_147 : decode b_Mo_listAll 147 = .ok (.aload_n 0, 1) := by decide +kernel
theorem d_Mo_listAll_148 : decode b_Mo_listAll 148 = .ok (.iconst 2, 1) := by decide +kernel
theorem d_Mo_listAll_149 : decode b_Mo_listAll 149 = .ok (.bipush (15), 2) := by decide +kernel
theorem d_Mo_listAll_151 : decode b_Mo_listAll 151 = .ok (.iload_n 2, 1) := by decide +kernel
theorem d_Mo_listAll_152 : decode b_Mo_listAll 152 = .ok (.iload_n 1, 1) := by decide +kernel
theorem d_Mo_listAll_153 : decode b_Mo_listAll 153 = .ok (.invokevirtual 212, 3) := by decide +kernel
theorem d_Mo_listAll_156 : decode b_Mo_listAll 156 = .ok (.goto (52), 3) := by decide +kernel
theorem d_Mo_listAll_159 : decode b_Mo_listAll 159 = .ok (.aload_n 0, 1) := by decide +kernel
theorem d_Mo_listAll_160 : decode b_Mo_listAll 160 = .ok (.iconst 2, 1) := by decide +kernel
theorem d_Mo_listAll_161 : decode b_Mo_listAll 161 = .ok (.bipush (11), 2) := by decide +kernel
theorem d_Mo_listAll_163 : decode b_Mo_listAll 163 = .ok (.iload_n 2, 1) := by decide +kernel
theorem d_Mo_listAll_164 : decode b_Mo_listAll 164 = .ok (.iload_n 1, 1) := by decide +kernel
theorem d_Mo_listAll_165 : decode b_Mo_listAll 165 = .ok (.invokevirtual 212, 3) := by decide +kernel
theorem d_Mo_listAll_168 : decode b_Mo_listAll 168 = .ok (.aload_n 0, 1) := by decide +kernel
theorem d_Mo_listAll_169 : decode b_Mo_listAll 169 = .ok (.iconst 0, 1) := by decide +kernel
theorem d_Mo_listAll_170 : decode b_Mo_listAll 170 = .ok (.iconst 0, 1) := by decide +kernel
theorem d_Mo_listAll_171 : decode b_Mo_listAll 171 = .ok (.iconst (-1), 1) := by decide +kernel
theorem d_Mo_listAll_172 : decode b_Mo_listAll 172 = .ok (.iload_n 1, 1) := by decide +kernel
theorem d_Mo_listAll_173 : decode b_Mo_listAll 173 = .ok (.invokevirtual 212, 3) := by decide +kernel
theorem d_Mo_listAll_176 : decode b_Mo_listAll 176 = .ok (.aload_n 0, 1) := by decide +kernel
theorem d_Mo_listAll_177 : decode b_Mo_listAll 177 = .ok (.iconst 0, 1) := by decide +kernel
theorem d_Mo_listAll_178 : decode b_Mo_listAll 178 = .ok (.iconst 0, 1) := by decide +kernel
theorem d_Mo_listAll_179 : decode b_Mo_listAll 179 = .ok (.iconst (-1), 1) := by decide +kernel
theorem d_Mo_listAll_180 : decode b_Mo_listAll 180 = .ok (.iload_n 1, 1) := by decide +kernel
theorem d_Mo_listAll_181 : decode b_Mo_listAll 181 = .ok (.invokevirtual 212, 3) := by decide +kernel
theorem d_Mo_listAll_184 : decode b_Mo_listAll 184 = .ok (.goto (24), 3) := by decide +kernel
theorem d_Mo_listAll_187 : decode b_Mo_listAll 187 = .ok (.aload_n 0, 1) := by decide +kernel
theorem d_Mo_listAll_188 : decode b_Mo_listAll 188 = .ok (.bipush (13), 2) := by decide +kernel
theorem d_Mo_listAll_190 : decode b_Mo_listAll 190 = .ok (.iconst 2, 1) := by decide +kernel
theorem d_Mo_listAll_191 : decode b_Mo_listAll 191 = .ok (.iload 4, 2) := by decide +kernel
theorem d_Mo_listAll_193 : decode b_Mo_listAll 193 = .ok (.iload_n 1, 1) := by decide +kernel
theorem d_Mo_listAll_194 : decode b_Mo_listAll 194 = .ok (.invokevirtual 212, 3) := by decide +kernel
theorem d_Mo_listAll_197 : decode b_Mo_listAll 197 = .ok (.goto (11), 3) := by decide +kernel
theorem d_Mo_listAll_200 : decode b_Mo_listAll 200 = .ok (.aload_n 0, 1) := by decide +kernel
theorem d_Mo_listAll_201 : decode b_Mo_listAll 201 = .ok (.iconst 0, 1) := by decide +kernel
theorem d_Mo_listAll_202 : decode b_Mo_listAll 202 = .ok (.iconst 1, 1) := by decide +kernel
theorem d_Mo_listAll_203 : decode b_Mo_listAll 203 = .ok (.iconst (-1), 1) := by decide +kernel
theorem d_Mo_listAll_204 : decode b_Mo_listAll 204 = .ok (.iload_n 1, 1) := by decide +kernel
theorem d_Mo_listAll_205 : decode b_Mo_listAll 205 = .ok (.invokevirtual 212, 3) := by decide +kernel
theorem d_Mo_listAll_208 : decode b_Mo_listAll 208 = .ok (.iinc 1 (1), 3) := by decide +kernel
theorem d_Mo_listAll_211 : decode b_Mo_listAll 211 = .ok (.goto (-204), 3) := by decide +kernel
theorem d_Mo_listAll_214 : decode b_Mo_listAll 214 = .ok (.aload_n 0, 1) := by decide +kernel
theorem d_Mo_listAll_215 : decode b_Mo_listAll 215 = .ok (.getfield 33, 3) := by decide +kernel
theorem d_Mo_listAll_218 : decode b_Mo_listAll 218 = .ok (.aload_n 0, 1) := by decide +kernel
theorem d_Mo_listAll_219 : decode b_Mo_listAll 219 = .ok (.getfield 206, 3) := by decide +kernel
theorem d_Mo_listAll_222 : decode b_Mo_listAll 222 = .ok (.iconst 1, 1) := by decide +kernel
theorem d_Mo_listAll_223 : decode b_Mo_listAll 223 = .ok (.isub, 1) := by decide +kernel
theorem d_Mo_listAll_224 : decode b_Mo_listAll 224 = .ok (.iaload, 1) := by decide +kernel
theorem d_Mo_listAll_225 : decode b_Mo_listAll 225 = .ok (.bipush (6), 2) := by decide +kernel
theorem d_Mo_listAll_227 : decode b_Mo_listAll 227 = .ok (.if_icmp .eq (11), 3) := by decide +kernel
theorem d_Mo_listAll_230 : decode b_Mo_listAll 230 = .ok (.aload_n 0, 1) := by decide +kernel
theorem d_Mo_listAll_231 : decode b_Mo_listAll 231 = .ok (.iconst 0, 1) := by decide +kernel
theorem d_Mo_listAll_232 : decode b_Mo_listAll 232 = .ok (.iconst 1, 1) := by decide +kernel
theorem d_Mo_listAll_233 : decode b_Mo_listAll 233 = .ok (.iconst (-1), 1) := by decide +kernel
theorem d_Mo_listAll_234 : decode b_Mo_listAll 234 = .ok (.iconst (-1), 1) := by decide +kernel
theorem d_Mo_listAll_235 : decode b_Mo_listAll 235 = .ok (.invokevirtual 212, 3) := by decide +kernel
theorem d_Mo_listAll_238 : decode b_Mo_listAll 238 = .ok (.return_, 1) := by decide +kernel
theorem hd_Mo_listAll : y_Mo_listAll.cls ≠ "java/lang/invoke/MethodHandle" ∧ y_Mo_listAll.cls ≠ "java/lang/invoke/VarHandle" ∧ (parseMethodDescriptor y_Mo_listAll.desc).map (fun d => d.parameters.length) = some 0 := by decide +kernel
abbrev rm_Mo_listAll : Room := { frames := 1, cells := 0, slots := 0, locals := 24 }
def F_Mo_listAll_208  (k7 : Int32 → (Nat → Int32) → (Nat → Nat → Int32) → Option ((Nat → Int32) × (Nat → Nat → Int32))) (l1 : Int32) (v : Nat → Int32) (f : Nat → Nat → Int32) : Option ((Nat → Int32) × (Nat → Nat → Int32)) := (k7 (l1 + (1 : Int32)) v f)
def F_Mo_listAll_107  (k7 : Int32 → (Nat → Int32) → (Nat → Nat → Int32) → Option ((Nat → Int32) × (Nat → Nat → Int32))) (l1 : Int32) (l3 : Int32) (l4 : Int32) (s2 : Int32) (v : Nat → Int32) (f : Nat → Nat → Int32) : Option ((Nat → Int32) × (Nat → Nat → Int32)) := (Option.bind (F_Mo_list (2 : Int32) s2 l3 l1 v f) (fun z1 => (Option.bind (F_Mo_list (6 : Int32) (2 : Int32) l4 l1 z1.1 z1.2) (fun z2 => (F_Mo_listAll_208  (k7) l1 z2.1 z2.2)))))
def F_Mo_listAll_7   : Nat → Int32 → (Nat → Int32) → (Nat → Nat → Int32) → Option ((Nat → Int32) × (Nat → Nat → Int32))
  | 0, _, _, _ => none
  | n + 1, l1, v, f => (if (v 28) ≤ l1 then (if ((v 28) - (1 : Int32)) < 0 ∨ 12 ≤ ((v 28) - (1 : Int32)).toNatClampNeg then none else (if ((f 29) ((v 28) - (1 : Int32)).toNatClampNeg) = (6 : Int32) then (some (v, f)) else (Option.bind (F_Mo_list (0 : Int32) (1 : Int32) (-1 : Int32) (-1 : Int32) v f) (fun z1 => (some (z1.1, z1.2)))))) else (if l1 < 0 ∨ 12 ≤ l1.toNatClampNeg then none else (if l1 < 0 ∨ 12 ≤ l1.toNatClampNeg then none else (if l1 < 0 ∨ 12 ≤ l1.toNatClampNeg then none else (if l1 < 0 ∨ 12 ≤ l1.toNatClampNeg then none else (if ((f 29) l1.toNatClampNeg) = (0 : Int32) then (Option.bind (F_Mo_list (2 : Int32) (6 : Int32) ((f 30) l1.toNatClampNeg) l1 v f) (fun z2 => (if l1 < 0 ∨ 12 ≤ l1.toNatClampNeg then none else (if ((z2.2 29) l1.toNatClampNeg) = (0 : Int32) then (F_Mo_listAll_107  (F_Mo_listAll_7  n) l1 ((f 31) l1.toNatClampNeg) ((f 32) l1.toNatClampNeg) (9 : Int32) z2.1 z2.2) else (F_Mo_listAll_107  (F_Mo_listAll_7  n) l1 ((f 31) l1.toNatClampNeg) ((f 32) l1.toNatClampNeg) (10 : Int32) z2.1 z2.2))))) else (if ((f 29) l1.toNatClampNeg) = (1 : Int32) then (Option.bind (F_Mo_list (2 : Int32) (6 : Int32) ((f 30) l1.toNatClampNeg) l1 v f) (fun z3 => (if l1 < 0 ∨ 12 ≤ l1.toNatClampNeg then none else (if ((z3.2 29) l1.toNatClampNeg) = (0 : Int32) then (F_Mo_listAll_107  (F_Mo_listAll_7  n) l1 ((f 31) l1.toNatClampNeg) ((f 32) l1.toNatClampNeg) (9 : Int32) z3.1 z3.2) else (F_Mo_listAll_107  (F_Mo_listAll_7  n) l1 ((f 31) l1.toNatClampNeg) ((f 32) l1.toNatClampNeg) (10 : Int32) z3.1 z3.2))))) else (if ((f 29) l1.toNatClampNeg) = (2 : Int32) then (Option.bind (F_Mo_list (2 : Int32) (6 : Int32) ((f 30) l1.toNatClampNeg) l1 v f) (fun z4 => (Option.bind (F_Mo_list (6 : Int32) (2 : Int32) ((f 32) l1.toNatClampNeg) l1 z4.1 z4.2) (fun z5 => (F_Mo_listAll_208  (F_Mo_listAll_7  n) l1 z5.1 z5.2))))) else (if ((f 29) l1.toNatClampNeg) = (3 : Int32) then (Option.bind (F_Mo_list (2 : Int32) (15 : Int32) ((f 30) l1.toNatClampNeg) l1 v f) (fun z6 => (F_Mo_listAll_208  (F_Mo_listAll_7  n) l1 z6.1 z6.2))) else (if ((f 29) l1.toNatClampNeg) = (4 : Int32) then (Option.bind (F_Mo_list (2 : Int32) (11 : Int32) ((f 30) l1.toNatClampNeg) l1 v f) (fun z7 => (Option.bind (F_Mo_list (0 : Int32) (0 : Int32) (-1 : Int32) l1 z7.1 z7.2) (fun z8 => (Option.bind (F_Mo_list (0 : Int32) (0 : Int32) (-1 : Int32) l1 z8.1 z8.2) (fun z9 => (F_Mo_listAll_208  (F_Mo_listAll_7  n) l1 z9.1 z9.2))))))) else (if ((f 29) l1.toNatClampNeg) = (5 : Int32) then (Option.bind (F_Mo_list (13 : Int32) (2 : Int32) ((f 32) l1.toNatClampNeg) l1 v f) (fun z10 => (F_Mo_listAll_208  (F_Mo_listAll_7  n) l1 z10.1 z10.2))) else (Option.bind (F_Mo_list (0 : Int32) (1 : Int32) (-1 : Int32) l1 v f) (fun z11 => (F_Mo_listAll_208  (F_Mo_listAll_7  n) l1 z11.1 z11.2))))))))))))))
def F_Mo_listAll  (v : Nat → Int32) (f : Nat → Nat → Int32) : Option ((Nat → Int32) × (Nat → Nat → Int32)) := (F_Mo_listAll_7  100 (0 : Int32) (va_up v 34 (0 : Int32)) f)
set_option maxHeartbeats 4000000 in
set_option maxRecDepth 100000 in
theorem c_Mo_listAll (l : Launch) (G : dm_G) (g : Nat → Nat) (v : Nat → Int32) (f : Nat → Nat → Int32) (RES : (Nat → Int32) × (Nat → Nat → Int32)) (hF : F_Mo_listAll v f = some RES) : dm_Ct l y_Mo_listAll b_Mo_listAll 5 none rm_Mo_listAll G (tw G g v f) [.ref (g 0)] (fun ov w' => ov = none ∧ w' = (tw G g RES.1 RES.2)) := by
  refine dm_Ct.of (by decide +kernel) (Nat.le_of_ble_eq_true rfl) ?_
  intro p e s m below meth c A ls B hl hP hD hS
  have hx := B.1
  have hb := B.2.1
  have hl : lv_has ls 5 [(0, .ref (g 0))] := hl
  have K7 : ∀ (n7 : Nat) (ls : Array Slot) (H : Heap) (locs : List Loc) (l1 : Int32) (v : Nat → Int32) (f : Nat → Nat → Int32), lv_has ls 5 [(0, .ref (g 0)), (1, .int l1)] → va_P G.1 dm_cl (tw G g v f) H → va_D A (tw G g v f) → va_S A s.heap H locs → F_Mo_listAll_7  n7 l1 v f = some RES → W p l e rm_Mo_listAll s m ([.ref (g 0)] : List Value).toArray below meth c H locs 0 0 (dm_Z below G s ([.ref (g 0)] : List Value).toArray A rm_Mo_listAll.cells rm_Mo_listAll.slots (fun ov w' => ov = none ∧ w' = (tw G g RES.1 RES.2))) (F0 m 7 ls []) := by
    intro n7
    induction n7 with
    | zero => intro ls H locs l1 v f hl hP hD hS hF; cases hF
    | succ n7 ih7 =>
      have K208 : ∀ (ls : Array Slot) (H : Heap) (locs : List Loc) (l1 : Int32) (v : Nat → Int32) (f : Nat → Nat → Int32), lv_has ls 5 [(0, .ref (g 0)), (1, .int l1)] → va_P G.1 dm_cl (tw G g v f) H → va_D A (tw G g v f) → va_S A s.heap H locs → F_Mo_listAll_208  (F_Mo_listAll_7  n7) l1 v f = some RES → W p l e rm_Mo_listAll s m ([.ref (g 0)] : List Value).toArray below meth c H locs 0 0 (dm_Z below G s ([.ref (g 0)] : List Value).toArray A rm_Mo_listAll.cells rm_Mo_listAll.slots (fun ov w' => ov = none ∧ w' = (tw G g RES.1 RES.2))) (F0 m 208 ls []) := by
        intro ls H locs l1 v f hl hP hD hS hF
        have hF : ((F_Mo_listAll_7  n7) (l1 + (1 : Int32)) v f) = some RES := hF
        refine lv_iinc (k := 1) (v := (l1 + (1 : Int32))) (lv' := [(1, .int (l1 + (1 : Int32))), (0, .ref (g 0))]) hx hb d_Mo_listAll_208 hl rfl (congrArg (fun q => l1 + q) (by decide)) (Nat.le_of_ble_eq_true rfl) rfl (fun ls hl => ?_)
        have hl : lv_has ls 5 [(0, .ref (g 0)), (1, .int (l1 + (1 : Int32)))] := lv_sub hl [1, 0] rfl
        refine lv_goto (tgt := 7) hx hb d_Mo_listAll_211 (by decide) ?_
        exact ih7 ls _ _ (l1 + (1 : Int32)) v f (lv_sub hl [0, 1] rfl) hP hD hS hF
      have K107 : ∀ (ls : Array Slot) (H : Heap) (locs : List Loc) (l1 : Int32) (l3 : Int32) (l4 : Int32) (s2 : Int32) (v : Nat → Int32) (f : Nat → Nat → Int32), lv_has ls 5 [(0, .ref (g 0)), (1, .int l1), (3, .int l3), (4, .int l4)] → va_P G.1 dm_cl (tw G g v f) H → va_D A (tw G g v f) → va_S A s.heap H locs → F_Mo_listAll_107  (F_Mo_listAll_7  n7) l1 l3 l4 s2 v f = some RES → W p l e rm_Mo_listAll s m ([.ref (g 0)] : List Value).toArray below meth c H locs 0 0 (dm_Z below G s ([.ref (g 0)] : List Value).toArray A rm_Mo_listAll.cells rm_Mo_listAll.slots (fun ov w' => ov = none ∧ w' = (tw G g RES.1 RES.2))) (F0 m 107 ls [.int s2, .int (2 : Int32), .ref (g 0)]) := by
        intro ls H locs l1 l3 l4 s2 v f hl hP hD hS hF
        have hF : (Option.bind (F_Mo_list (2 : Int32) s2 l3 l1 v f) (fun z1 => (Option.bind (F_Mo_list (6 : Int32) (2 : Int32) l4 l1 z1.1 z1.2) (fun z2 => (F_Mo_listAll_208  ((F_Mo_listAll_7  n7)) l1 z2.1 z2.2))))) = some RES := hF
        refine lv_iload_n hx hb d_Mo_listAll_107 rfl (lv_at hl 2 rfl) ?_
        refine lv_iload_n hx hb d_Mo_listAll_108 rfl (lv_at hl 1 rfl) ?_
        obtain ⟨z1, hcz1, hF⟩ := dm_bind hF
        refine dm_callVw B [.int (2 : Int32), .int s2, .int l3, .int l1] (c_Mo_list l G g (2 : Int32) s2 l3 l1 v f z1 hcz1) k_980 k_982 ks_28 k_14 k_983 hd_Mo_list rfl ⟨by decide, by decide⟩ 0 rfl rfl hP hD hS hl.1 (rest := []) rfl (Nat.le_of_ble_eq_true rfl) d_Mo_listAll_109 ⟨by decide, by decide⟩ (fun ov w' H locs hq hP hD hS => ?_)
        obtain ⟨rfl, rfl⟩ := hq
        have hP : va_P G.1 dm_cl (tw G g z1.1 z1.2) H := hP
        have hD : va_D A (tw G g z1.1 z1.2) := hD
        refine W.eq (g2 := F0 m 112 ls []) rfl ?_
        refine lv_aload_n hx hb d_Mo_listAll_112 rfl (lv_at hl 0 rfl) ?_
        refine lv_bipush (v := (6 : Int32)) hx hb d_Mo_listAll_113 (by decide) ?_
        refine lv_iconst (v := (2 : Int32)) hx hb d_Mo_listAll_115 (by decide) ?_
        refine lv_iload hx hb d_Mo_listAll_116 (lv_at hl 3 rfl) ?_
        refine lv_iload_n hx hb d_Mo_listAll_118 rfl (lv_at hl 1 rfl) ?_
        obtain ⟨z2, hcz2, hF⟩ := dm_bind hF
        refine dm_callVw B [.int (6 : Int32), .int (2 : Int32), .int l4, .int l1] (c_Mo_list l G g (6 : Int32) (2 : Int32) l4 l1 z1.1 z1.2 z2 hcz2) k_980 k_982 ks_28 k_14 k_983 hd_Mo_list rfl ⟨by decide, by decide⟩ 0 rfl rfl hP hD hS hl.1 (rest := []) rfl (Nat.le_of_ble_eq_true rfl) d_Mo_listAll_119 ⟨by decide, by decide⟩ (fun ov w' H locs hq hP hD hS => ?_)
        obtain ⟨rfl, rfl⟩ := hq
        have hP : va_P G.1 dm_cl (tw G g z2.1 z2.2) H := hP
        have hD : va_D A (tw G g z2.1 z2.2) := hD
        refine W.eq (g2 := F0 m 122 ls []) rfl ?_
        refine lv_goto (tgt := 208) hx hb d_Mo_listAll_122 (by decide) ?_
        exact K208 ls _ _ l1 z2.1 z2.2 (lv_sub hl [0, 1] rfl) hP hD hS hF
      intro ls H locs l1 v f hl hP hD hS hF
      have hF : (if (v 28) ≤ l1 then (if ((v 28) - (1 : Int32)) < 0 ∨ 12 ≤ ((v 28) - (1 : Int32)).toNatClampNeg then none else (if ((f 29) ((v 28) - (1 : Int32)).toNatClampNeg) = (6 : Int32) then (some (v, f)) else (Option.bind (F_Mo_list (0 : Int32) (1 : Int32) (-1 : Int32) (-1 : Int32) v f) (fun z1 => (some (z1.1, z1.2)))))) else (if l1 < 0 ∨ 12 ≤ l1.toNatClampNeg then none else (if l1 < 0 ∨ 12 ≤ l1.toNatClampNeg then none else (if l1 < 0 ∨ 12 ≤ l1.toNatClampNeg then none else (if l1 < 0 ∨ 12 ≤ l1.toNatClampNeg then none else (if ((f 29) l1.toNatClampNeg) = (0 : Int32) then (Option.bind (F_Mo_list (2 : Int32) (6 : Int32) ((f 30) l1.toNatClampNeg) l1 v f) (fun z2 => (if l1 < 0 ∨ 12 ≤ l1.toNatClampNeg then none else (if ((z2.2 29) l1.toNatClampNeg) = (0 : Int32) then (F_Mo_listAll_107  (F_Mo_listAll_7  n7) l1 ((f 31) l1.toNatClampNeg) ((f 32) l1.toNatClampNeg) (9 : Int32) z2.1 z2.2) else (F_Mo_listAll_107  (F_Mo_listAll_7  n7) l1 ((f 31) l1.toNatClampNeg) ((f 32) l1.toNatClampNeg) (10 : Int32) z2.1 z2.2))))) else (if ((f 29) l1.toNatClampNeg) = (1 : Int32) then (Option.bind (F_Mo_list (2 : Int32) (6 : Int32) ((f 30) l1.toNatClampNeg) l1 v f) (fun z3 => (if l1 < 0 ∨ 12 ≤ l1.toNatClampNeg then none else (if ((z3.2 29) l1.toNatClampNeg) = (0 : Int32) then (F_Mo_listAll_107  (F_Mo_listAll_7  n7) l1 ((f 31) l1.toNatClampNeg) ((f 32) l1.toNatClampNeg) (9 : Int32) z3.1 z3.2) else (F_Mo_listAll_107  (F_Mo_listAll_7  n7) l1 ((f 31) l1.toNatClampNeg) ((f 32) l1.toNatClampNeg) (10 : Int32) z3.1 z3.2))))) else (if ((f 29) l1.toNatClampNeg) = (2 : Int32) then (Option.bind (F_Mo_list (2 : Int32) (6 : Int32) ((f 30) l1.toNatClampNeg) l1 v f) (fun z4 => (Option.bind (F_Mo_list (6 : Int32) (2 : Int32) ((f 32) l1.toNatClampNeg) l1 z4.1 z4.2) (fun z5 => (F_Mo_listAll_208  (F_Mo_listAll_7  n7) l1 z5.1 z5.2))))) else (if ((f 29) l1.toNatClampNeg) = (3 : Int32) then (Option.bind (F_Mo_list (2 : Int32) (15 : Int32) ((f 30) l1.toNatClampNeg) l1 v f) (fun z6 => (F_Mo_listAll_208  (F_Mo_listAll_7  n7) l1 z6.1 z6.2))) else (if ((f 29) l1.toNatClampNeg) = (4 : Int32) then (Option.bind (F_Mo_list (2 : Int32) (11 : Int32) ((f 30) l1.toNatClampNeg) l1 v f) (fun z7 => (Option.bind (F_Mo_list (0 : Int32) (0 : Int32) (-1 : Int32) l1 z7.1 z7.2) (fun z8 => (Option.bind (F_Mo_list (0 : Int32) (0 : Int32) (-1 : Int32) l1 z8.1 z8.2) (fun z9 => (F_Mo_listAll_208  (F_Mo_listAll_7  n7) l1 z9.1 z9.2))))))) else (if ((f 29) l1.toNatClampNeg) = (5 : Int32) then (Option.bind (F_Mo_list (13 : Int32) (2 : Int32) ((f 32) l1.toNatClampNeg) l1 v f) (fun z10 => (F_Mo_listAll_208  (F_Mo_listAll_7  n7) l1 z10.1 z10.2))) else (Option.bind (F_Mo_list (0 : Int32) (1 : Int32) (-1 : Int32) l1 v f) (fun z11 => (F_Mo_listAll_208  (F_Mo_listAll_7  n7) l1 z11.1 z11.2)))))))))))))) = some RES := hF
      refine lv_iload_n hx hb d_Mo_listAll_7 rfl (lv_at hl 1 rfl) ?_
      refine lv_aload_n hx hb d_Mo_listAll_8 rfl (lv_at hl 0 rfl) ?_
      refine tw_g_0_28 (x := (v 28)) B hP rfl k_753 d_Mo_listAll_9 ?_
      refine lv_icmp_ge (tgt := 214) hx hb d_Mo_listAll_12 (by decide) (fun (hh : (v 28) ≤ l1) => ?_) (fun (hh : ¬ (v 28) ≤ l1) => ?_)
      · rw [if_pos hh] at hF
        refine lv_aload_n hx hb d_Mo_listAll_214 rfl (lv_at hl 0 rfl) ?_
        refine tw_g_0_29 B hP k_754 d_Mo_listAll_215 ?_
        refine lv_aload_n hx hb d_Mo_listAll_218 rfl (lv_at hl 0 rfl) ?_
        refine tw_g_0_28 (x := (v 28)) B hP rfl k_753 d_Mo_listAll_219 ?_
        refine lv_iconst (v := (1 : Int32)) hx hb d_Mo_listAll_222 (by decide) ?_
        refine lv_isub hx hb d_Mo_listAll_223 ?_
        obtain ⟨hi, hF⟩ := dm_chk hF
        refine tw_a_6 (F := (f 29)) B hP rfl hi d_Mo_listAll_224 ?_
        refine lv_bipush (v := (6 : Int32)) hx hb d_Mo_listAll_225 (by decide) ?_
        refine lv_icmp_eq (tgt := 238) hx hb d_Mo_listAll_227 (by decide) (fun (hh : ((f 29) ((v 28) - (1 : Int32)).toNatClampNeg) = (6 : Int32)) => ?_) (fun (hh : ¬ ((f 29) ((v 28) - (1 : Int32)).toNatClampNeg) = (6 : Int32)) => ?_)
        · rw [if_pos hh] at hF
          have hF := Option.some.inj hF
          subst hF
          exact dm_retv B d_Mo_listAll_238 (by decide) (by decide) hP hD hS ⟨rfl, rfl⟩
        · rw [if_neg hh] at hF
          refine lv_aload_n hx hb d_Mo_listAll_230 rfl (lv_at hl 0 rfl) ?_
          refine lv_iconst (v := (0 : Int32)) hx hb d_Mo_listAll_231 (by decide) ?_
          refine lv_iconst (v := (1 : Int32)) hx hb d_Mo_listAll_232 (by decide) ?_
          refine lv_iconst (v := (-1 : Int32)) hx hb d_Mo_listAll_233 (by decide) ?_
          refine lv_iconst (v := (-1 : Int32)) hx hb d_Mo_listAll_234 (by decide) ?_
          obtain ⟨z1, hcz1, hF⟩ := dm_bind hF
          refine dm_callVw B [.int (0 : Int32), .int (1 : Int32), .int (-1 : Int32), .int (-1 : Int32)] (c_Mo_list l G g (0 : Int32) (1 : Int32) (-1 : Int32) (-1 : Int32) v f z1 hcz1) k_980 k_982 ks_28 k_14 k_983 hd_Mo_list rfl ⟨by decide, by decide⟩ 0 rfl rfl hP hD hS hl.1 (rest := []) rfl (Nat.le_of_ble_eq_true rfl) d_Mo_listAll_235 ⟨by decide, by decide⟩ (fun ov w' H locs hq hP hD hS => ?_)
          obtain ⟨rfl, rfl⟩ := hq
          have hP : va_P G.1 dm_cl (tw G g z1.1 z1.2) H := hP
          have hD : va_D A (tw G g z1.1 z1.2) := hD
          refine W.eq (g2 := F0 m 238 ls []) rfl ?_
          have hF := Option.some.inj hF
          subst hF
          exact dm_retv B d_Mo_listAll_238 (by decide) (by decide) hP hD hS ⟨rfl, rfl⟩
      · rw [if_neg hh] at hF
        refine lv_aload_n hx hb d_Mo_listAll_15 rfl (lv_at hl 0 rfl) ?_
        refine tw_g_0_30 B hP k_755 d_Mo_listAll_16 ?_
        refine lv_iload_n hx hb d_Mo_listAll_19 rfl (lv_at hl 1 rfl) ?_
        obtain ⟨hi, hF⟩ := dm_chk hF
        refine tw_a_7 (F := (f 30)) B hP rfl hi d_Mo_listAll_20 ?_
        refine lv_istore_n (lv' := [(2, .int ((f 30) l1.toNatClampNeg)), (0, .ref (g 0)), (1, .int l1)]) hx hb d_Mo_listAll_21 rfl hl (Nat.le_of_ble_eq_true rfl) rfl (fun ls hl => ?_)
        have hl : lv_has ls 5 [(0, .ref (g 0)), (1, .int l1), (2, .int ((f 30) l1.toNatClampNeg))] := lv_sub hl [1, 2, 0] rfl
        refine lv_aload_n hx hb d_Mo_listAll_22 rfl (lv_at hl 0 rfl) ?_
        refine tw_g_0_31 B hP k_756 d_Mo_listAll_23 ?_
        refine lv_iload_n hx hb d_Mo_listAll_26 rfl (lv_at hl 1 rfl) ?_
        obtain ⟨hi, hF⟩ := dm_chk hF
        refine tw_a_8 (F := (f 31)) B hP rfl hi d_Mo_listAll_27 ?_
        refine lv_istore_n (lv' := [(3, .int ((f 31) l1.toNatClampNeg)), (0, .ref (g 0)), (1, .int l1), (2, .int ((f 30) l1.toNatClampNeg))]) hx hb d_Mo_listAll_28 rfl hl (Nat.le_of_ble_eq_true rfl) rfl (fun ls hl => ?_)
        have hl : lv_has ls 5 [(0, .ref (g 0)), (1, .int l1), (2, .int ((f 30) l1.toNatClampNeg)), (3, .int ((f 31) l1.toNatClampNeg))] := lv_sub hl [1, 2, 3, 0] rfl
        refine lv_aload_n hx hb d_Mo_listAll_29 rfl (lv_at hl 0 rfl) ?_
        refine tw_g_0_32 B hP k_757 d_Mo_listAll_30 ?_
        refine lv_iload_n hx hb d_Mo_listAll_33 rfl (lv_at hl 1 rfl) ?_
        obtain ⟨hi, hF⟩ := dm_chk hF
        refine tw_a_9 (F := (f 32)) B hP rfl hi d_Mo_listAll_34 ?_
        refine lv_istore (lv' := [(4, .int ((f 32) l1.toNatClampNeg)), (0, .ref (g 0)), (1, .int l1), (2, .int ((f 30) l1.toNatClampNeg)), (3, .int ((f 31) l1.toNatClampNeg))]) hx hb d_Mo_listAll_35 hl (Nat.le_of_ble_eq_true rfl) rfl (fun ls hl => ?_)
        have hl : lv_has ls 5 [(0, .ref (g 0)), (1, .int l1), (2, .int ((f 30) l1.toNatClampNeg)), (3, .int ((f 31) l1.toNatClampNeg)), (4, .int ((f 32) l1.toNatClampNeg))] := lv_sub hl [1, 2, 3, 4, 0] rfl
        refine lv_aload_n hx hb d_Mo_listAll_37 rfl (lv_at hl 0 rfl) ?_
        refine tw_g_0_29 B hP k_754 d_Mo_listAll_38 ?_
        refine lv_iload_n hx hb d_Mo_listAll_41 rfl (lv_at hl 1 rfl) ?_
        obtain ⟨hi, hF⟩ := dm_chk hF
        refine tw_a_6 (F := (f 29)) B hP rfl hi d_Mo_listAll_42 ?_
        by_cases h0 : ((f 29) l1.toNatClampNeg) = (0 : Int32)
        · rw [if_pos h0] at hF
          refine lv_tableIn (off := 37) (tgt := 80) hx hb d_Mo_listAll_43 (by rw [h0]; decide) (by rw [h0]; decide) (by rw [h0]; rfl) (by decide) ?_
          refine lv_aload_n hx hb d_Mo_listAll_80 rfl (lv_at hl 0 rfl) ?_
          refine lv_iconst (v := (2 : Int32)) hx hb d_Mo_listAll_81 (by decide) ?_
          refine lv_bipush (v := (6 : Int32)) hx hb d_Mo_listAll_82 (by decide) ?_
          refine lv_iload_n hx hb d_Mo_listAll_84 rfl (lv_at hl 2 rfl) ?_
          refine lv_iload_n hx hb d_Mo_listAll_85 rfl (lv_at hl 1 rfl) ?_
          obtain ⟨z2, hcz2, hF⟩ := dm_bind hF
          refine dm_callVw B [.int (2 : Int32), .int (6 : Int32), .int ((f 30) l1.toNatClampNeg), .int l1] (c_Mo_list l G g (2 : Int32) (6 : Int32) ((f 30) l1.toNatClampNeg) l1 v f z2 hcz2) k_980 k_982 ks_28 k_14 k_983 hd_Mo_list rfl ⟨by decide, by decide⟩ 0 rfl rfl hP hD hS hl.1 (rest := []) rfl (Nat.le_of_ble_eq_true rfl) d_Mo_listAll_86 ⟨by decide, by decide⟩ (fun ov w' H locs hq hP hD hS => ?_)
          obtain ⟨rfl, rfl⟩ := hq
          have hP : va_P G.1 dm_cl (tw G g z2.1 z2.2) H := hP
          have hD : va_D A (tw G g z2.1 z2.2) := hD
          refine W.eq (g2 := F0 m 89 ls []) rfl ?_
          refine lv_aload_n hx hb d_Mo_listAll_89 rfl (lv_at hl 0 rfl) ?_
          refine lv_iconst (v := (2 : Int32)) hx hb d_Mo_listAll_90 (by decide) ?_
          refine lv_aload_n hx hb d_Mo_listAll_91 rfl (lv_at hl 0 rfl) ?_
          refine tw_g_0_29 B hP k_754 d_Mo_listAll_92 ?_
          refine lv_iload_n hx hb d_Mo_listAll_95 rfl (lv_at hl 1 rfl) ?_
          obtain ⟨hi, hF⟩ := dm_chk hF
          refine tw_a_6 (F := (z2.2 29)) B hP rfl hi d_Mo_listAll_96 ?_
          refine lv_if_ne (tgt := 105) hx hb d_Mo_listAll_97 (by decide) (fun (hh : ¬ ((z2.2 29) l1.toNatClampNeg) = (0 : Int32)) => ?_) (fun (hh : ((z2.2 29) l1.toNatClampNeg) = (0 : Int32)) => ?_)
          · rw [if_neg hh] at hF
            refine lv_bipush (v := (10 : Int32)) hx hb d_Mo_listAll_105 (by decide) ?_
            exact K107 ls _ _ l1 ((f 31) l1.toNatClampNeg) ((f 32) l1.toNatClampNeg) (10 : Int32) z2.1 z2.2 (lv_sub hl [0, 1, 3, 4] rfl) hP hD hS hF
          · rw [if_pos hh] at hF
            refine lv_bipush (v := (9 : Int32)) hx hb d_Mo_listAll_100 (by decide) ?_
            refine lv_goto (tgt := 107) hx hb d_Mo_listAll_102 (by decide) ?_
            exact K107 ls _ _ l1 ((f 31) l1.toNatClampNeg) ((f 32) l1.toNatClampNeg) (9 : Int32) z2.1 z2.2 (lv_sub hl [0, 1, 3, 4] rfl) hP hD hS hF
        rw [if_neg h0] at hF
        by_cases h1 : ((f 29) l1.toNatClampNeg) = (1 : Int32)
        · rw [if_pos h1] at hF
          refine lv_tableIn (off := 37) (tgt := 80) hx hb d_Mo_listAll_43 (by rw [h1]; decide) (by rw [h1]; decide) (by rw [h1]; rfl) (by decide) ?_
          refine lv_aload_n hx hb d_Mo_listAll_80 rfl (lv_at hl 0 rfl) ?_
          refine lv_iconst (v := (2 : Int32)) hx hb d_Mo_listAll_81 (by decide) ?_
          refine lv_bipush (v := (6 : Int32)) hx hb d_Mo_listAll_82 (by decide) ?_
          refine lv_iload_n hx hb d_Mo_listAll_84 rfl (lv_at hl 2 rfl) ?_
          refine lv_iload_n hx hb d_Mo_listAll_85 rfl (lv_at hl 1 rfl) ?_
          obtain ⟨z3, hcz3, hF⟩ := dm_bind hF
          refine dm_callVw B [.int (2 : Int32), .int (6 : Int32), .int ((f 30) l1.toNatClampNeg), .int l1] (c_Mo_list l G g (2 : Int32) (6 : Int32) ((f 30) l1.toNatClampNeg) l1 v f z3 hcz3) k_980 k_982 ks_28 k_14 k_983 hd_Mo_list rfl ⟨by decide, by decide⟩ 0 rfl rfl hP hD hS hl.1 (rest := []) rfl (Nat.le_of_ble_eq_true rfl) d_Mo_listAll_86 ⟨by decide, by decide⟩ (fun ov w' H locs hq hP hD hS => ?_)
          obtain ⟨rfl, rfl⟩ := hq
          have hP : va_P G.1 dm_cl (tw G g z3.1 z3.2) H := hP
          have hD : va_D A (tw G g z3.1 z3.2) := hD
          refine W.eq (g2 := F0 m 89 ls []) rfl ?_
          refine lv_aload_n hx hb d_Mo_listAll_89 rfl (lv_at hl 0 rfl) ?_
          refine lv_iconst (v := (2 : Int32)) hx hb d_Mo_listAll_90 (by decide) ?_
          refine lv_aload_n hx hb d_Mo_listAll_91 rfl (lv_at hl 0 rfl) ?_
          refine tw_g_0_29 B hP k_754 d_Mo_listAll_92 ?_
          refine lv_iload_n hx hb d_Mo_listAll_95 rfl (lv_at hl 1 rfl) ?_
          obtain ⟨hi, hF⟩ := dm_chk hF
          refine tw_a_6 (F := (z3.2 29)) B hP rfl hi d_Mo_listAll_96 ?_
          refine lv_if_ne (tgt := 105) hx hb d_Mo_listAll_97 (by decide) (fun (hh : ¬ ((z3.2 29) l1.toNatClampNeg) = (0 : Int32)) => ?_) (fun (hh : ((z3.2 29) l1.toNatClampNeg) = (0 : Int32)) => ?_)
          · rw [if_neg hh] at hF
            refine lv_bipush (v := (10 : Int32)) hx hb d_Mo_listAll_105 (by decide) ?_
            exact K107 ls _ _ l1 ((f 31) l1.toNatClampNeg) ((f 32) l1.toNatClampNeg) (10 : Int32) z3.1 z3.2 (lv_sub hl [0, 1, 3, 4] rfl) hP hD hS hF
          · rw [if_pos hh] at hF
            refine lv_bipush (v := (9 : Int32)) hx hb d_Mo_listAll_100 (by decide) ?_
            refine lv_goto (tgt := 107) hx hb d_Mo_listAll_102 (by decide) ?_
            exact K107 ls _ _ l1 ((f 31) l1.toNatClampNeg) ((f 32) l1.toNatClampNeg) (9 : Int32) z3.1 z3.2 (lv_sub hl [0, 1, 3, 4] rfl) hP hD hS hF
        rw [if_neg h1] at hF
        by_cases h2 : ((f 29) l1.toNatClampNeg) = (2 : Int32)
        · rw [if_pos h2] at hF
          refine lv_tableIn (off := 82) (tgt := 125) hx hb d_Mo_listAll_43 (by rw [h2]; decide) (by rw [h2]; decide) (by rw [h2]; rfl) (by decide) ?_
          refine lv_aload_n hx hb d_Mo_listAll_125 rfl (lv_at hl 0 rfl) ?_
          refine lv_iconst (v := (2 : Int32)) hx hb d_Mo_listAll_126 (by decide) ?_
          refine lv_bipush (v := (6 : Int32)) hx hb d_Mo_listAll_127 (by decide) ?_
          refine lv_iload_n hx hb d_Mo_listAll_129 rfl (lv_at hl 2 rfl) ?_
          refine lv_iload_n hx hb d_Mo_listAll_130 rfl (lv_at hl 1 rfl) ?_
          obtain ⟨z4, hcz4, hF⟩ := dm_bind hF
          refine dm_callVw B [.int (2 : Int32), .int (6 : Int32), .int ((f 30) l1.toNatClampNeg), .int l1] (c_Mo_list l G g (2 : Int32) (6 : Int32) ((f 30) l1.toNatClampNeg) l1 v f z4 hcz4) k_980 k_982 ks_28 k_14 k_983 hd_Mo_list rfl ⟨by decide, by decide⟩ 0 rfl rfl hP hD hS hl.1 (rest := []) rfl (Nat.le_of_ble_eq_true rfl) d_Mo_listAll_131 ⟨by decide, by decide⟩ (fun ov w' H locs hq hP hD hS => ?_)
          obtain ⟨rfl, rfl⟩ := hq
          have hP : va_P G.1 dm_cl (tw G g z4.1 z4.2) H := hP
          have hD : va_D A (tw G g z4.1 z4.2) := hD
          refine W.eq (g2 := F0 m 134 ls []) rfl ?_
          refine lv_aload_n hx hb d_Mo_listAll_134 rfl (lv_at hl 0 rfl) ?_
          refine lv_bipush (v := (6 : Int32)) hx hb d_Mo_listAll_135 (by decide) ?_
          refine lv_iconst (v := (2 : Int32)) hx hb d_Mo_listAll_137 (by decide) ?_
          refine lv_iload hx hb d_Mo_listAll_138 (lv_at hl 4 rfl) ?_
          refine lv_iload_n hx hb d_Mo_listAll_140 rfl (lv_at hl 1 rfl) ?_
          obtain ⟨z5, hcz5, hF⟩ := dm_bind hF
          refine dm_callVw B [.int (6 : Int32), .int (2 : Int32), .int ((f 32) l1.toNatClampNeg), .int l1] (c_Mo_list l G g (6 : Int32) (2 : Int32) ((f 32) l1.toNatClampNeg) l1 z4.1 z4.2 z5 hcz5) k_980 k_982 ks_28 k_14 k_983 hd_Mo_list rfl ⟨by decide, by decide⟩ 0 rfl rfl hP hD hS hl.1 (rest := []) rfl (Nat.le_of_ble_eq_true rfl) d_Mo_listAll_141 ⟨by decide, by decide⟩ (fun ov w' H locs hq hP hD hS => ?_)
          obtain ⟨rfl, rfl⟩ := hq
          have hP : va_P G.1 dm_cl (tw G g z5.1 z5.2) H := hP
          have hD : va_D A (tw G g z5.1 z5.2) := hD
          refine W.eq (g2 := F0 m 144 ls []) rfl ?_
          refine lv_goto (tgt := 208) hx hb d_Mo_listAll_144 (by decide) ?_
          exact K208 ls _ _ l1 z5.1 z5.2 (lv_sub hl [0, 1] rfl) hP hD hS hF
        rw [if_neg h2] at hF
        by_cases h3 : ((f 29) l1.toNatClampNeg) = (3 : Int32)
        · rw [if_pos h3] at hF
          refine lv_tableIn (off := 104) (tgt := 147) hx hb d_Mo_listAll_43 (by rw [h3]; decide) (by rw [h3]; decide) (by rw [h3]; rfl) (by decide) ?_
          refine lv_aload_n hx hb d_Mo_listAll_147 rfl (lv_at hl 0 rfl) ?_
          refine lv_iconst (v := (2 : Int32)) hx hb d_Mo_listAll_148 (by decide) ?_
          refine lv_bipush (v := (15 : Int32)) hx hb d_Mo_listAll_149 (by decide) ?_
          refine lv_iload_n hx hb d_Mo_listAll_151 rfl (lv_at hl 2 rfl) ?_
          refine lv_iload_n hx hb d_Mo_listAll_152 rfl (lv_at hl 1 rfl) ?_
          obtain ⟨z6, hcz6, hF⟩ := dm_bind hF
          refine dm_callVw B [.int (2 : Int32), .int (15 : Int32), .int ((f 30) l1.toNatClampNeg), .int l1] (c_Mo_list l G g (2 : Int32) (15 : Int32) ((f 30) l1.toNatClampNeg) l1 v f z6 hcz6) k_980 k_982 ks_28 k_14 k_983 hd_Mo_list rfl ⟨by decide, by decide⟩ 0 rfl rfl hP hD hS hl.1 (rest := []) rfl (Nat.le_of_ble_eq_true rfl) d_Mo_listAll_153 ⟨by decide, by decide⟩ (fun ov w' H locs hq hP hD hS => ?_)
          obtain ⟨rfl, rfl⟩ := hq
          have hP : va_P G.1 dm_cl (tw G g z6.1 z6.2) H := hP
          have hD : va_D A (tw G g z6.1 z6.2) := hD
          refine W.eq (g2 := F0 m 156 ls []) rfl ?_
          refine lv_goto (tgt := 208) hx hb d_Mo_listAll_156 (by decide) ?_
          exact K208 ls _ _ l1 z6.1 z6.2 (lv_sub hl [0, 1] rfl) hP hD hS hF
        rw [if_neg h3] at hF
        by_cases h4 : ((f 29) l1.toNatClampNeg) = (4 : Int32)
        · rw [if_pos h4] at hF
          refine lv_tableIn (off := 116) (tgt := 159) hx hb d_Mo_listAll_43 (by rw [h4]; decide) (by rw [h4]; decide) (by rw [h4]; rfl) (by decide) ?_
          refine lv_aload_n hx hb d_Mo_listAll_159 rfl (lv_at hl 0 rfl) ?_
          refine lv_iconst (v := (2 : Int32)) hx hb d_Mo_listAll_160 (by decide) ?_
          refine lv_bipush (v := (11 : Int32)) hx hb d_Mo_listAll_161 (by decide) ?_
          refine lv_iload_n hx hb d_Mo_listAll_163 rfl (lv_at hl 2 rfl) ?_
          refine lv_iload_n hx hb d_Mo_listAll_164 rfl (lv_at hl 1 rfl) ?_
          obtain ⟨z7, hcz7, hF⟩ := dm_bind hF
          refine dm_callVw B [.int (2 : Int32), .int (11 : Int32), .int ((f 30) l1.toNatClampNeg), .int l1] (c_Mo_list l G g (2 : Int32) (11 : Int32) ((f 30) l1.toNatClampNeg) l1 v f z7 hcz7) k_980 k_982 ks_28 k_14 k_983 hd_Mo_list rfl ⟨by decide, by decide⟩ 0 rfl rfl hP hD hS hl.1 (rest := []) rfl (Nat.le_of_ble_eq_true rfl) d_Mo_listAll_165 ⟨by decide, by decide⟩ (fun ov w' H locs hq hP hD hS => ?_)
          obtain ⟨rfl, rfl⟩ := hq
          have hP : va_P G.1 dm_cl (tw G g z7.1 z7.2) H := hP
          have hD : va_D A (tw G g z7.1 z7.2) := hD
          refine W.eq (g2 := F0 m 168 ls []) rfl ?_
          refine lv_aload_n hx hb d_Mo_listAll_168 rfl (lv_at hl 0 rfl) ?_
          refine lv_iconst (v := (0 : Int32)) hx hb d_Mo_listAll_169 (by decide) ?_
          refine lv_iconst (v := (0 : Int32)) hx hb d_Mo_listAll_170 (by decide) ?_
          refine lv_iconst (v := (-1 : Int32)) hx hb d_Mo_listAll_171 (by decide) ?_
          refine lv_iload_n hx hb d_Mo_listAll_172 rfl (lv_at hl 1 rfl) ?_
          obtain ⟨z8, hcz8, hF⟩ := dm_bind hF
          refine dm_callVw B [.int (0 : Int32), .int (0 : Int32), .int (-1 : Int32), .int l1] (c_Mo_list l G g (0 : Int32) (0 : Int32) (-1 : Int32) l1 z7.1 z7.2 z8 hcz8) k_980 k_982 ks_28 k_14 k_983 hd_Mo_list rfl ⟨by decide, by decide⟩ 0 rfl rfl hP hD hS hl.1 (rest := []) rfl (Nat.le_of_ble_eq_true rfl) d_Mo_listAll_173 ⟨by decide, by decide⟩ (fun ov w' H locs hq hP hD hS => ?_)
          obtain ⟨rfl, rfl⟩ := hq
          have hP : va_P G.1 dm_cl (tw G g z8.1 z8.2) H := hP
          have hD : va_D A (tw G g z8.1 z8.2) := hD
          refine W.eq (g2 := F0 m 176 ls []) rfl ?_
          refine lv_aload_n hx hb d_Mo_listAll_176 rfl (lv_at hl 0 rfl) ?_
          refine lv_iconst (v := (0 : Int32)) hx hb d_Mo_listAll_177 (by decide) ?_
          refine lv_iconst (v := (0 : Int32)) hx hb d_Mo_listAll_178 (by decide) ?_
          refine lv_iconst (v := (-1 : Int32)) hx hb d_Mo_listAll_179 (by decide) ?_
          refine lv_iload_n hx hb d_Mo_listAll_180 rfl (lv_at hl 1 rfl) ?_
          obtain ⟨z9, hcz9, hF⟩ := dm_bind hF
          refine dm_callVw B [.int (0 : Int32), .int (0 : Int32), .int (-1 : Int32), .int l1] (c_Mo_list l G g (0 : Int32) (0 : Int32) (-1 : Int32) l1 z8.1 z8.2 z9 hcz9) k_980 k_982 ks_28 k_14 k_983 hd_Mo_list rfl ⟨by decide, by decide⟩ 0 rfl rfl hP hD hS hl.1 (rest := []) rfl (Nat.le_of_ble_eq_true rfl) d_Mo_listAll_181 ⟨by decide, by decide⟩ (fun ov w' H locs hq hP hD hS => ?_)
          obtain ⟨rfl, rfl⟩ := hq
          have hP : va_P G.1 dm_cl (tw G g z9.1 z9.2) H := hP
          have hD : va_D A (tw G g z9.1 z9.2) := hD
          refine W.eq (g2 := F0 m 184 ls []) rfl ?_
          refine lv_goto (tgt := 208) hx hb d_Mo_listAll_184 (by decide) ?_
          exact K208 ls _ _ l1 z9.1 z9.2 (lv_sub hl [0, 1] rfl) hP hD hS hF
        rw [if_neg h4] at hF
        by_cases h5 : ((f 29) l1.toNatClampNeg) = (5 : Int32)
        · rw [if_pos h5] at hF
          refine lv_tableIn (off := 144) (tgt := 187) hx hb d_Mo_listAll_43 (by rw [h5]; decide) (by rw [h5]; decide) (by rw [h5]; rfl) (by decide) ?_
          refine lv_aload_n hx hb d_Mo_listAll_187 rfl (lv_at hl 0 rfl) ?_
          refine lv_bipush (v := (13 : Int32)) hx hb d_Mo_listAll_188 (by decide) ?_
          refine lv_iconst (v := (2 : Int32)) hx hb d_Mo_listAll_190 (by decide) ?_
          refine lv_iload hx hb d_Mo_listAll_191 (lv_at hl 4 rfl) ?_
          refine lv_iload_n hx hb d_Mo_listAll_193 rfl (lv_at hl 1 rfl) ?_
          obtain ⟨z10, hcz10, hF⟩ := dm_bind hF
          refine dm_callVw B [.int (13 : Int32), .int (2 : Int32), .int ((f 32) l1.toNatClampNeg), .int l1] (c_Mo_list l G g (13 : Int32) (2 : Int32) ((f 32) l1.toNatClampNeg) l1 v f z10 hcz10) k_980 k_982 ks_28 k_14 k_983 hd_Mo_list rfl ⟨by decide, by decide⟩ 0 rfl rfl hP hD hS hl.1 (rest := []) rfl (Nat.le_of_ble_eq_true rfl) d_Mo_listAll_194 ⟨by decide, by decide⟩ (fun ov w' H locs hq hP hD hS => ?_)
          obtain ⟨rfl, rfl⟩ := hq
          have hP : va_P G.1 dm_cl (tw G g z10.1 z10.2) H := hP
          have hD : va_D A (tw G g z10.1 z10.2) := hD
          refine W.eq (g2 := F0 m 197 ls []) rfl ?_
          refine lv_goto (tgt := 208) hx hb d_Mo_listAll_197 (by decide) ?_
          exact K208 ls _ _ l1 z10.1 z10.2 (lv_sub hl [0, 1] rfl) hP hD hS hF
        rw [if_neg h5] at hF
        have e0 := lv_neT (a := 0) h0 (by decide)
        have e1 := lv_neT (a := 1) h1 (by decide)
        have e2 := lv_neT (a := 2) h2 (by decide)
        have e3 := lv_neT (a := 3) h3 (by decide)
        have e4 := lv_neT (a := 4) h4 (by decide)
        have e5 := lv_neT (a := 5) h5 (by decide)
        refine lv_tableOut (tgt := 200) hx hb d_Mo_listAll_43 (by omega) (by decide) ?_
        refine lv_aload_n hx hb d_Mo_listAll_200 rfl (lv_at hl 0 rfl) ?_
        refine lv_iconst (v := (0 : Int32)) hx hb d_Mo_listAll_201 (by decide) ?_
        refine lv_iconst (v := (1 : Int32)) hx hb d_Mo_listAll_202 (by decide) ?_
        refine lv_iconst (v := (-1 : Int32)) hx hb d_Mo_listAll_203 (by decide) ?_
        refine lv_iload_n hx hb d_Mo_listAll_204 rfl (lv_at hl 1 rfl) ?_
        obtain ⟨z11, hcz11, hF⟩ := dm_bind hF
        refine dm_callVw B [.int (0 : Int32), .int (1 : Int32), .int (-1 : Int32), .int l1] (c_Mo_list l G g (0 : Int32) (1 : Int32) (-1 : Int32) l1 v f z11 hcz11) k_980 k_982 ks_28 k_14 k_983 hd_Mo_list rfl ⟨by decide, by decide⟩ 0 rfl rfl hP hD hS hl.1 (rest := []) rfl (Nat.le_of_ble_eq_true rfl) d_Mo_listAll_205 ⟨by decide, by decide⟩ (fun ov w' H locs hq hP hD hS => ?_)
        obtain ⟨rfl, rfl⟩ := hq
        have hP : va_P G.1 dm_cl (tw G g z11.1 z11.2) H := hP
        have hD : va_D A (tw G g z11.1 z11.2) := hD
        refine W.eq (g2 := F0 m 208 ls []) rfl ?_
        exact K208 ls _ _ l1 z11.1 z11.2 (lv_sub hl [0, 1] rfl) hP hD hS hF
  have hF : (F_Mo_listAll_7  100 (0 : Int32) (va_up v 34 (0 : Int32)) f) = some RES := hF
  refine lv_aload_n hx hb d_Mo_listAll_0 rfl (lv_at hl 0 rfl) ?_
  refine lv_iconst (v := (0 : Int32)) hx hb d_Mo_listAll_1 (by decide) ?_
  refine tw_p_0_34 (x := (0 : Int32)) B hP hD hS k_759 d_Mo_listAll_2 (fun H locs hP hD hS => ?_)
  refine lv_iconst (v := (0 : Int32)) hx hb d_Mo_listAll_5 (by decide) ?_
  refine lv_istore_n (lv' := [(1, .int (0 : Int32)), (0, .ref (g 0))]) hx hb d_Mo_listAll_6 rfl hl (Nat.le_of_ble_eq_true rfl) rfl (fun ls hl => ?_)
  have hl : lv_has ls 5 [(0, .ref (g 0)), (1, .int (0 : Int32))] := lv_sub hl [1, 0] rfl
  exact K7 100 ls _ _ (0 : Int32) (va_up v 34 (0 : Int32)) f (lv_sub hl [0, 1] rfl) hP hD hS hF
abbrev b_Mo_free : ByteArray := prog_16_method_31_code
abbrev y_Mo_free : MethodName := { cls := "DelayMachineModel", name := "free", desc := "(IZ)I" }
theorem d_Mo_free_0 : decode b_Mo_free 0 = .ok (.iconst 0, 1) := by decide +kernel
theorem d_Mo_free_1 : decode b_Mo_free 1 = .ok (.istore_n 3, 1) := by decide +kernel
theorem d_Mo_free_2 : decode b_Mo_free 2 = .ok (.iload_n 3, 1) := by decide +kernel
theorem d_Mo_free_3 : decode b_Mo_free 3 = .ok (.iload_n 2, 1) := by decide +kernel
theorem d_Mo_free_4 : decode b_Mo_free 4 = .ok (.ifCond .eq (8), 3) := by decide +kernel
theorem d_Mo_free_7 : decode b_Mo_free 7 = .ok (.bipush (31), 2) := by decide +kernel
theorem d_Mo_free_9 : decode b_Mo_free 9 = .ok (.goto (5), 3) := by decide +kernel
theorem d_Mo_free_12 : decode b_Mo_free 12 = .ok (.bipush (32), 2) := by decide +kernel
theorem d_Mo_free_14 : decode b_Mo_free 14 = .ok (.if_icmp .ge (90), 3) := by decide +kernel
theorem d_Mo_free_17 : decode b_Mo_free 17 = .ok (.iload_n 1, 1) := by decide +kernel
theorem d_Mo_free_18 : decode b_Mo_free 18 = .ok (.iload_n 3, 1) := by decide +kernel
theorem d_Mo_free_19 : decode b_Mo_free 19 = .ok (.iadd, 1) := by decide +kernel
theorem d_Mo_free_20 : decode b_Mo_free 20 = .ok (.bipush (31), 2) := by decide +kernel
theorem d_Mo_free_22 : decode b_Mo_free 22 = .ok (.iand, 1) := by decide +kernel
theorem d_Mo_free_23 : decode b_Mo_free 23 = .ok (.istore 4, 2) := by decide +kernel
theorem d_Mo_free_25 : decode b_Mo_free 25 = .ok (.iload_n 2, 1) := by decide +kernel
theorem d_Mo_free_26 : decode b_Mo_free 26 = .ok (.ifCond .eq (13), 3) := by decide +kernel
theorem d_Mo_free_29 : decode b_Mo_free 29 = .ok (.iload 4, 2) := by decide +kernel
theorem d_Mo_free_31 : decode b_Mo_free 31 = .ok (.iconst 1, 1) := by decide +kernel
theorem d_Mo_free_32 : decode b_Mo_free 32 = .ok (.iadd, 1) := by decide +kernel
theorem d_Mo_free_33 : decode b_Mo_free 33 = .ok (.bipush (31), 2) := by decide +kernel
theorem d_Mo_free_35 : decode b_Mo_free 35 = .ok (.iand, 1) := by decide +kernel
theorem d_Mo_free_36 : decode b_Mo_free 36 = .ok (.goto (5), 3) := by decide +kernel
theorem d_Mo_free_39 : decode b_Mo_free 39 = .ok (.iload 4, 2) := by decide +kernel
theorem d_Mo_free_41 : decode b_Mo_free 41 = .ok (.istore 5, 2) := by decide +kernel
theorem d_Mo_free_43 : decode b_Mo_free 43 = .ok (.aload_n 0, 1) := by decide +kernel
theorem d_Mo_free_44 : decode b_Mo_free 44 = .ok (.getfield 66, 3) := by decide +kernel
theorem d_Mo_free_47 : decode b_Mo_free 47 = .ok (.iload 4, 2) := by decide +kernel
theorem d_Mo_free_49 : decode b_Mo_free 49 = .ok (.baload, 1) := by decide +kernel
theorem d_Mo_free_50 : decode b_Mo_free 50 = .ok (.ifCond .ne (16), 3) := by decide +kernel
theorem d_Mo_free_53 : decode b_Mo_free 53 = .ok (.aload_n 0, 1) := by decide +kernel
theorem d_Mo_free_54 : decode b_Mo_free 54 = .ok (.getfield 66, 3) := by decide +kernel
theorem d_Mo_free_57 : decode b_Mo_free 57 = .ok (.iload 5, 2) := by decide +kernel
theorem d_Mo_free_59 : decode b_Mo_free 59 = .ok (.baload, 1) := by decide +kernel
theorem d_Mo_free_60 : decode b_Mo_free 60 = .ok (.ifCond .ne (6), 3) := by decide +kernel
theorem d_Mo_free_63 : decode b_Mo_free 63 = .ok (.iload 4, 2) := by decide +kernel
theorem d_Mo_free_65 : decode b_Mo_free 65 = .ok (.ireturn, 1) := by decide +kernel
theorem d_Mo_free_66 : decode b_Mo_free 66 = .ok (.aload_n 0, 1) := by decide +kernel
theorem d_Mo_free_67 : decode b_Mo_free 67 = .ok (.getfield 66, 3) := by decide +kernel
theorem d_Mo_free_70 : decode b_Mo_free 70 = .ok (.bipush (32), 2) := by decide +kernel
theorem d_Mo_free_72 : decode b_Mo_free 72 = .ok (.iload 4, 2) := by decide +kernel
theorem d_Mo_free_74 : decode b_Mo_free 74 = .ok (.iadd, 1) := by decide +kernel
theorem d_Mo_free_75 : decode b_Mo_free 75 = .ok (.baload, 1) := by decide +kernel
theorem d_Mo_free_76 : decode b_Mo_free 76 = .ok (.ifCond .ne (22), 3) := by decide +kernel
theorem d_Mo_free_79 : decode b_Mo_free 79 = .ok (.aload_n 0, 1) := by decide +kernel
theorem d_Mo_free_80 : decode b_Mo_free 80 = .ok (.getfield 66, 3) := by decide +kernel
theorem d_Mo_free_83 : decode b_Mo_free 83 = .ok (.bipush (32), 2) := by decide +kernel
theorem d_Mo_free_85 : decode b_Mo_free 85 = .ok (.iload 5, 2) := by decide +kernel
theorem d_Mo_free_87 : decode b_Mo_free 87 = .ok (.iadd, 1) := by decide +kernel
theorem d_Mo_free_88 : decode b_Mo_free 88 = .ok (.baload, 1) := by decide +kernel
theorem d_Mo_free_89 : decode b_Mo_free 89 = .ok (.ifCond .ne (9), 3) := by decide +kernel
theorem d_Mo_free_92 : decode b_Mo_free 92 = .ok (.bipush (32), 2) := by decide +kernel
theorem d_Mo_free_94 : decode b_Mo_free 94 = .ok (.iload 4, 2) := by decide +kernel
theorem d_Mo_free_96 : decode b_Mo_free 96 = .ok (.iadd, 1) := by decide +kernel
theorem d_Mo_free_97 : decode b_Mo_free 97 = .ok (.ireturn, 1) := by decide +kernel
theorem d_Mo_free_98 : decode b_Mo_free 98 = .ok (.iinc 3 (1), 3) := by decide +kernel
theorem d_Mo_free_101 : decode b_Mo_free 101 = .ok (.goto (-99), 3) := by decide +kernel
theorem d_Mo_free_104 : decode b_Mo_free 104 = .ok (.iconst (-1), 1) := by decide +kernel
theorem d_Mo_free_105 : decode b_Mo_free 105 = .ok (.ireturn, 1) := by decide +kernel
theorem hd_Mo_free : y_Mo_free.cls ≠ "java/lang/invoke/MethodHandle" ∧ y_Mo_free.cls ≠ "java/lang/invoke/VarHandle" ∧ (parseMethodDescriptor y_Mo_free.desc).map (fun d => d.parameters.length) = some 2 := by decide +kernel
abbrev rm_Mo_free : Room := { frames := 0, cells := 0, slots := 0, locals := 0 }
def F_Mo_free_98 (x1 x2 : Int32) (v : Nat → Int32) (f : Nat → Nat → Int32) (k2 : Int32 → Option (Int32)) (l3 : Int32)  : Option (Int32) := (k2 (l3 + (1 : Int32)))
def F_Mo_free_66 (x1 x2 : Int32) (v : Nat → Int32) (f : Nat → Nat → Int32) (k2 : Int32 → Option (Int32)) (l3 : Int32) (l4 : Int32) (l5 : Int32)  : Option (Int32) := (if ((32 : Int32) + l4) < 0 ∨ 64 ≤ ((32 : Int32) + l4).toNatClampNeg then none else (if ((f 41) ((32 : Int32) + l4).toNatClampNeg) = (0 : Int32) then (if ((32 : Int32) + l5) < 0 ∨ 64 ≤ ((32 : Int32) + l5).toNatClampNeg then none else (if ((f 41) ((32 : Int32) + l5).toNatClampNeg) = (0 : Int32) then (some ((32 : Int32) + l4)) else (F_Mo_free_98 x1 x2 v f (k2) l3))) else (F_Mo_free_98 x1 x2 v f (k2) l3)))
def F_Mo_free_41 (x1 x2 : Int32) (v : Nat → Int32) (f : Nat → Nat → Int32) (k2 : Int32 → Option (Int32)) (l3 : Int32) (l4 : Int32) (s0 : Int32)  : Option (Int32) := (if l4 < 0 ∨ 64 ≤ l4.toNatClampNeg then none else (if ((f 41) l4.toNatClampNeg) = (0 : Int32) then (if s0 < 0 ∨ 64 ≤ s0.toNatClampNeg then none else (if ((f 41) s0.toNatClampNeg) = (0 : Int32) then (some l4) else (F_Mo_free_66 x1 x2 v f (k2) l3 l4 s0))) else (F_Mo_free_66 x1 x2 v f (k2) l3 l4 s0)))
def F_Mo_free_14 (x1 x2 : Int32) (v : Nat → Int32) (f : Nat → Nat → Int32) (k2 : Int32 → Option (Int32)) (l3 : Int32) (s0 : Int32) (s1 : Int32)  : Option (Int32) := (if s1 ≤ s0 then (some (-1 : Int32)) else (if x2 = (0 : Int32) then (F_Mo_free_41 x1 x2 v f (k2) l3 ((x1 + l3) &&& (31 : Int32)) ((x1 + l3) &&& (31 : Int32))) else (F_Mo_free_41 x1 x2 v f (k2) l3 ((x1 + l3) &&& (31 : Int32)) ((((x1 + l3) &&& (31 : Int32)) + (1 : Int32)) &&& (31 : Int32)))))
def F_Mo_free_2 (x1 x2 : Int32) (v : Nat → Int32) (f : Nat → Nat → Int32)  : Nat → Int32 → Option (Int32)
  | 0, _ => none
  | n + 1, l3 => (if x2 = (0 : Int32) then (F_Mo_free_14 x1 x2 v f (F_Mo_free_2 x1 x2 v f n) l3 l3 (32 : Int32)) else (F_Mo_free_14 x1 x2 v f (F_Mo_free_2 x1 x2 v f n) l3 l3 (31 : Int32)))
def F_Mo_free (x1 x2 : Int32) (v : Nat → Int32) (f : Nat → Nat → Int32)  : Option (Int32) := (F_Mo_free_2 x1 x2 v f 100 (0 : Int32))
set_option maxHeartbeats 4000000 in
set_option maxRecDepth 100000 in
theorem c_Mo_free (l : Launch) (G : dm_G) (g : Nat → Nat) (x1 x2 : Int32) (v : Nat → Int32) (f : Nat → Nat → Int32) (RES : Int32) (hF : F_Mo_free x1 x2 v f = some RES) : dm_Ct l y_Mo_free b_Mo_free 6 (some .int) rm_Mo_free G (tw G g v f) [.ref (g 0), .int x1, .int x2] (fun ov w' => ov = some (.int RES) ∧ w' = (tw G g v f)) := by
  refine dm_Ct.of (by decide +kernel) (Nat.le_of_ble_eq_true rfl) ?_
  intro p e s m below meth c A ls B hl hP hD hS
  have hx := B.1
  have hb := B.2.1
  have hl : lv_has ls 6 [(0, .ref (g 0)), (1, .int x1), (2, .int x2)] := hl
  have K2 : ∀ (n2 : Nat) (ls : Array Slot) (H : Heap) (locs : List Loc) (l3 : Int32) , lv_has ls 6 [(0, .ref (g 0)), (1, .int x1), (2, .int x2), (3, .int l3)] → va_P G.1 dm_cl (tw G g v f) H → va_D A (tw G g v f) → va_S A s.heap H locs → F_Mo_free_2 x1 x2 v f n2 l3  = some RES → W p l e rm_Mo_free s m ([.ref (g 0), .int x1, .int x2] : List Value).toArray below meth c H locs 0 0 (dm_Z below G s ([.ref (g 0), .int x1, .int x2] : List Value).toArray A rm_Mo_free.cells rm_Mo_free.slots (fun ov w' => ov = some (.int RES) ∧ w' = (tw G g v f))) (F0 m 2 ls []) := by
    intro n2
    induction n2 with
    | zero => intro ls H locs l3 hl hP hD hS hF; cases hF
    | succ n2 ih2 =>
      have K98 : ∀ (ls : Array Slot) (H : Heap) (locs : List Loc) (l3 : Int32) , lv_has ls 6 [(0, .ref (g 0)), (1, .int x1), (2, .int x2), (3, .int l3)] → va_P G.1 dm_cl (tw G g v f) H → va_D A (tw G g v f) → va_S A s.heap H locs → F_Mo_free_98 x1 x2 v f (F_Mo_free_2 x1 x2 v f n2) l3  = some RES → W p l e rm_Mo_free s m ([.ref (g 0), .int x1, .int x2] : List Value).toArray below meth c H locs 0 0 (dm_Z below G s ([.ref (g 0), .int x1, .int x2] : List Value).toArray A rm_Mo_free.cells rm_Mo_free.slots (fun ov w' => ov = some (.int RES) ∧ w' = (tw G g v f))) (F0 m 98 ls []) := by
        intro ls H locs l3 hl hP hD hS hF
        have hF : ((F_Mo_free_2 x1 x2 v f n2) (l3 + (1 : Int32))) = some RES := hF
        refine lv_iinc (k := 3) (v := (l3 + (1 : Int32))) (lv' := [(3, .int (l3 + (1 : Int32))), (0, .ref (g 0)), (1, .int x1), (2, .int x2)]) hx hb d_Mo_free_98 hl rfl (congrArg (fun q => l3 + q) (by decide)) (Nat.le_of_ble_eq_true rfl) rfl (fun ls hl => ?_)
        have hl : lv_has ls 6 [(0, .ref (g 0)), (1, .int x1), (2, .int x2), (3, .int (l3 + (1 : Int32)))] := lv_sub hl [1, 2, 3, 0] rfl
        refine lv_goto (tgt := 2) hx hb d_Mo_free_101 (by decide) ?_
        exact ih2 ls _ _ (l3 + (1 : Int32)) (lv_sub hl [0, 1, 2, 3] rfl) hP hD hS hF
      have K66 : ∀ (ls : Array Slot) (H : Heap) (locs : List Loc) (l3 : Int32) (l4 : Int32) (l5 : Int32) , lv_has ls 6 [(0, .ref (g 0)), (1, .int x1), (2, .int x2), (3, .int l3), (4, .int l4), (5, .int l5)] → va_P G.1 dm_cl (tw G g v f) H → va_D A (tw G g v f) → va_S A s.heap H locs → F_Mo_free_66 x1 x2 v f (F_Mo_free_2 x1 x2 v f n2) l3 l4 l5  = some RES → W p l e rm_Mo_free s m ([.ref (g 0), .int x1, .int x2] : List Value).toArray below meth c H locs 0 0 (dm_Z below G s ([.ref (g 0), .int x1, .int x2] : List Value).toArray A rm_Mo_free.cells rm_Mo_free.slots (fun ov w' => ov = some (.int RES) ∧ w' = (tw G g v f))) (F0 m 66 ls []) := by
        intro ls H locs l3 l4 l5 hl hP hD hS hF
        have hF : (if ((32 : Int32) + l4) < 0 ∨ 64 ≤ ((32 : Int32) + l4).toNatClampNeg then none else (if ((f 41) ((32 : Int32) + l4).toNatClampNeg) = (0 : Int32) then (if ((32 : Int32) + l5) < 0 ∨ 64 ≤ ((32 : Int32) + l5).toNatClampNeg then none else (if ((f 41) ((32 : Int32) + l5).toNatClampNeg) = (0 : Int32) then (some ((32 : Int32) + l4)) else (F_Mo_free_98 x1 x2 v f ((F_Mo_free_2 x1 x2 v f n2)) l3))) else (F_Mo_free_98 x1 x2 v f ((F_Mo_free_2 x1 x2 v f n2)) l3))) = some RES := hF
        refine lv_aload_n hx hb d_Mo_free_66 rfl (lv_at hl 0 rfl) ?_
        refine tw_g_0_41 B hP k_766 d_Mo_free_67 ?_
        refine lv_bipush (v := (32 : Int32)) hx hb d_Mo_free_70 (by decide) ?_
        refine lv_iload hx hb d_Mo_free_72 (lv_at hl 4 rfl) ?_
        refine lv_iadd hx hb d_Mo_free_74 ?_
        obtain ⟨hi, hF⟩ := dm_chk hF
        refine tw_a_17 (F := (f 41)) B hP rfl hi d_Mo_free_75 ?_
        refine lv_if_ne (tgt := 98) hx hb d_Mo_free_76 (by decide) (fun (hh : ¬ ((f 41) ((32 : Int32) + l4).toNatClampNeg) = (0 : Int32)) => ?_) (fun (hh : ((f 41) ((32 : Int32) + l4).toNatClampNeg) = (0 : Int32)) => ?_)
        · rw [if_neg hh] at hF
          exact K98 ls _ _ l3 (lv_sub hl [0, 1, 2, 3] rfl) hP hD hS hF
        · rw [if_pos hh] at hF
          refine lv_aload_n hx hb d_Mo_free_79 rfl (lv_at hl 0 rfl) ?_
          refine tw_g_0_41 B hP k_766 d_Mo_free_80 ?_
          refine lv_bipush (v := (32 : Int32)) hx hb d_Mo_free_83 (by decide) ?_
          refine lv_iload hx hb d_Mo_free_85 (lv_at hl 5 rfl) ?_
          refine lv_iadd hx hb d_Mo_free_87 ?_
          obtain ⟨hi, hF⟩ := dm_chk hF
          refine tw_a_17 (F := (f 41)) B hP rfl hi d_Mo_free_88 ?_
          refine lv_if_ne (tgt := 98) hx hb d_Mo_free_89 (by decide) (fun (hh : ¬ ((f 41) ((32 : Int32) + l5).toNatClampNeg) = (0 : Int32)) => ?_) (fun (hh : ((f 41) ((32 : Int32) + l5).toNatClampNeg) = (0 : Int32)) => ?_)
          · rw [if_neg hh] at hF
            exact K98 ls _ _ l3 (lv_sub hl [0, 1, 2, 3] rfl) hP hD hS hF
          · rw [if_pos hh] at hF
            refine lv_bipush (v := (32 : Int32)) hx hb d_Mo_free_92 (by decide) ?_
            refine lv_iload hx hb d_Mo_free_94 (lv_at hl 4 rfl) ?_
            refine lv_iadd hx hb d_Mo_free_96 ?_
            have hF := Option.some.inj hF
            subst hF
            exact dm_ret B rfl d_Mo_free_97 (by decide) (by decide) hP hD hS ⟨rfl, rfl⟩
      have K41 : ∀ (ls : Array Slot) (H : Heap) (locs : List Loc) (l3 : Int32) (l4 : Int32) (s0 : Int32) , lv_has ls 6 [(0, .ref (g 0)), (1, .int x1), (2, .int x2), (3, .int l3), (4, .int l4)] → va_P G.1 dm_cl (tw G g v f) H → va_D A (tw G g v f) → va_S A s.heap H locs → F_Mo_free_41 x1 x2 v f (F_Mo_free_2 x1 x2 v f n2) l3 l4 s0  = some RES → W p l e rm_Mo_free s m ([.ref (g 0), .int x1, .int x2] : List Value).toArray below meth c H locs 0 0 (dm_Z below G s ([.ref (g 0), .int x1, .int x2] : List Value).toArray A rm_Mo_free.cells rm_Mo_free.slots (fun ov w' => ov = some (.int RES) ∧ w' = (tw G g v f))) (F0 m 41 ls [.int s0]) := by
        intro ls H locs l3 l4 s0 hl hP hD hS hF
        have hF : (if l4 < 0 ∨ 64 ≤ l4.toNatClampNeg then none else (if ((f 41) l4.toNatClampNeg) = (0 : Int32) then (if s0 < 0 ∨ 64 ≤ s0.toNatClampNeg then none else (if ((f 41) s0.toNatClampNeg) = (0 : Int32) then (some l4) else (F_Mo_free_66 x1 x2 v f ((F_Mo_free_2 x1 x2 v f n2)) l3 l4 s0))) else (F_Mo_free_66 x1 x2 v f ((F_Mo_free_2 x1 x2 v f n2)) l3 l4 s0))) = some RES := hF
        refine lv_istore (lv' := [(5, .int s0), (0, .ref (g 0)), (1, .int x1), (2, .int x2), (3, .int l3), (4, .int l4)]) hx hb d_Mo_free_41 hl (Nat.le_of_ble_eq_true rfl) rfl (fun ls hl => ?_)
        have hl : lv_has ls 6 [(0, .ref (g 0)), (1, .int x1), (2, .int x2), (3, .int l3), (4, .int l4), (5, .int s0)] := lv_sub hl [1, 2, 3, 4, 5, 0] rfl
        refine lv_aload_n hx hb d_Mo_free_43 rfl (lv_at hl 0 rfl) ?_
        refine tw_g_0_41 B hP k_766 d_Mo_free_44 ?_
        refine lv_iload hx hb d_Mo_free_47 (lv_at hl 4 rfl) ?_
        obtain ⟨hi, hF⟩ := dm_chk hF
        refine tw_a_17 (F := (f 41)) B hP rfl hi d_Mo_free_49 ?_
        refine lv_if_ne (tgt := 66) hx hb d_Mo_free_50 (by decide) (fun (hh : ¬ ((f 41) l4.toNatClampNeg) = (0 : Int32)) => ?_) (fun (hh : ((f 41) l4.toNatClampNeg) = (0 : Int32)) => ?_)
        · rw [if_neg hh] at hF
          exact K66 ls _ _ l3 l4 s0 (lv_sub hl [0, 1, 2, 3, 4, 5] rfl) hP hD hS hF
        · rw [if_pos hh] at hF
          refine lv_aload_n hx hb d_Mo_free_53 rfl (lv_at hl 0 rfl) ?_
          refine tw_g_0_41 B hP k_766 d_Mo_free_54 ?_
          refine lv_iload hx hb d_Mo_free_57 (lv_at hl 5 rfl) ?_
          obtain ⟨hi, hF⟩ := dm_chk hF
          refine tw_a_17 (F := (f 41)) B hP rfl hi d_Mo_free_59 ?_
          refine lv_if_ne (tgt := 66) hx hb d_Mo_free_60 (by decide) (fun (hh : ¬ ((f 41) s0.toNatClampNeg) = (0 : Int32)) => ?_) (fun (hh : ((f 41) s0.toNatClampNeg) = (0 : Int32)) => ?_)
          · rw [if_neg hh] at hF
            exact K66 ls _ _ l3 l4 s0 (lv_sub hl [0, 1, 2, 3, 4, 5] rfl) hP hD hS hF
          · rw [if_pos hh] at hF
            refine lv_iload hx hb d_Mo_free_63 (lv_at hl 4 rfl) ?_
            have hF := Option.some.inj hF
            subst hF
            exact dm_ret B rfl d_Mo_free_65 (by decide) (by decide) hP hD hS ⟨rfl, rfl⟩
      have K14 : ∀ (ls : Array Slot) (H : Heap) (locs : List Loc) (l3 : Int32) (s0 : Int32) (s1 : Int32) , lv_has ls 6 [(0, .ref (g 0)), (1, .int x1), (2, .int x2), (3, .int l3)] → va_P G.1 dm_cl (tw G g v f) H → va_D A (tw G g v f) → va_S A s.heap H locs → F_Mo_free_14 x1 x2 v f (F_Mo_free_2 x1 x2 v f n2) l3 s0 s1  = some RES → W p l e rm_Mo_free s m ([.ref (g 0), .int x1, .int x2] : List Value).toArray below meth c H locs 0 0 (dm_Z below G s ([.ref (g 0), .int x1, .int x2] : List Value).toArray A rm_Mo_free.cells rm_Mo_free.slots (fun ov w' => ov = some (.int RES) ∧ w' = (tw G g v f))) (F0 m 14 ls [.int s1, .int s0]) := by
        intro ls H locs l3 s0 s1 hl hP hD hS hF
        have hF : (if s1 ≤ s0 then (some (-1 : Int32)) else (if x2 = (0 : Int32) then (F_Mo_free_41 x1 x2 v f ((F_Mo_free_2 x1 x2 v f n2)) l3 ((x1 + l3) &&& (31 : Int32)) ((x1 + l3) &&& (31 : Int32))) else (F_Mo_free_41 x1 x2 v f ((F_Mo_free_2 x1 x2 v f n2)) l3 ((x1 + l3) &&& (31 : Int32)) ((((x1 + l3) &&& (31 : Int32)) + (1 : Int32)) &&& (31 : Int32))))) = some RES := hF
        refine lv_icmp_ge (tgt := 104) hx hb d_Mo_free_14 (by decide) (fun (hh : s1 ≤ s0) => ?_) (fun (hh : ¬ s1 ≤ s0) => ?_)
        · rw [if_pos hh] at hF
          refine lv_iconst (v := (-1 : Int32)) hx hb d_Mo_free_104 (by decide) ?_
          have hF := Option.some.inj hF
          subst hF
          exact dm_ret B rfl d_Mo_free_105 (by decide) (by decide) hP hD hS ⟨rfl, rfl⟩
        · rw [if_neg hh] at hF
          refine lv_iload_n hx hb d_Mo_free_17 rfl (lv_at hl 1 rfl) ?_
          refine lv_iload_n hx hb d_Mo_free_18 rfl (lv_at hl 3 rfl) ?_
          refine lv_iadd hx hb d_Mo_free_19 ?_
          refine lv_bipush (v := (31 : Int32)) hx hb d_Mo_free_20 (by decide) ?_
          refine lv_iand hx hb d_Mo_free_22 ?_
          refine lv_istore (lv' := [(4, .int ((x1 + l3) &&& (31 : Int32))), (0, .ref (g 0)), (1, .int x1), (2, .int x2), (3, .int l3)]) hx hb d_Mo_free_23 hl (Nat.le_of_ble_eq_true rfl) rfl (fun ls hl => ?_)
          have hl : lv_has ls 6 [(0, .ref (g 0)), (1, .int x1), (2, .int x2), (3, .int l3), (4, .int ((x1 + l3) &&& (31 : Int32)))] := lv_sub hl [1, 2, 3, 4, 0] rfl
          refine lv_iload_n hx hb d_Mo_free_25 rfl (lv_at hl 2 rfl) ?_
          refine lv_if_eq (tgt := 39) hx hb d_Mo_free_26 (by decide) (fun (hh : x2 = (0 : Int32)) => ?_) (fun (hh : ¬ x2 = (0 : Int32)) => ?_)
          · rw [if_pos hh] at hF
            refine lv_iload hx hb d_Mo_free_39 (lv_at hl 4 rfl) ?_
            exact K41 ls _ _ l3 ((x1 + l3) &&& (31 : Int32)) ((x1 + l3) &&& (31 : Int32)) (lv_sub hl [0, 1, 2, 3, 4] rfl) hP hD hS hF
          · rw [if_neg hh] at hF
            refine lv_iload hx hb d_Mo_free_29 (lv_at hl 4 rfl) ?_
            refine lv_iconst (v := (1 : Int32)) hx hb d_Mo_free_31 (by decide) ?_
            refine lv_iadd hx hb d_Mo_free_32 ?_
            refine lv_bipush (v := (31 : Int32)) hx hb d_Mo_free_33 (by decide) ?_
            refine lv_iand hx hb d_Mo_free_35 ?_
            refine lv_goto (tgt := 41) hx hb d_Mo_free_36 (by decide) ?_
            exact K41 ls _ _ l3 ((x1 + l3) &&& (31 : Int32)) ((((x1 + l3) &&& (31 : Int32)) + (1 : Int32)) &&& (31 : Int32)) (lv_sub hl [0, 1, 2, 3, 4] rfl) hP hD hS hF
      intro ls H locs l3 hl hP hD hS hF
      have hF : (if x2 = (0 : Int32) then (F_Mo_free_14 x1 x2 v f (F_Mo_free_2 x1 x2 v f n2) l3 l3 (32 : Int32)) else (F_Mo_free_14 x1 x2 v f (F_Mo_free_2 x1 x2 v f n2) l3 l3 (31 : Int32))) = some RES := hF
      refine lv_iload_n hx hb d_Mo_free_2 rfl (lv_at hl 3 rfl) ?_
      refine lv_iload_n hx hb d_Mo_free_3 rfl (lv_at hl 2 rfl) ?_
      refine lv_if_eq (tgt := 12) hx hb d_Mo_free_4 (by decide) (fun (hh : x2 = (0 : Int32)) => ?_) (fun (hh : ¬ x2 = (0 : Int32)) => ?_)
      · rw [if_pos hh] at hF
        refine lv_bipush (v := (32 : Int32)) hx hb d_Mo_free_12 (by decide) ?_
        exact K14 ls _ _ l3 l3 (32 : Int32) (lv_sub hl [0, 1, 2, 3] rfl) hP hD hS hF
      · rw [if_neg hh] at hF
        refine lv_bipush (v := (31 : Int32)) hx hb d_Mo_free_7 (by decide) ?_
        refine lv_goto (tgt := 14) hx hb d_Mo_free_9 (by decide) ?_
        exact K14 ls _ _ l3 l3 (31 : Int32) (lv_sub hl [0, 1, 2, 3] rfl) hP hD hS hF
  have hF : (F_Mo_free_2 x1 x2 v f 100 (0 : Int32)) = some RES := hF
  refine lv_iconst (v := (0 : Int32)) hx hb d_Mo_free_0 (by decide) ?_
  refine lv_istore_n (lv' := [(3, .int (0 : Int32)), (0, .ref (g 0)), (1, .int x1), (2, .int x2)]) hx hb d_Mo_free_1 rfl hl (Nat.le_of_ble_eq_true rfl) rfl (fun ls hl => ?_)
  have hl : lv_has ls 6 [(0, .ref (g 0)), (1, .int x1), (2, .int x2), (3, .int (0 : Int32))] := lv_sub hl [1, 2, 3, 0] rfl
  exact K2 100 ls _ _ (0 : Int32) (lv_sub hl [0, 1, 2, 3] rfl) hP hD hS hF
abbrev b_Mo_variableFrom : ByteArray := prog_16_method_33_code
abbrev y_Mo_variableFrom : MethodName := { cls := "DelayMachineModel", name := "variableFrom", desc := "(II)I" }
theorem d_Mo_variableFrom_0 : decode b_Mo_variableFrom 0 = .ok (.iload_n 2, 1) := by decide +kernel
theorem d_Mo_variableFrom_1 : decode b_Mo_variableFrom 1 = .ok (.bipush (31), 2) := by decide +kernel
theorem d_Mo_variableFrom_3 : decode b_Mo_variableFrom 3 = .ok (.iand, 1) := by decide +kernel
theorem d_Mo_variableFrom_4 : decode b_Mo_variableFrom 4 = .ok (.istore_n 3, 1) := by decide +kernel
theorem d_Mo_variableFrom_5 : decode b_Mo_variableFrom 5 = .ok (.aload_n 0, 1) := by decide +kernel
theorem d_Mo_variableFrom_6 : decode b_Mo_variableFrom 6 = .ok (.getfield 73, 3) := by decide +kernel
theorem d_Mo_variableFrom_9 : decode b_Mo_variableFrom 9 = .ok (.iload_n 1, 1) := by decide +kernel
theorem d_Mo_variableFrom_10 : decode b_Mo_variableFrom 10 = .ok (.iaload, 1) := by decide +kernel
theorem d_Mo_variableFrom_11 : decode b_Mo_variableFrom 11 = .ok (.ifCond .ge (29), 3) := by decide +kernel
theorem d_Mo_variableFrom_14 : decode b_Mo_variableFrom 14 = .ok (.aload_n 0, 1) := by decide +kernel
theorem d_Mo_variableFrom_15 : decode b_Mo_variableFrom 15 = .ok (.getfield 70, 3) := by decide +kernel
theorem d_Mo_variableFrom_18 : decode b_Mo_variableFrom 18 = .ok (.iload_n 3, 1) := by decide +kernel
theorem d_Mo_variableFrom_19 : decode b_Mo_variableFrom 19 = .ok (.baload, 1) := by decide +kernel
theorem d_Mo_variableFrom_20 : decode b_Mo_variableFrom 20 = .ok (.ifCond .ne (10), 3) := by decide +kernel
theorem d_Mo_variableFrom_23 : decode b_Mo_variableFrom 23 = .ok (.aload_n 0, 1) := by decide +kernel
theorem d_Mo_variableFrom_24 : decode b_Mo_variableFrom 24 = .ok (.getfield 73, 3) := by decide +kernel
theorem d_Mo_variableFrom_27 : decode b_Mo_variableFrom 27 = .ok (.iload_n 1, 1) := by decide +kernel
theorem d_Mo_variableFrom_28 : decode b_Mo_variableFrom 28 = .ok (.iload_n 3, 1) := by decide +kernel
theorem d_Mo_variableFrom_29 : decode b_Mo_variableFrom 29 = .ok (.iastore, 1) := by decide +kernel
theorem d_Mo_variableFrom_30 : decode b_Mo_variableFrom 30 = .ok (.iload_n 3, 1) := by decide +kernel
theorem d_Mo_variableFrom_31 : decode b_Mo_variableFrom 31 = .ok (.iconst 1, 1) := by decide +kernel
theorem d_Mo_variableFrom_32 : decode b_Mo_variableFrom 32 = .ok (.iadd, 1) := by decide +kernel
theorem d_Mo_variableFrom_33 : decode b_Mo_variableFrom 33 = .ok (.bipush (31), 2) := by decide +kernel
theorem d_Mo_variableFrom_35 : decode b_Mo_variableFrom 35 = .ok (.iand, 1) := by decide +kernel
theorem d_Mo_variableFrom_36 : decode b_Mo_variableFrom 36 = .ok (.istore_n 3, 1) := by decide +kernel
theorem d_Mo_variableFrom_37 : decode b_Mo_variableFrom 37 = .ok (.goto (-32), 3) := by decide +kernel
theorem d_Mo_variableFrom_40 : decode b_Mo_variableFrom 40 = .ok (.aload_n 0, 1) := by decide +kernel
theorem d_Mo_variableFrom_41 : decode b_Mo_variableFrom 41 = .ok (.getfield 70, 3) := by decide +kernel
theorem d_Mo_variableFrom_44 : decode b_Mo_variableFrom 44 = .ok (.aload_n 0, 1) := by decide +kernel
theorem d_Mo_variableFrom_45 : decode b_Mo_variableFrom 45 = .ok (.getfield 73, 3) := by decide +kernel
theorem d_Mo_variableFrom_48 : decode b_Mo_variableFrom 48 = .ok (.iload_n 1, 1) := by decide +kernel
theorem d_Mo_variableFrom_49 : decode b_Mo_variableFrom 49 = .ok (.iaload, 1) := by decide +kernel
theorem d_Mo_variableFrom_50 : decode b_Mo_variableFrom 50 = .ok (.iconst 1, 1) := by decide +kernel
theorem d_Mo_variableFrom_51 : decode b_Mo_variableFrom 51 = .ok (.bastore, 1) := by decide +kernel
theorem d_Mo_variableFrom_52 : decode b_Mo_variableFrom 52 = .ok (.aload_n 0, 1) := by decide +kernel
theorem d_Mo_variableFrom_53 : decode b_Mo_variableFrom 53 = .ok (.getfield 73, 3) := by decide +kernel
theorem d_Mo_variableFrom_56 : decode b_Mo_variableFrom 56 = .ok (.iload_n 1, 1) := by decide +kernel
theorem d_Mo_variableFrom_57 : decode b_Mo_variableFrom 57 = .ok (.iaload, 1) := by decide +kernel
theorem d_Mo_variableFrom_58 : decode b_Mo_variableFrom 58 = .ok (.ireturn, 1) := by decide +kernel
theorem hd_Mo_variableFrom : y_Mo_variableFrom.cls ≠ "java/lang/invoke/MethodHandle" ∧ y_Mo_variableFrom.cls ≠ "java/lang/invoke/VarHandle" ∧ (parseMethodDescriptor y_Mo_variableFrom.desc).map (fun d => d.parameters.length) = some 2 := by decide +kernel
abbrev rm_Mo_variableFrom : Room := { frames := 0, cells := 0, slots := 0, locals := 0 }
def F_Mo_variableFrom_30 (x1 x2 : Int32)  (k5 : Int32 → (Nat → Int32) → (Nat → Nat → Int32) → Option (Int32 × (Nat → Int32) × (Nat → Nat → Int32))) (l3 : Int32) (v : Nat → Int32) (f : Nat → Nat → Int32) : Option (Int32 × (Nat → Int32) × (Nat → Nat → Int32)) := (k5 ((l3 + (1 : Int32)) &&& (31 : Int32)) v f)
def F_Mo_variableFrom_5 (x1 x2 : Int32)   : Nat → Int32 → (Nat → Int32) → (Nat → Nat → Int32) → Option (Int32 × (Nat → Int32) × (Nat → Nat → Int32))
  | 0, _, _, _ => none
  | n + 1, l3, v, f => (if x1 < 0 ∨ 16 ≤ x1.toNatClampNeg then none else (if (0 : Int32) ≤ ((f 43) x1.toNatClampNeg) then (if x1 < 0 ∨ 16 ≤ x1.toNatClampNeg then none else (if ((f 43) x1.toNatClampNeg) < 0 ∨ 32 ≤ ((f 43) x1.toNatClampNeg).toNatClampNeg then none else (if x1 < 0 ∨ 16 ≤ x1.toNatClampNeg then none else (some (((f 43) x1.toNatClampNeg), v, (va_up f 42 (upd (f 42) ((f 43) x1.toNatClampNeg).toNatClampNeg ((1 : Int32) &&& 1)))))))) else (if l3 < 0 ∨ 32 ≤ l3.toNatClampNeg then none else (if ((f 42) l3.toNatClampNeg) = (0 : Int32) then (if x1 < 0 ∨ 16 ≤ x1.toNatClampNeg then none else (F_Mo_variableFrom_30 x1 x2 (F_Mo_variableFrom_5 x1 x2 n) l3 v (va_up f 43 (upd (f 43) x1.toNatClampNeg l3)))) else (F_Mo_variableFrom_30 x1 x2 (F_Mo_variableFrom_5 x1 x2 n) l3 v f)))))
def F_Mo_variableFrom (x1 x2 : Int32)  (v : Nat → Int32) (f : Nat → Nat → Int32) : Option (Int32 × (Nat → Int32) × (Nat → Nat → Int32)) := (F_Mo_variableFrom_5 x1 x2 100 (x2 &&& (31 : Int32)) v f)
set_option maxHeartbeats 4000000 in
set_option maxRecDepth 100000 in
theorem c_Mo_variableFrom (l : Launch) (G : dm_G) (g : Nat → Nat) (x1 x2 : Int32) (v : Nat → Int32) (f : Nat → Nat → Int32) (RES : Int32 × (Nat → Int32) × (Nat → Nat → Int32)) (hF : F_Mo_variableFrom x1 x2 v f = some RES) : dm_Ct l y_Mo_variableFrom b_Mo_variableFrom 4 (some .int) rm_Mo_variableFrom G (tw G g v f) [.ref (g 0), .int x1, .int x2] (fun ov w' => ov = some (.int RES.1) ∧ w' = (tw G g RES.2.1 RES.2.2)) := by
  refine dm_Ct.of (by decide +kernel) (Nat.le_of_ble_eq_true rfl) ?_
  intro p e s m below meth c A ls B hl hP hD hS
  have hx := B.1
  have hb := B.2.1
  have hl : lv_has ls 4 [(0, .ref (g 0)), (1, .int x1), (2, .int x2)] := hl
  have K5 : ∀ (n5 : Nat) (ls : Array Slot) (H : Heap) (locs : List Loc) (l3 : Int32) (v : Nat → Int32) (f : Nat → Nat → Int32), lv_has ls 4 [(0, .ref (g 0)), (1, .int x1), (3, .int l3)] → va_P G.1 dm_cl (tw G g v f) H → va_D A (tw G g v f) → va_S A s.heap H locs → F_Mo_variableFrom_5 x1 x2 n5 l3 v f = some RES → W p l e rm_Mo_variableFrom s m ([.ref (g 0), .int x1, .int x2] : List Value).toArray below meth c H locs 0 0 (dm_Z below G s ([.ref (g 0), .int x1, .int x2] : List Value).toArray A rm_Mo_variableFrom.cells rm_Mo_variableFrom.slots (fun ov w' => ov = some (.int RES.1) ∧ w' = (tw G g RES.2.1 RES.2.2))) (F0 m 5 ls []) := by
    intro n5
    induction n5 with
    | zero => intro ls H locs l3 v f hl hP hD hS hF; cases hF
    | succ n5 ih5 =>
      have K30 : ∀ (ls : Array Slot) (H : Heap) (locs : List Loc) (l3 : Int32) (v : Nat → Int32) (f : Nat → Nat → Int32), lv_has ls 4 [(0, .ref (g 0)), (1, .int x1), (3, .int l3)] → va_P G.1 dm_cl (tw G g v f) H → va_D A (tw G g v f) → va_S A s.heap H locs → F_Mo_variableFrom_30 x1 x2 (F_Mo_variableFrom_5 x1 x2 n5) l3 v f = some RES → W p l e rm_Mo_variableFrom s m ([.ref (g 0), .int x1, .int x2] : List Value).toArray below meth c H locs 0 0 (dm_Z below G s ([.ref (g 0), .int x1, .int x2] : List Value).toArray A rm_Mo_variableFrom.cells rm_Mo_variableFrom.slots (fun ov w' => ov = some (.int RES.1) ∧ w' = (tw G g RES.2.1 RES.2.2))) (F0 m 30 ls []) := by
        intro ls H locs l3 v f hl hP hD hS hF
        have hF : ((F_Mo_variableFrom_5 x1 x2 n5) ((l3 + (1 : Int32)) &&& (31 : Int32)) v f) = some RES := hF
        refine lv_iload_n hx hb d_Mo_variableFrom_30 rfl (lv_at hl 2 rfl) ?_
        refine lv_iconst (v := (1 : Int32)) hx hb d_Mo_variableFrom_31 (by decide) ?_
        refine lv_iadd hx hb d_Mo_variableFrom_32 ?_
        refine lv_bipush (v := (31 : Int32)) hx hb d_Mo_variableFrom_33 (by decide) ?_
        refine lv_iand hx hb d_Mo_variableFrom_35 ?_
        refine lv_istore_n (lv' := [(3, .int ((l3 + (1 : Int32)) &&& (31 : Int32))), (0, .ref (g 0)), (1, .int x1)]) hx hb d_Mo_variableFrom_36 rfl hl (Nat.le_of_ble_eq_true rfl) rfl (fun ls hl => ?_)
        have hl : lv_has ls 4 [(0, .ref (g 0)), (1, .int x1), (3, .int ((l3 + (1 : Int32)) &&& (31 : Int32)))] := lv_sub hl [1, 2, 0] rfl
        refine lv_goto (tgt := 5) hx hb d_Mo_variableFrom_37 (by decide) ?_
        exact ih5 ls _ _ ((l3 + (1 : Int32)) &&& (31 : Int32)) v f (lv_sub hl [0, 1, 2] rfl) hP hD hS hF
      intro ls H locs l3 v f hl hP hD hS hF
      have hF : (if x1 < 0 ∨ 16 ≤ x1.toNatClampNeg then none else (if (0 : Int32) ≤ ((f 43) x1.toNatClampNeg) then (if x1 < 0 ∨ 16 ≤ x1.toNatClampNeg then none else (if ((f 43) x1.toNatClampNeg) < 0 ∨ 32 ≤ ((f 43) x1.toNatClampNeg).toNatClampNeg then none else (if x1 < 0 ∨ 16 ≤ x1.toNatClampNeg then none else (some (((f 43) x1.toNatClampNeg), v, (va_up f 42 (upd (f 42) ((f 43) x1.toNatClampNeg).toNatClampNeg ((1 : Int32) &&& 1)))))))) else (if l3 < 0 ∨ 32 ≤ l3.toNatClampNeg then none else (if ((f 42) l3.toNatClampNeg) = (0 : Int32) then (if x1 < 0 ∨ 16 ≤ x1.toNatClampNeg then none else (F_Mo_variableFrom_30 x1 x2 (F_Mo_variableFrom_5 x1 x2 n5) l3 v (va_up f 43 (upd (f 43) x1.toNatClampNeg l3)))) else (F_Mo_variableFrom_30 x1 x2 (F_Mo_variableFrom_5 x1 x2 n5) l3 v f))))) = some RES := hF
      refine lv_aload_n hx hb d_Mo_variableFrom_5 rfl (lv_at hl 0 rfl) ?_
      refine tw_g_0_43 B hP k_768 d_Mo_variableFrom_6 ?_
      refine lv_iload_n hx hb d_Mo_variableFrom_9 rfl (lv_at hl 1 rfl) ?_
      obtain ⟨hi, hF⟩ := dm_chk hF
      refine tw_a_19 (F := (f 43)) B hP rfl hi d_Mo_variableFrom_10 ?_
      refine lv_if_ge (tgt := 40) hx hb d_Mo_variableFrom_11 (by decide) (fun (hh : (0 : Int32) ≤ ((f 43) x1.toNatClampNeg)) => ?_) (fun (hh : ¬ (0 : Int32) ≤ ((f 43) x1.toNatClampNeg)) => ?_)
      · rw [if_pos hh] at hF
        refine lv_aload_n hx hb d_Mo_variableFrom_40 rfl (lv_at hl 0 rfl) ?_
        refine tw_g_0_42 B hP k_767 d_Mo_variableFrom_41 ?_
        refine lv_aload_n hx hb d_Mo_variableFrom_44 rfl (lv_at hl 0 rfl) ?_
        refine tw_g_0_43 B hP k_768 d_Mo_variableFrom_45 ?_
        refine lv_iload_n hx hb d_Mo_variableFrom_48 rfl (lv_at hl 1 rfl) ?_
        obtain ⟨hi, hF⟩ := dm_chk hF
        refine tw_a_19 (F := (f 43)) B hP rfl hi d_Mo_variableFrom_49 ?_
        refine lv_iconst (v := (1 : Int32)) hx hb d_Mo_variableFrom_50 (by decide) ?_
        obtain ⟨hi, hF⟩ := dm_chk hF
        refine tw_s_18 (F := (f 42)) B hP hD hS rfl hi d_Mo_variableFrom_51 (fun H locs hP hD hS => ?_)
        refine lv_aload_n hx hb d_Mo_variableFrom_52 rfl (lv_at hl 0 rfl) ?_
        refine tw_g_0_43 B hP k_768 d_Mo_variableFrom_53 ?_
        refine lv_iload_n hx hb d_Mo_variableFrom_56 rfl (lv_at hl 1 rfl) ?_
        obtain ⟨hi, hF⟩ := dm_chk hF
        refine tw_a_19 (F := (f 43)) B hP rfl hi d_Mo_variableFrom_57 ?_
        have hF := Option.some.inj hF
        subst hF
        exact dm_ret B rfl d_Mo_variableFrom_58 (by decide) (by decide) hP hD hS ⟨rfl, rfl⟩
      · rw [if_neg hh] at hF
        refine lv_aload_n hx hb d_Mo_variableFrom_14 rfl (lv_at hl 0 rfl) ?_
        refine tw_g_0_42 B hP k_767 d_Mo_variableFrom_15 ?_
        refine lv_iload_n hx hb d_Mo_variableFrom_18 rfl (lv_at hl 2 rfl) ?_
        obtain ⟨hi, hF⟩ := dm_chk hF
        refine tw_a_18 (F := (f 42)) B hP rfl hi d_Mo_variableFrom_19 ?_
        refine lv_if_ne (tgt := 30) hx hb d_Mo_variableFrom_20 (by decide) (fun (hh : ¬ ((f 42) l3.toNatClampNeg) = (0 : Int32)) => ?_) (fun (hh : ((f 42) l3.toNatClampNeg) = (0 : Int32)) => ?_)
        · rw [if_neg hh] at hF
          exact K30 ls _ _ l3 v f (lv_sub hl [0, 1, 2] rfl) hP hD hS hF
        · rw [if_pos hh] at hF
          refine lv_aload_n hx hb d_Mo_variableFrom_23 rfl (lv_at hl 0 rfl) ?_
          refine tw_g_0_43 B hP k_768 d_Mo_variableFrom_24 ?_
          refine lv_iload_n hx hb d_Mo_variableFrom_27 rfl (lv_at hl 1 rfl) ?_
          refine lv_iload_n hx hb d_Mo_variableFrom_28 rfl (lv_at hl 2 rfl) ?_
          obtain ⟨hi, hF⟩ := dm_chk hF
          refine tw_s_19 (F := (f 43)) B hP hD hS rfl hi d_Mo_variableFrom_29 (fun H locs hP hD hS => ?_)
          exact K30 ls _ _ l3 v (va_up f 43 (upd (f 43) x1.toNatClampNeg l3)) (lv_sub hl [0, 1, 2] rfl) hP hD hS hF
  have hF : (F_Mo_variableFrom_5 x1 x2 100 (x2 &&& (31 : Int32)) v f) = some RES := hF
  refine lv_iload_n hx hb d_Mo_variableFrom_0 rfl (lv_at hl 2 rfl) ?_
  refine lv_bipush (v := (31 : Int32)) hx hb d_Mo_variableFrom_1 (by decide) ?_
  refine lv_iand hx hb d_Mo_variableFrom_3 ?_
  refine lv_istore_n (lv' := [(3, .int (x2 &&& (31 : Int32))), (0, .ref (g 0)), (1, .int x1), (2, .int x2)]) hx hb d_Mo_variableFrom_4 rfl hl (Nat.le_of_ble_eq_true rfl) rfl (fun ls hl => ?_)
  have hl : lv_has ls 4 [(0, .ref (g 0)), (1, .int x1), (2, .int x2), (3, .int (x2 &&& (31 : Int32)))] := lv_sub hl [1, 2, 3, 0] rfl
  exact K5 100 ls _ _ (x2 &&& (31 : Int32)) v f (lv_sub hl [0, 1, 3] rfl) hP hD hS hF
abbrev b_Mo_place : ByteArray := prog_16_method_32_code
abbrev y_Mo_place : MethodName := { cls := "DelayMachineModel", name := "place", desc := "()Z" }
theorem d_Mo_place_0 : decode b_Mo_place 0 = .ok (.iconst 0, 1) := by decide +kernel
theorem d_Mo_place_1 : decode b_Mo_place 1 = .ok (.istore_n 1, 1) := by decide +kernel
theorem d_Mo_place_2 : decode b_Mo_place 2 = .ok (.iload_n 1, 1) := by decide +kernel
theorem d_Mo_place_3 : decode b_Mo_place 3 = .ok (.bipush (64), 2) := by decide +kernel
theorem d_Mo_place_5 : decode b_Mo_place 5 = .ok (.if_icmp .ge (16), 3) := by decide +kernel
theorem d_Mo_place_8 : decode b_Mo_place 8 = .ok (.aload_n 0, 1) := by decide +kernel
theorem d_Mo_place_9 : decode b_Mo_place 9 = .ok (.getfield 66, 3) := by decide +kernel
theorem d_Mo_place_12 : decode b_Mo_place 12 = .ok (.iload_n 1, 1) := by decide +kernel
theorem d_Mo_place_13 : decode b_Mo_place 13 = .ok (.iconst 0, 1) := by decide +kernel
theorem d_Mo_place_14 : decode b_Mo_place 14 = .ok (.bastore, 1) := by decide +kernel
theorem d_Mo_place_15 : decode b_Mo_place 15 = .ok (.iinc 1 (1), 3) := by decide +kernel
theorem d_Mo_place_18 : decode b_Mo_place 18 = .ok (.goto (-16), 3) := by decide +kernel
theorem d_Mo_place_21 : decode b_Mo_place 21 = .ok (.iconst 0, 1) := by decide +kernel
theorem d_Mo_place_22 : decode b_Mo_place 22 = .ok (.istore_n 1, 1) := by decide +kernel
theorem d_Mo_place_23 : decode b_Mo_place 23 = .ok (.iload_n 1, 1) := by decide +kernel
theorem d_Mo_place_24 : decode b_Mo_place 24 = .ok (.bipush (32), 2) := by decide +kernel
theorem d_Mo_place_26 : decode b_Mo_place 26 = .ok (.if_icmp .ge (16), 3) := by decide +kernel
theorem d_Mo_place_29 : decode b_Mo_place 29 = .ok (.aload_n 0, 1) := by decide +kernel
theorem d_Mo_place_30 : decode b_Mo_place 30 = .ok (.getfield 70, 3) := by decide +kernel
theorem d_Mo_place_33 : decode b_Mo_place 33 = .ok (.iload_n 1, 1) := by decide +kernel
theorem d_Mo_place_34 : decode b_Mo_place 34 = .ok (.iconst 0, 1) := by decide +kernel
theorem d_Mo_place_35 : decode b_Mo_place 35 = .ok (.bastore, 1) := by decide +kernel
theorem d_Mo_place_36 : decode b_Mo_place 36 = .ok (.iinc 1 (1), 3) := by decide +kernel
theorem d_Mo_place_39 : decode b_Mo_place 39 = .ok (.goto (-16), 3) := by decide +kernel
theorem d_Mo_place_42 : decode b_Mo_place 42 = .ok (.iconst 0, 1) := by decide +kernel
theorem d_Mo_place_43 : decode b_Mo_place 43 = .ok (.istore_n 1, 1) := by decide +kernel
theorem d_Mo_place_44 : decode b_Mo_place 44 = .ok (.iload_n 1, 1) := by decide +kernel
theorem d_Mo_place_45 : decode b_Mo_place 45 = .ok (.bipush (16), 2) := by decide +kernel
theorem d_Mo_place_47 : decode b_Mo_place 47 = .ok (.if_icmp .ge (16), 3) := by decide +kernel
theorem d_Mo_place_50 : decode b_Mo_place 50 = .ok (.aload_n 0, 1) := by decide +kernel
theorem d_Mo_place_51 : decode b_Mo_place 51 = .ok (.getfield 73, 3) := by decide +kernel
theorem d_Mo_place_54 : decode b_Mo_place 54 = .ok (.iload_n 1, 1) := by decide +kernel
theorem d_Mo_place_55 : decode b_Mo_place 55 = .ok (.iconst (-1), 1) := by decide +kernel
theorem d_Mo_place_56 : decode b_Mo_place 56 = .ok (.iastore, 1) := by decide +kernel
theorem d_Mo_place_57 : decode b_Mo_place 57 = .ok (.iinc 1 (1), 3) := by decide +kernel
theorem d_Mo_place_60 : decode b_Mo_place 60 = .ok (.goto (-16), 3) := by decide +kernel
theorem d_Mo_place_63 : decode b_Mo_place 63 = .ok (.iconst 0, 1) := by decide +kernel
theorem d_Mo_place_64 : decode b_Mo_place 64 = .ok (.istore_n 1, 1) := by decide +kernel
theorem d_Mo_place_65 : decode b_Mo_place 65 = .ok (.iconst 0, 1) := by decide +kernel
theorem d_Mo_place_66 : decode b_Mo_place 66 = .ok (.istore_n 2, 1) := by decide +kernel
theorem d_Mo_place_67 : decode b_Mo_place 67 = .ok (.iload_n 2, 1) := by decide +kernel
theorem d_Mo_place_68 : decode b_Mo_place 68 = .ok (.aload_n 0, 1) := by decide +kernel
theorem d_Mo_place_69 : decode b_Mo_place 69 = .ok (.getfield 209, 3) := by decide +kernel
theorem d_Mo_place_72 : decode b_Mo_place 72 = .ok (.if_icmp .ge (189), 3) := by decide +kernel
theorem d_Mo_place_75 : decode b_Mo_place 75 = .ok (.aload_n 0, 1) := by decide +kernel
theorem d_Mo_place_76 : decode b_Mo_place 76 = .ok (.getfield 48, 3) := by decide +kernel
theorem d_Mo_place_79 : decode b_Mo_place 79 = .ok (.iload_n 2, 1) := by decide +kernel
theorem d_Mo_place_80 : decode b_Mo_place 80 = .ok (.iaload, 1) := by decide +kernel
theorem d_Mo_place_81 : decode b_Mo_place 81 = .ok (.ifCond .ne (16), 3) := by decide +kernel
theorem d_Mo_place_84 : decode b_Mo_place 84 = .ok (.aload_n 0, 1) := by decide +kernel
theorem d_Mo_place_85 : decode b_Mo_place 85 = .ok (.getfield 51, 3) := by decide +kernel
theorem d_Mo_place_88 : decode b_Mo_place 88 = .ok (.iload_n 2, 1) := by decide +kernel
theorem d_Mo_place_89 : decode b_Mo_place 89 = .ok (.iaload, 1) := by decide +kernel
theorem d_Mo_place_90 : decode b_Mo_place 90 = .ok (.ifCond .ne (7), 3) := by decide +kernel
theorem d_Mo_place_93 : decode b_Mo_place 93 = .ok (.iconst 1, 1) := by decide +kernel
theorem d_Mo_place_94 : decode b_Mo_place 94 = .ok (.goto (4), 3) := by decide +kernel
theorem d_Mo_place_97 : decode b_Mo_place 97 = .ok (.iconst 0, 1) := by decide +kernel
theorem d_Mo_place_98 : decode b_Mo_place 98 = .ok (.istore_n 3, 1) := by decide +kernel
theorem d_Mo_place_99 : decode b_Mo_place 99 = .ok (.aload_n 0, 1) := by decide +kernel
theorem d_Mo_place_100 : decode b_Mo_place 100 = .ok (.iload_n 3, 1) := by decide +kernel
theorem d_Mo_place_101 : decode b_Mo_place 101 = .ok (.ifCond .eq (9), 3) := by decide +kernel
theorem d_Mo_place_104 : decode b_Mo_place 104 = .ok (.iload_n 1, 1) := by decide +kernel
theorem d_Mo_place_105 : decode b_Mo_place 105 = .ok (.iconst 1, 1) := by decide +kernel
theorem d_Mo_place_106 : decode b_Mo_place 106 = .ok (.iadd, 1) := by decide +kernel
theorem d_Mo_place_107 : decode b_Mo_place 107 = .ok (.goto (4), 3) := by decide +kernel
theorem d_Mo_place_110 : decode b_Mo_place 110 = .ok (.iload_n 1, 1) := by decide +kernel
theorem d_Mo_place_111 : decode b_Mo_place 111 = .ok (.iload_n 3, 1) := by decide +kernel
theorem d_Mo_place_112 : decode b_Mo_place 112 = .ok (.invokevirtual 216, 3) := by decide +kernel
theorem d_Mo_place_115 : decode b_Mo_place 115 = .ok (.istore 4, 2) := by decide +kernel
theorem d_Mo_place_117 : decode b_Mo_place 117 = .ok (.iload 4, 2) := by decide +kernel
theorem d_Mo_place_119 : decode b_Mo_place 119 = .ok (.ifCond .ge (5), 3) := by decide +kernel
theorem d_Mo_place_122 : decode b_Mo_place 122 = .ok (.iconst 0, 1) := by decide +kernel
theorem d_Mo_place_123 : decode b_Mo_place 123 = .ok (.ireturn, 1) := by decide +kernel
theorem d_Mo_place_124 : decode b_Mo_place 124 = .ok (.aload_n 0, 1) := by decide +kernel
theorem d_Mo_place_125 : decode b_Mo_place 125 = .ok (.getfield 66, 3) := by decide +kernel
theorem d_Mo_place_128 : decode b_Mo_place 128 = .ok (.iload 4, 2) := by decide +kernel
theorem d_Mo_place_130 : decode b_Mo_place 130 = .ok (.iconst 1, 1) := by decide +kernel
theorem d_Mo_place_131 : decode b_Mo_place 131 = .ok (.bastore, 1) := by decide +kernel
theorem d_Mo_place_132 : decode b_Mo_place 132 = .ok (.aload_n 0, 1) := by decide +kernel
theorem d_Mo_place_133 : decode b_Mo_place 133 = .ok (.getfield 60, 3) := by decide +kernel
theorem d_Mo_place_136 : decode b_Mo_place 136 = .ok (.iload_n 2, 1) := by decide +kernel
theorem d_Mo_place_137 : decode b_Mo_place 137 = .ok (.iload 4, 2) := by decide +kernel
theorem d_Mo_place_139 : decode b_Mo_place 139 = .ok (.iastore, 1) := by decide +kernel
theorem d_Mo_place_140 : decode b_Mo_place 140 = .ok (.aload_n 0, 1) := by decide +kernel
theorem d_Mo_place_141 : decode b_Mo_place 141 = .ok (.getfield 63, 3) := by decide +kernel
theorem d_Mo_place_144 : decode b_Mo_place 144 = .ok (.iload_n 2, 1) := by decide +kernel
theorem d_Mo_place_145 : decode b_Mo_place 145 = .ok (.iconst 0, 1) := by decide +kernel
theorem d_Mo_place_146 : decode b_Mo_place 146 = .ok (.iastore, 1) := by decide +kernel
theorem d_Mo_place_147 : decode b_Mo_place 147 = .ok (.iload_n 3, 1) := by decide +kernel
theorem d_Mo_place_148 : decode b_Mo_place 148 = .ok (.ifCond .eq (55), 3) := by decide +kernel
theorem d_Mo_place_151 : decode b_Mo_place 151 = .ok (.iinc 2 (1), 3) := by decide +kernel
theorem d_Mo_place_154 : decode b_Mo_place 154 = .ok (.aload_n 0, 1) := by decide +kernel
theorem d_Mo_place_155 : decode b_Mo_place 155 = .ok (.getfield 60, 3) := by decide +kernel
theorem d_Mo_place_158 : decode b_Mo_place 158 = .ok (.iload_n 2, 1) := by decide +kernel
theorem d_Mo_place_159 : decode b_Mo_place 159 = .ok (.iload 4, 2) := by decide +kernel
theorem d_Mo_place_161 : decode b_Mo_place 161 = .ok (.bipush (32), 2) := by decide +kernel
theorem d_Mo_place_163 : decode b_Mo_place 163 = .ok (.iand, 1) := by decide +kernel
theorem d_Mo_place_164 : decode b_Mo_place 164 = .ok (.iload 4, 2) := by decide +kernel
theorem d_Mo_place_166 : decode b_Mo_place 166 = .ok (.iconst 1, 1) := by decide +kernel
theorem d_Mo_place_167 : decode b_Mo_place 167 = .ok (.iadd, 1) := by decide +kernel
theorem d_Mo_place_168 : decode b_Mo_place 168 = .ok (.bipush (31), 2) := by decide +kernel
theorem d_Mo_place_170 : decode b_Mo_place 170 = .ok (.iand, 1) := by decide +kernel
theorem d_Mo_place_171 : decode b_Mo_place 171 = .ok (.ior, 1) := by decide +kernel
theorem d_Mo_place_172 : decode b_Mo_place 172 = .ok (.iastore, 1) := by decide +kernel
theorem d_Mo_place_173 : decode b_Mo_place 173 = .ok (.aload_n 0, 1) := by decide +kernel
theorem d_Mo_place_174 : decode b_Mo_place 174 = .ok (.getfield 66, 3) := by decide +kernel
theorem d_Mo_place_177 : decode b_Mo_place 177 = .ok (.aload_n 0, 1) := by decide +kernel
theorem d_Mo_place_178 : decode b_Mo_place 178 = .ok (.getfield 60, 3) := by decide +kernel
theorem d_Mo_place_181 : decode b_Mo_place 181 = .ok (.iload_n 2, 1) := by decide +kernel
theorem d_Mo_place_182 : decode b_Mo_place 182 = .ok (.iaload, 1) := by decide +kernel
theorem d_Mo_place_183 : decode b_Mo_place 183 = .ok (.iconst 1, 1) := by decide +kernel
theorem d_Mo_place_184 : decode b_Mo_place 184 = .ok (.bastore, 1) := by decide +kernel
theorem d_Mo_place_185 : decode b_Mo_place 185 = .ok (.aload_n 0, 1) := by decide +kernel
theorem d_Mo_place_186 : decode b_Mo_place 186 = .ok (.getfield 63, 3) := by decide +kernel
theorem d_Mo_place_189 : decode b_Mo_place 189 = .ok (.iload_n 2, 1) := by decide +kernel
theorem d_Mo_place_190 : decode b_Mo_place 190 = .ok (.iconst 0, 1) := by decide +kernel
theorem d_Mo_place_191 : decode b_Mo_place 191 = .ok (.iastore, 1) := by decide +kernel
theorem d_Mo_place_192 : decode b_Mo_place 192 = .ok (.iload 4, 2) := by decide +kernel
theorem d_Mo_place_194 : decode b_Mo_place 194 = .ok (.iconst 2, 1) := by decide +kernel
theorem d_Mo_place_195 : decode b_Mo_place 195 = .ok (.iadd, 1) := by decide +kernel
theorem d_Mo_place_196 : decode b_Mo_place 196 = .ok (.bipush (31), 2) := by decide +kernel
theorem d_Mo_place_198 : decode b_Mo_place 198 = .ok (.iand, 1) := by decide +kernel
theorem d_Mo_place_199 : decode b_Mo_place 199 = .ok (.istore_n 1, 1) := by decide +kernel
theorem d_Mo_place_200 : decode b_Mo_place 200 = .ok (.goto (55), 3) := by decide +kernel
theorem d_Mo_place_203 : decode b_Mo_place 203 = .ok (.aload_n 0, 1) := by decide +kernel
theorem d_Mo_place_204 : decode b_Mo_place 204 = .ok (.getfield 54, 3) := by decide +kernel
theorem d_Mo_place_207 : decode b_Mo_place 207 = .ok (.iload_n 2, 1) := by decide +kernel
theorem d_Mo_place_208 : decode b_Mo_place 208 = .ok (.iaload, 1) := by decide +kernel
theorem d_Mo_place_209 : decode b_Mo_place 209 = .ok (.istore 5, 2) := by decide +kernel
theorem d_Mo_place_211 : decode b_Mo_place 211 = .ok (.iload 5, 2) := by decide +kernel
theorem d_Mo_place_213 : decode b_Mo_place 213 = .ok (.ifCond .lt (27), 3) := by decide +kernel
theorem d_Mo_place_216 : decode b_Mo_place 216 = .ok (.aload_n 0, 1) := by decide +kernel
theorem d_Mo_place_217 : decode b_Mo_place 217 = .ok (.getfield 63, 3) := by decide +kernel
theorem d_Mo_place_220 : decode b_Mo_place 220 = .ok (.iload_n 2, 1) := by decide +kernel
theorem d_Mo_place_221 : decode b_Mo_place 221 = .ok (.aload_n 0, 1) := by decide +kernel
theorem d_Mo_place_222 : decode b_Mo_place 222 = .ok (.iload 5, 2) := by decide +kernel
theorem d_Mo_place_224 : decode b_Mo_place 224 = .ok (.iload 4, 2) := by decide +kernel
theorem d_Mo_place_226 : decode b_Mo_place 226 = .ok (.iconst 2, 1) := by decide +kernel
theorem d_Mo_place_227 : decode b_Mo_place 227 = .ok (.iadd, 1) := by decide +kernel
theorem d_Mo_place_228 : decode b_Mo_place 228 = .ok (.invokevirtual 220, 3) := by decide +kernel
theorem d_Mo_place_231 : decode b_Mo_place 231 = .ok (.iload 4, 2) := by decide +kernel
theorem d_Mo_place_233 : decode b_Mo_place 233 = .ok (.isub, 1) := by decide +kernel
theorem d_Mo_place_234 : decode b_Mo_place 234 = .ok (.iconst 2, 1) := by decide +kernel
theorem d_Mo_place_235 : decode b_Mo_place 235 = .ok (.isub, 1) := by decide +kernel
theorem d_Mo_place_236 : decode b_Mo_place 236 = .ok (.bipush (31), 2) := by decide +kernel
theorem d_Mo_place_238 : decode b_Mo_place 238 = .ok (.iand, 1) := by decide +kernel
theorem d_Mo_place_239 : decode b_Mo_place 239 = .ok (.iastore, 1) := by decide +kernel
theorem d_Mo_place_240 : decode b_Mo_place 240 = .ok (.iload 4, 2) := by decide +kernel
theorem d_Mo_place_242 : decode b_Mo_place 242 = .ok (.iconst 2, 1) := by decide +kernel
theorem d_Mo_place_243 : decode b_Mo_place 243 = .ok (.iadd, 1) := by decide +kernel
theorem d_Mo_place_244 : decode b_Mo_place 244 = .ok (.aload_n 0, 1) := by decide +kernel
theorem d_Mo_place_245 : decode b_Mo_place 245 = .ok (.getfield 63, 3) := by decide +kernel
theorem d_Mo_place_248 : decode b_Mo_place 248 = .ok (.iload_n 2, 1) := by decide +kernel
theorem d_Mo_place_249 : decode b_Mo_place 249 = .ok (.iaload, 1) := by decide +kernel
theorem d_Mo_place_250 : decode b_Mo_place 250 = .ok (.iadd, 1) := by decide +kernel
theorem d_Mo_place_251 : decode b_Mo_place 251 = .ok (.bipush (31), 2) := by decide +kernel
theorem d_Mo_place_253 : decode b_Mo_place 253 = .ok (.iand, 1) := by decide +kernel
theorem d_Mo_place_254 : decode b_Mo_place 254 = .ok (.istore_n 1, 1) := by decide +kernel
theorem d_Mo_place_255 : decode b_Mo_place 255 = .ok (.iinc 2 (1), 3) := by decide +kernel
theorem d_Mo_place_258 : decode b_Mo_place 258 = .ok (.goto (-191), 3) := by decide +kernel
theorem d_Mo_place_261 : decode b_Mo_place 261 = .ok (.iconst 1, 1) := by decide +kernel
theorem d_Mo_place_262 : decode b_Mo_place 262 = .ok (.ireturn, 1) := by decide +kernel
theorem hd_Mo_place : y_Mo_place.cls ≠ "java/lang/invoke/MethodHandle" ∧ y_Mo_place.cls ≠ "java/lang/invoke/VarHandle" ∧ (parseMethodDescriptor y_Mo_place.desc).map (fun d => d.parameters.length) = some 0 := by decide +kernel
abbrev rm_Mo_place : Room := { frames := 1, cells := 0, slots := 0, locals := 25 }
def F_Mo_place_255  (k67 : Int32 → Int32 → (Nat → Int32) → (Nat → Nat → Int32) → Option (Int32 × (Nat → Int32) × (Nat → Nat → Int32))) (l1 : Int32) (l2 : Int32) (v : Nat → Int32) (f : Nat → Nat → Int32) : Option (Int32 × (Nat → Int32) × (Nat → Nat → Int32)) := (k67 l1 (l2 + (1 : Int32)) v f)
def F_Mo_place_240  (k67 : Int32 → Int32 → (Nat → Int32) → (Nat → Nat → Int32) → Option (Int32 × (Nat → Int32) × (Nat → Nat → Int32))) (l2 : Int32) (l4 : Int32) (v : Nat → Int32) (f : Nat → Nat → Int32) : Option (Int32 × (Nat → Int32) × (Nat → Nat → Int32)) := (if l2 < 0 ∨ 64 ≤ l2.toNatClampNeg then none else (F_Mo_place_255  (k67) (((l4 + (2 : Int32)) + ((f 40) l2.toNatClampNeg)) &&& (31 : Int32)) l2 v f))
def F_Mo_place_111  (k67 : Int32 → Int32 → (Nat → Int32) → (Nat → Nat → Int32) → Option (Int32 × (Nat → Int32) × (Nat → Nat → Int32))) (l2 : Int32) (l3 : Int32) (s1 : Int32) (v : Nat → Int32) (f : Nat → Nat → Int32) : Option (Int32 × (Nat → Int32) × (Nat → Nat → Int32)) := (Option.bind (F_Mo_free s1 l3 v f) (fun z1 => (if (0 : Int32) ≤ z1 then (if z1 < 0 ∨ 64 ≤ z1.toNatClampNeg then none else (if l2 < 0 ∨ 64 ≤ l2.toNatClampNeg then none else (if l2 < 0 ∨ 64 ≤ l2.toNatClampNeg then none else (if l3 = (0 : Int32) then (if l2 < 0 ∨ 64 ≤ l2.toNatClampNeg then none else (if ((f 37) l2.toNatClampNeg) < (0 : Int32) then (F_Mo_place_240  (k67) l2 z1 v (va_up (va_up (va_up f 41 (upd (f 41) z1.toNatClampNeg ((1 : Int32) &&& 1))) 39 (upd (f 39) l2.toNatClampNeg z1)) 40 (upd (f 40) l2.toNatClampNeg (0 : Int32)))) else (Option.bind (F_Mo_variableFrom ((f 37) l2.toNatClampNeg) (z1 + (2 : Int32)) v (va_up (va_up (va_up f 41 (upd (f 41) z1.toNatClampNeg ((1 : Int32) &&& 1))) 39 (upd (f 39) l2.toNatClampNeg z1)) 40 (upd (f 40) l2.toNatClampNeg (0 : Int32)))) (fun z2 => (if l2 < 0 ∨ 64 ≤ l2.toNatClampNeg then none else (F_Mo_place_240  (k67) l2 z1 z2.2.1 (va_up z2.2.2 40 (upd (z2.2.2 40) l2.toNatClampNeg (((z2.1 - z1) - (2 : Int32)) &&& (31 : Int32)))))))))) else (if (l2 + (1 : Int32)) < 0 ∨ 64 ≤ (l2 + (1 : Int32)).toNatClampNeg then none else (if (l2 + (1 : Int32)) < 0 ∨ 64 ≤ (l2 + (1 : Int32)).toNatClampNeg then none else (if ((upd (upd (f 39) l2.toNatClampNeg z1) (l2 + (1 : Int32)).toNatClampNeg ((z1 &&& (32 : Int32)) ||| ((z1 + (1 : Int32)) &&& (31 : Int32)))) (l2 + (1 : Int32)).toNatClampNeg) < 0 ∨ 64 ≤ ((upd (upd (f 39) l2.toNatClampNeg z1) (l2 + (1 : Int32)).toNatClampNeg ((z1 &&& (32 : Int32)) ||| ((z1 + (1 : Int32)) &&& (31 : Int32)))) (l2 + (1 : Int32)).toNatClampNeg).toNatClampNeg then none else (if (l2 + (1 : Int32)) < 0 ∨ 64 ≤ (l2 + (1 : Int32)).toNatClampNeg then none else (F_Mo_place_255  (k67) ((z1 + (2 : Int32)) &&& (31 : Int32)) (l2 + (1 : Int32)) v (va_up (va_up (va_up (va_up (va_up (va_up f 41 (upd (f 41) z1.toNatClampNeg ((1 : Int32) &&& 1))) 39 (upd (f 39) l2.toNatClampNeg z1)) 40 (upd (f 40) l2.toNatClampNeg (0 : Int32))) 39 (upd (upd (f 39) l2.toNatClampNeg z1) (l2 + (1 : Int32)).toNatClampNeg ((z1 &&& (32 : Int32)) ||| ((z1 + (1 : Int32)) &&& (31 : Int32))))) 41 (upd (upd (f 41) z1.toNatClampNeg ((1 : Int32) &&& 1)) ((upd (upd (f 39) l2.toNatClampNeg z1) (l2 + (1 : Int32)).toNatClampNeg ((z1 &&& (32 : Int32)) ||| ((z1 + (1 : Int32)) &&& (31 : Int32)))) (l2 + (1 : Int32)).toNatClampNeg).toNatClampNeg ((1 : Int32) &&& 1))) 40 (upd (upd (f 40) l2.toNatClampNeg (0 : Int32)) (l2 + (1 : Int32)).toNatClampNeg (0 : Int32)))))))))))) else (some ((0 : Int32), v, f)))))
def F_Mo_place_98  (k67 : Int32 → Int32 → (Nat → Int32) → (Nat → Nat → Int32) → Option (Int32 × (Nat → Int32) × (Nat → Nat → Int32))) (l1 : Int32) (l2 : Int32) (s0 : Int32) (v : Nat → Int32) (f : Nat → Nat → Int32) : Option (Int32 × (Nat → Int32) × (Nat → Nat → Int32)) := (if s0 = (0 : Int32) then (F_Mo_place_111  (k67) l2 s0 l1 v f) else (F_Mo_place_111  (k67) l2 s0 (l1 + (1 : Int32)) v f))
def F_Mo_place_97  (k67 : Int32 → Int32 → (Nat → Int32) → (Nat → Nat → Int32) → Option (Int32 × (Nat → Int32) × (Nat → Nat → Int32))) (l1 : Int32) (l2 : Int32) (v : Nat → Int32) (f : Nat → Nat → Int32) : Option (Int32 × (Nat → Int32) × (Nat → Nat → Int32)) := (F_Mo_place_98  (k67) l1 l2 (0 : Int32) v f)
def F_Mo_place_67   : Nat → Int32 → Int32 → (Nat → Int32) → (Nat → Nat → Int32) → Option (Int32 × (Nat → Int32) × (Nat → Nat → Int32))
  | 0, _, _, _, _ => none
  | n + 1, l1, l2, v, f => (if (v 34) ≤ l2 then (some ((1 : Int32), v, f)) else (if l2 < 0 ∨ 64 ≤ l2.toNatClampNeg then none else (if ((f 35) l2.toNatClampNeg) = (0 : Int32) then (if l2 < 0 ∨ 64 ≤ l2.toNatClampNeg then none else (if ((f 36) l2.toNatClampNeg) = (0 : Int32) then (F_Mo_place_98  (F_Mo_place_67  n) l1 l2 (1 : Int32) v f) else (F_Mo_place_97  (F_Mo_place_67  n) l1 l2 v f))) else (F_Mo_place_97  (F_Mo_place_67  n) l1 l2 v f))))
def F_Mo_place_44   : Nat → Int32 → (Nat → Int32) → (Nat → Nat → Int32) → Option (Int32 × (Nat → Int32) × (Nat → Nat → Int32))
  | 0, _, _, _ => none
  | n + 1, l1, v, f => (if (16 : Int32) ≤ l1 then (F_Mo_place_67  100 (0 : Int32) (0 : Int32) v f) else (if l1 < 0 ∨ 16 ≤ l1.toNatClampNeg then none else (F_Mo_place_44  n (l1 + (1 : Int32)) v (va_up f 43 (upd (f 43) l1.toNatClampNeg (-1 : Int32))))))
def F_Mo_place_23   : Nat → Int32 → (Nat → Int32) → (Nat → Nat → Int32) → Option (Int32 × (Nat → Int32) × (Nat → Nat → Int32))
  | 0, _, _, _ => none
  | n + 1, l1, v, f => (if (32 : Int32) ≤ l1 then (F_Mo_place_44  100 (0 : Int32) v f) else (if l1 < 0 ∨ 32 ≤ l1.toNatClampNeg then none else (F_Mo_place_23  n (l1 + (1 : Int32)) v (va_up f 42 (upd (f 42) l1.toNatClampNeg ((0 : Int32) &&& 1))))))
def F_Mo_place_2   : Nat → Int32 → (Nat → Int32) → (Nat → Nat → Int32) → Option (Int32 × (Nat → Int32) × (Nat → Nat → Int32))
  | 0, _, _, _ => none
  | n + 1, l1, v, f => (if (64 : Int32) ≤ l1 then (F_Mo_place_23  100 (0 : Int32) v f) else (if l1 < 0 ∨ 64 ≤ l1.toNatClampNeg then none else (F_Mo_place_2  n (l1 + (1 : Int32)) v (va_up f 41 (upd (f 41) l1.toNatClampNeg ((0 : Int32) &&& 1))))))
def F_Mo_place  (v : Nat → Int32) (f : Nat → Nat → Int32) : Option (Int32 × (Nat → Int32) × (Nat → Nat → Int32)) := (F_Mo_place_2  100 (0 : Int32) v f)
set_option maxHeartbeats 4000000 in
set_option maxRecDepth 100000 in
theorem c_Mo_place (l : Launch) (G : dm_G) (g : Nat → Nat) (v : Nat → Int32) (f : Nat → Nat → Int32) (RES : Int32 × (Nat → Int32) × (Nat → Nat → Int32)) (hF : F_Mo_place v f = some RES) : dm_Ct l y_Mo_place b_Mo_place 6 (some .boolean) rm_Mo_place G (tw G g v f) [.ref (g 0)] (fun ov w' => ov = some (.int RES.1) ∧ w' = (tw G g RES.2.1 RES.2.2)) := by
  refine dm_Ct.of (by decide +kernel) (Nat.le_of_ble_eq_true rfl) ?_
  intro p e s m below meth c A ls B hl hP hD hS
  have hx := B.1
  have hb := B.2.1
  have hl : lv_has ls 6 [(0, .ref (g 0))] := hl
  have K67 : ∀ (n67 : Nat) (ls : Array Slot) (H : Heap) (locs : List Loc) (l1 : Int32) (l2 : Int32) (v : Nat → Int32) (f : Nat → Nat → Int32), lv_has ls 6 [(0, .ref (g 0)), (1, .int l1), (2, .int l2)] → va_P G.1 dm_cl (tw G g v f) H → va_D A (tw G g v f) → va_S A s.heap H locs → F_Mo_place_67  n67 l1 l2 v f = some RES → W p l e rm_Mo_place s m ([.ref (g 0)] : List Value).toArray below meth c H locs 0 0 (dm_Z below G s ([.ref (g 0)] : List Value).toArray A rm_Mo_place.cells rm_Mo_place.slots (fun ov w' => ov = some (.int RES.1) ∧ w' = (tw G g RES.2.1 RES.2.2))) (F0 m 67 ls []) := by
    intro n67
    induction n67 with
    | zero => intro ls H locs l1 l2 v f hl hP hD hS hF; cases hF
    | succ n67 ih67 =>
      have K255 : ∀ (ls : Array Slot) (H : Heap) (locs : List Loc) (l1 : Int32) (l2 : Int32) (v : Nat → Int32) (f : Nat → Nat → Int32), lv_has ls 6 [(0, .ref (g 0)), (1, .int l1), (2, .int l2)] → va_P G.1 dm_cl (tw G g v f) H → va_D A (tw G g v f) → va_S A s.heap H locs → F_Mo_place_255  (F_Mo_place_67  n67) l1 l2 v f = some RES → W p l e rm_Mo_place s m ([.ref (g 0)] : List Value).toArray below meth c H locs 0 0 (dm_Z below G s ([.ref (g 0)] : List Value).toArray A rm_Mo_place.cells rm_Mo_place.slots (fun ov w' => ov = some (.int RES.1) ∧ w' = (tw G g RES.2.1 RES.2.2))) (F0 m 255 ls []) := by
        intro ls H locs l1 l2 v f hl hP hD hS hF
        have hF : ((F_Mo_place_67  n67) l1 (l2 + (1 : Int32)) v f) = some RES := hF
        refine lv_iinc (k := 2) (v := (l2 + (1 : Int32))) (lv' := [(2, .int (l2 + (1 : Int32))), (0, .ref (g 0)), (1, .int l1)]) hx hb d_Mo_place_255 hl rfl (congrArg (fun q => l2 + q) (by decide)) (Nat.le_of_ble_eq_true rfl) rfl (fun ls hl => ?_)
        have hl : lv_has ls 6 [(0, .ref (g 0)), (1, .int l1), (2, .int (l2 + (1 : Int32)))] := lv_sub hl [1, 2, 0] rfl
        refine lv_goto (tgt := 67) hx hb d_Mo_place_258 (by decide) ?_
        exact ih67 ls _ _ l1 (l2 + (1 : Int32)) v f (lv_sub hl [0, 1, 2] rfl) hP hD hS hF
      have K240 : ∀ (ls : Array Slot) (H : Heap) (locs : List Loc) (l2 : Int32) (l4 : Int32) (v : Nat → Int32) (f : Nat → Nat → Int32), lv_has ls 6 [(0, .ref (g 0)), (2, .int l2), (4, .int l4)] → va_P G.1 dm_cl (tw G g v f) H → va_D A (tw G g v f) → va_S A s.heap H locs → F_Mo_place_240  (F_Mo_place_67  n67) l2 l4 v f = some RES → W p l e rm_Mo_place s m ([.ref (g 0)] : List Value).toArray below meth c H locs 0 0 (dm_Z below G s ([.ref (g 0)] : List Value).toArray A rm_Mo_place.cells rm_Mo_place.slots (fun ov w' => ov = some (.int RES.1) ∧ w' = (tw G g RES.2.1 RES.2.2))) (F0 m 240 ls []) := by
        intro ls H locs l2 l4 v f hl hP hD hS hF
        have hF : (if l2 < 0 ∨ 64 ≤ l2.toNatClampNeg then none else (F_Mo_place_255  ((F_Mo_place_67  n67)) (((l4 + (2 : Int32)) + ((f 40) l2.toNatClampNeg)) &&& (31 : Int32)) l2 v f)) = some RES := hF
        refine lv_iload hx hb d_Mo_place_240 (lv_at hl 2 rfl) ?_
        refine lv_iconst (v := (2 : Int32)) hx hb d_Mo_place_242 (by decide) ?_
        refine lv_iadd hx hb d_Mo_place_243 ?_
        refine lv_aload_n hx hb d_Mo_place_244 rfl (lv_at hl 0 rfl) ?_
        refine tw_g_0_40 B hP k_765 d_Mo_place_245 ?_
        refine lv_iload_n hx hb d_Mo_place_248 rfl (lv_at hl 1 rfl) ?_
        obtain ⟨hi, hF⟩ := dm_chk hF
        refine tw_a_16 (F := (f 40)) B hP rfl hi d_Mo_place_249 ?_
        refine lv_iadd hx hb d_Mo_place_250 ?_
        refine lv_bipush (v := (31 : Int32)) hx hb d_Mo_place_251 (by decide) ?_
        refine lv_iand hx hb d_Mo_place_253 ?_
        refine lv_istore_n (lv' := [(1, .int (((l4 + (2 : Int32)) + ((f 40) l2.toNatClampNeg)) &&& (31 : Int32))), (0, .ref (g 0)), (2, .int l2), (4, .int l4)]) hx hb d_Mo_place_254 rfl hl (Nat.le_of_ble_eq_true rfl) rfl (fun ls hl => ?_)
        have hl : lv_has ls 6 [(0, .ref (g 0)), (1, .int (((l4 + (2 : Int32)) + ((f 40) l2.toNatClampNeg)) &&& (31 : Int32))), (2, .int l2), (4, .int l4)] := lv_sub hl [1, 0, 2, 3] rfl
        exact K255 ls _ _ (((l4 + (2 : Int32)) + ((f 40) l2.toNatClampNeg)) &&& (31 : Int32)) l2 v f (lv_sub hl [0, 1, 2] rfl) hP hD hS hF
      have K111 : ∀ (ls : Array Slot) (H : Heap) (locs : List Loc) (l2 : Int32) (l3 : Int32) (s1 : Int32) (v : Nat → Int32) (f : Nat → Nat → Int32), lv_has ls 6 [(0, .ref (g 0)), (2, .int l2), (3, .int l3)] → va_P G.1 dm_cl (tw G g v f) H → va_D A (tw G g v f) → va_S A s.heap H locs → F_Mo_place_111  (F_Mo_place_67  n67) l2 l3 s1 v f = some RES → W p l e rm_Mo_place s m ([.ref (g 0)] : List Value).toArray below meth c H locs 0 0 (dm_Z below G s ([.ref (g 0)] : List Value).toArray A rm_Mo_place.cells rm_Mo_place.slots (fun ov w' => ov = some (.int RES.1) ∧ w' = (tw G g RES.2.1 RES.2.2))) (F0 m 111 ls [.int s1, .ref (g 0)]) := by
        intro ls H locs l2 l3 s1 v f hl hP hD hS hF
        have hF : (Option.bind (F_Mo_free s1 l3 v f) (fun z1 => (if (0 : Int32) ≤ z1 then (if z1 < 0 ∨ 64 ≤ z1.toNatClampNeg then none else (if l2 < 0 ∨ 64 ≤ l2.toNatClampNeg then none else (if l2 < 0 ∨ 64 ≤ l2.toNatClampNeg then none else (if l3 = (0 : Int32) then (if l2 < 0 ∨ 64 ≤ l2.toNatClampNeg then none else (if ((f 37) l2.toNatClampNeg) < (0 : Int32) then (F_Mo_place_240  ((F_Mo_place_67  n67)) l2 z1 v (va_up (va_up (va_up f 41 (upd (f 41) z1.toNatClampNeg ((1 : Int32) &&& 1))) 39 (upd (f 39) l2.toNatClampNeg z1)) 40 (upd (f 40) l2.toNatClampNeg (0 : Int32)))) else (Option.bind (F_Mo_variableFrom ((f 37) l2.toNatClampNeg) (z1 + (2 : Int32)) v (va_up (va_up (va_up f 41 (upd (f 41) z1.toNatClampNeg ((1 : Int32) &&& 1))) 39 (upd (f 39) l2.toNatClampNeg z1)) 40 (upd (f 40) l2.toNatClampNeg (0 : Int32)))) (fun z2 => (if l2 < 0 ∨ 64 ≤ l2.toNatClampNeg then none else (F_Mo_place_240  ((F_Mo_place_67  n67)) l2 z1 z2.2.1 (va_up z2.2.2 40 (upd (z2.2.2 40) l2.toNatClampNeg (((z2.1 - z1) - (2 : Int32)) &&& (31 : Int32)))))))))) else (if (l2 + (1 : Int32)) < 0 ∨ 64 ≤ (l2 + (1 : Int32)).toNatClampNeg then none else (if (l2 + (1 : Int32)) < 0 ∨ 64 ≤ (l2 + (1 : Int32)).toNatClampNeg then none else (if ((upd (upd (f 39) l2.toNatClampNeg z1) (l2 + (1 : Int32)).toNatClampNeg ((z1 &&& (32 : Int32)) ||| ((z1 + (1 : Int32)) &&& (31 : Int32)))) (l2 + (1 : Int32)).toNatClampNeg) < 0 ∨ 64 ≤ ((upd (upd (f 39) l2.toNatClampNeg z1) (l2 + (1 : Int32)).toNatClampNeg ((z1 &&& (32 : Int32)) ||| ((z1 + (1 : Int32)) &&& (31 : Int32)))) (l2 + (1 : Int32)).toNatClampNeg).toNatClampNeg then none else (if (l2 + (1 : Int32)) < 0 ∨ 64 ≤ (l2 + (1 : Int32)).toNatClampNeg then none else (F_Mo_place_255  ((F_Mo_place_67  n67)) ((z1 + (2 : Int32)) &&& (31 : Int32)) (l2 + (1 : Int32)) v (va_up (va_up (va_up (va_up (va_up (va_up f 41 (upd (f 41) z1.toNatClampNeg ((1 : Int32) &&& 1))) 39 (upd (f 39) l2.toNatClampNeg z1)) 40 (upd (f 40) l2.toNatClampNeg (0 : Int32))) 39 (upd (upd (f 39) l2.toNatClampNeg z1) (l2 + (1 : Int32)).toNatClampNeg ((z1 &&& (32 : Int32)) ||| ((z1 + (1 : Int32)) &&& (31 : Int32))))) 41 (upd (upd (f 41) z1.toNatClampNeg ((1 : Int32) &&& 1)) ((upd (upd (f 39) l2.toNatClampNeg z1) (l2 + (1 : Int32)).toNatClampNeg ((z1 &&& (32 : Int32)) ||| ((z1 + (1 : Int32)) &&& (31 : Int32)))) (l2 + (1 : Int32)).toNatClampNeg).toNatClampNeg ((1 : Int32) &&& 1))) 40 (upd (upd (f 40) l2.toNatClampNeg (0 : Int32)) (l2 + (1 : Int32)).toNatClampNeg (0 : Int32)))))))))))) else (some ((0 : Int32), v, f))))) = some RES := hF
        refine lv_iload_n hx hb d_Mo_place_111 rfl (lv_at hl 2 rfl) ?_
        obtain ⟨z1, hcz1, hF⟩ := dm_bind hF
        refine dm_callVw B [.int s1, .int l3] (c_Mo_free l G g s1 l3 v f z1 hcz1) k_988 k_990 ks_30 k_14 k_991 hd_Mo_free rfl ⟨by decide, by decide⟩ 0 rfl rfl hP hD hS hl.1 (rest := []) rfl (Nat.le_of_ble_eq_true rfl) d_Mo_place_112 ⟨by decide, by decide⟩ (fun ov w' H locs hq hP hD hS => ?_)
        obtain ⟨rfl, rfl⟩ := hq
        have hP : va_P G.1 dm_cl (tw G g v f) H := hP
        have hD : va_D A (tw G g v f) := hD
        refine W.eq (g2 := F0 m 115 ls [.int z1]) rfl ?_
        refine lv_istore (lv' := [(4, .int z1), (0, .ref (g 0)), (2, .int l2), (3, .int l3)]) hx hb d_Mo_place_115 hl (Nat.le_of_ble_eq_true rfl) rfl (fun ls hl => ?_)
        have hl : lv_has ls 6 [(0, .ref (g 0)), (2, .int l2), (3, .int l3), (4, .int z1)] := lv_sub hl [1, 2, 3, 0] rfl
        refine lv_iload hx hb d_Mo_place_117 (lv_at hl 3 rfl) ?_
        refine lv_if_ge (tgt := 124) hx hb d_Mo_place_119 (by decide) (fun (hh : (0 : Int32) ≤ z1) => ?_) (fun (hh : ¬ (0 : Int32) ≤ z1) => ?_)
        · rw [if_pos hh] at hF
          refine lv_aload_n hx hb d_Mo_place_124 rfl (lv_at hl 0 rfl) ?_
          refine tw_g_0_41 B hP k_766 d_Mo_place_125 ?_
          refine lv_iload hx hb d_Mo_place_128 (lv_at hl 3 rfl) ?_
          refine lv_iconst (v := (1 : Int32)) hx hb d_Mo_place_130 (by decide) ?_
          obtain ⟨hi, hF⟩ := dm_chk hF
          refine tw_s_17 (F := (f 41)) B hP hD hS rfl hi d_Mo_place_131 (fun H locs hP hD hS => ?_)
          refine lv_aload_n hx hb d_Mo_place_132 rfl (lv_at hl 0 rfl) ?_
          refine tw_g_0_39 B hP k_764 d_Mo_place_133 ?_
          refine lv_iload_n hx hb d_Mo_place_136 rfl (lv_at hl 1 rfl) ?_
          refine lv_iload hx hb d_Mo_place_137 (lv_at hl 3 rfl) ?_
          obtain ⟨hi, hF⟩ := dm_chk hF
          refine tw_s_15 (F := (f 39)) B hP hD hS rfl hi d_Mo_place_139 (fun H locs hP hD hS => ?_)
          refine lv_aload_n hx hb d_Mo_place_140 rfl (lv_at hl 0 rfl) ?_
          refine tw_g_0_40 B hP k_765 d_Mo_place_141 ?_
          refine lv_iload_n hx hb d_Mo_place_144 rfl (lv_at hl 1 rfl) ?_
          refine lv_iconst (v := (0 : Int32)) hx hb d_Mo_place_145 (by decide) ?_
          obtain ⟨hi, hF⟩ := dm_chk hF
          refine tw_s_16 (F := (f 40)) B hP hD hS rfl hi d_Mo_place_146 (fun H locs hP hD hS => ?_)
          refine lv_iload_n hx hb d_Mo_place_147 rfl (lv_at hl 2 rfl) ?_
          refine lv_if_eq (tgt := 203) hx hb d_Mo_place_148 (by decide) (fun (hh : l3 = (0 : Int32)) => ?_) (fun (hh : ¬ l3 = (0 : Int32)) => ?_)
          · rw [if_pos hh] at hF
            refine lv_aload_n hx hb d_Mo_place_203 rfl (lv_at hl 0 rfl) ?_
            refine tw_g_0_37 B hP k_762 d_Mo_place_204 ?_
            refine lv_iload_n hx hb d_Mo_place_207 rfl (lv_at hl 1 rfl) ?_
            obtain ⟨hi, hF⟩ := dm_chk hF
            refine tw_a_13 (F := (f 37)) B hP rfl hi d_Mo_place_208 ?_
            refine lv_istore (lv' := [(5, .int ((f 37) l2.toNatClampNeg)), (0, .ref (g 0)), (2, .int l2), (3, .int l3), (4, .int z1)]) hx hb d_Mo_place_209 hl (Nat.le_of_ble_eq_true rfl) rfl (fun ls hl => ?_)
            have hl : lv_has ls 6 [(0, .ref (g 0)), (2, .int l2), (3, .int l3), (4, .int z1), (5, .int ((f 37) l2.toNatClampNeg))] := lv_sub hl [1, 2, 3, 4, 0] rfl
            refine lv_iload hx hb d_Mo_place_211 (lv_at hl 4 rfl) ?_
            refine lv_if_lt (tgt := 240) hx hb d_Mo_place_213 (by decide) (fun (hh : ((f 37) l2.toNatClampNeg) < (0 : Int32)) => ?_) (fun (hh : ¬ ((f 37) l2.toNatClampNeg) < (0 : Int32)) => ?_)
            · rw [if_pos hh] at hF
              exact K240 ls _ _ l2 z1 v (va_up (va_up (va_up f 41 (upd (f 41) z1.toNatClampNeg ((1 : Int32) &&& 1))) 39 (upd (f 39) l2.toNatClampNeg z1)) 40 (upd (f 40) l2.toNatClampNeg (0 : Int32))) (lv_sub hl [0, 1, 3] rfl) hP hD hS hF
            · rw [if_neg hh] at hF
              refine lv_aload_n hx hb d_Mo_place_216 rfl (lv_at hl 0 rfl) ?_
              refine tw_g_0_40 B hP k_765 d_Mo_place_217 ?_
              refine lv_iload_n hx hb d_Mo_place_220 rfl (lv_at hl 1 rfl) ?_
              refine lv_aload_n hx hb d_Mo_place_221 rfl (lv_at hl 0 rfl) ?_
              refine lv_iload hx hb d_Mo_place_222 (lv_at hl 4 rfl) ?_
              refine lv_iload hx hb d_Mo_place_224 (lv_at hl 3 rfl) ?_
              refine lv_iconst (v := (2 : Int32)) hx hb d_Mo_place_226 (by decide) ?_
              refine lv_iadd hx hb d_Mo_place_227 ?_
              obtain ⟨z2, hcz2, hF⟩ := dm_bind hF
              refine dm_callVw B [.int ((f 37) l2.toNatClampNeg), .int (z1 + (2 : Int32))] (c_Mo_variableFrom l G g ((f 37) l2.toNatClampNeg) (z1 + (2 : Int32)) v (va_up (va_up (va_up f 41 (upd (f 41) z1.toNatClampNeg ((1 : Int32) &&& 1))) 39 (upd (f 39) l2.toNatClampNeg z1)) 40 (upd (f 40) l2.toNatClampNeg (0 : Int32))) z2 hcz2) k_992 k_994 ks_31 k_14 k_995 hd_Mo_variableFrom rfl ⟨by decide, by decide⟩ 0 rfl rfl hP hD hS hl.1 (rest := [.int l2, .ref (g 41)]) rfl (Nat.le_of_ble_eq_true rfl) d_Mo_place_228 ⟨by decide, by decide⟩ (fun ov w' H locs hq hP hD hS => ?_)
              obtain ⟨rfl, rfl⟩ := hq
              have hP : va_P G.1 dm_cl (tw G g z2.2.1 z2.2.2) H := hP
              have hD : va_D A (tw G g z2.2.1 z2.2.2) := hD
              refine W.eq (g2 := F0 m 231 ls [.int z2.1, .int l2, .ref (g 41)]) rfl ?_
              refine lv_iload hx hb d_Mo_place_231 (lv_at hl 3 rfl) ?_
              refine lv_isub hx hb d_Mo_place_233 ?_
              refine lv_iconst (v := (2 : Int32)) hx hb d_Mo_place_234 (by decide) ?_
              refine lv_isub hx hb d_Mo_place_235 ?_
              refine lv_bipush (v := (31 : Int32)) hx hb d_Mo_place_236 (by decide) ?_
              refine lv_iand hx hb d_Mo_place_238 ?_
              obtain ⟨hi, hF⟩ := dm_chk hF
              refine tw_s_16 (F := (z2.2.2 40)) B hP hD hS rfl hi d_Mo_place_239 (fun H locs hP hD hS => ?_)
              exact K240 ls _ _ l2 z1 z2.2.1 (va_up z2.2.2 40 (upd (z2.2.2 40) l2.toNatClampNeg (((z2.1 - z1) - (2 : Int32)) &&& (31 : Int32)))) (lv_sub hl [0, 1, 3] rfl) hP hD hS hF
          · rw [if_neg hh] at hF
            refine lv_iinc (k := 1) (v := (l2 + (1 : Int32))) (lv' := [(2, .int (l2 + (1 : Int32))), (0, .ref (g 0)), (3, .int l3), (4, .int z1)]) hx hb d_Mo_place_151 hl rfl (congrArg (fun q => l2 + q) (by decide)) (Nat.le_of_ble_eq_true rfl) rfl (fun ls hl => ?_)
            have hl : lv_has ls 6 [(0, .ref (g 0)), (2, .int (l2 + (1 : Int32))), (3, .int l3), (4, .int z1)] := lv_sub hl [1, 0, 2, 3] rfl
            refine lv_aload_n hx hb d_Mo_place_154 rfl (lv_at hl 0 rfl) ?_
            refine tw_g_0_39 B hP k_764 d_Mo_place_155 ?_
            refine lv_iload_n hx hb d_Mo_place_158 rfl (lv_at hl 1 rfl) ?_
            refine lv_iload hx hb d_Mo_place_159 (lv_at hl 3 rfl) ?_
            refine lv_bipush (v := (32 : Int32)) hx hb d_Mo_place_161 (by decide) ?_
            refine lv_iand hx hb d_Mo_place_163 ?_
            refine lv_iload hx hb d_Mo_place_164 (lv_at hl 3 rfl) ?_
            refine lv_iconst (v := (1 : Int32)) hx hb d_Mo_place_166 (by decide) ?_
            refine lv_iadd hx hb d_Mo_place_167 ?_
            refine lv_bipush (v := (31 : Int32)) hx hb d_Mo_place_168 (by decide) ?_
            refine lv_iand hx hb d_Mo_place_170 ?_
            refine lv_ior hx hb d_Mo_place_171 ?_
            obtain ⟨hi, hF⟩ := dm_chk hF
            refine tw_s_15 (F := (upd (f 39) l2.toNatClampNeg z1)) B hP hD hS rfl hi d_Mo_place_172 (fun H locs hP hD hS => ?_)
            refine lv_aload_n hx hb d_Mo_place_173 rfl (lv_at hl 0 rfl) ?_
            refine tw_g_0_41 B hP k_766 d_Mo_place_174 ?_
            refine lv_aload_n hx hb d_Mo_place_177 rfl (lv_at hl 0 rfl) ?_
            refine tw_g_0_39 B hP k_764 d_Mo_place_178 ?_
            refine lv_iload_n hx hb d_Mo_place_181 rfl (lv_at hl 1 rfl) ?_
            obtain ⟨hi, hF⟩ := dm_chk hF
            refine tw_a_15 (F := (upd (upd (f 39) l2.toNatClampNeg z1) (l2 + (1 : Int32)).toNatClampNeg ((z1 &&& (32 : Int32)) ||| ((z1 + (1 : Int32)) &&& (31 : Int32))))) B hP rfl hi d_Mo_place_182 ?_
            refine lv_iconst (v := (1 : Int32)) hx hb d_Mo_place_183 (by decide) ?_
            obtain ⟨hi, hF⟩ := dm_chk hF
            refine tw_s_17 (F := (upd (f 41) z1.toNatClampNeg ((1 : Int32) &&& 1))) B hP hD hS rfl hi d_Mo_place_184 (fun H locs hP hD hS => ?_)
            refine lv_aload_n hx hb d_Mo_place_185 rfl (lv_at hl 0 rfl) ?_
            refine tw_g_0_40 B hP k_765 d_Mo_place_186 ?_
            refine lv_iload_n hx hb d_Mo_place_189 rfl (lv_at hl 1 rfl) ?_
            refine lv_iconst (v := (0 : Int32)) hx hb d_Mo_place_190 (by decide) ?_
            obtain ⟨hi, hF⟩ := dm_chk hF
            refine tw_s_16 (F := (upd (f 40) l2.toNatClampNeg (0 : Int32))) B hP hD hS rfl hi d_Mo_place_191 (fun H locs hP hD hS => ?_)
            refine lv_iload hx hb d_Mo_place_192 (lv_at hl 3 rfl) ?_
            refine lv_iconst (v := (2 : Int32)) hx hb d_Mo_place_194 (by decide) ?_
            refine lv_iadd hx hb d_Mo_place_195 ?_
            refine lv_bipush (v := (31 : Int32)) hx hb d_Mo_place_196 (by decide) ?_
            refine lv_iand hx hb d_Mo_place_198 ?_
            refine lv_istore_n (lv' := [(1, .int ((z1 + (2 : Int32)) &&& (31 : Int32))), (0, .ref (g 0)), (2, .int (l2 + (1 : Int32))), (3, .int l3), (4, .int z1)]) hx hb d_Mo_place_199 rfl hl (Nat.le_of_ble_eq_true rfl) rfl (fun ls hl => ?_)
            have hl : lv_has ls 6 [(0, .ref (g 0)), (1, .int ((z1 + (2 : Int32)) &&& (31 : Int32))), (2, .int (l2 + (1 : Int32))), (3, .int l3), (4, .int z1)] := lv_sub hl [1, 0, 2, 3, 4] rfl
            refine lv_goto (tgt := 255) hx hb d_Mo_place_200 (by decide) ?_
            exact K255 ls _ _ ((z1 + (2 : Int32)) &&& (31 : Int32)) (l2 + (1 : Int32)) v (va_up (va_up (va_up (va_up (va_up (va_up f 41 (upd (f 41) z1.toNatClampNeg ((1 : Int32) &&& 1))) 39 (upd (f 39) l2.toNatClampNeg z1)) 40 (upd (f 40) l2.toNatClampNeg (0 : Int32))) 39 (upd (upd (f 39) l2.toNatClampNeg z1) (l2 + (1 : Int32)).toNatClampNeg ((z1 &&& (32 : Int32)) ||| ((z1 + (1 : Int32)) &&& (31 : Int32))))) 41 (upd (upd (f 41) z1.toNatClampNeg ((1 : Int32) &&& 1)) ((upd (upd (f 39) l2.toNatClampNeg z1) (l2 + (1 : Int32)).toNatClampNeg ((z1 &&& (32 : Int32)) ||| ((z1 + (1 : Int32)) &&& (31 : Int32)))) (l2 + (1 : Int32)).toNatClampNeg).toNatClampNeg ((1 : Int32) &&& 1))) 40 (upd (upd (f 40) l2.toNatClampNeg (0 : Int32)) (l2 + (1 : Int32)).toNatClampNeg (0 : Int32))) (lv_sub hl [0, 1, 2] rfl) hP hD hS hF
        · rw [if_neg hh] at hF
          refine lv_iconst (v := (0 : Int32)) hx hb d_Mo_place_122 (by decide) ?_
          have hF := Option.some.inj hF
          subst hF
          exact dm_ret B (by decide) d_Mo_place_123 (by decide) (by decide) hP hD hS ⟨rfl, rfl⟩
      have K98 : ∀ (ls : Array Slot) (H : Heap) (locs : List Loc) (l1 : Int32) (l2 : Int32) (s0 : Int32) (v : Nat → Int32) (f : Nat → Nat → Int32), lv_has ls 6 [(0, .ref (g 0)), (1, .int l1), (2, .int l2)] → va_P G.1 dm_cl (tw G g v f) H → va_D A (tw G g v f) → va_S A s.heap H locs → F_Mo_place_98  (F_Mo_place_67  n67) l1 l2 s0 v f = some RES → W p l e rm_Mo_place s m ([.ref (g 0)] : List Value).toArray below meth c H locs 0 0 (dm_Z below G s ([.ref (g 0)] : List Value).toArray A rm_Mo_place.cells rm_Mo_place.slots (fun ov w' => ov = some (.int RES.1) ∧ w' = (tw G g RES.2.1 RES.2.2))) (F0 m 98 ls [.int s0]) := by
        intro ls H locs l1 l2 s0 v f hl hP hD hS hF
        have hF : (if s0 = (0 : Int32) then (F_Mo_place_111  ((F_Mo_place_67  n67)) l2 s0 l1 v f) else (F_Mo_place_111  ((F_Mo_place_67  n67)) l2 s0 (l1 + (1 : Int32)) v f)) = some RES := hF
        refine lv_istore_n (lv' := [(3, .int s0), (0, .ref (g 0)), (1, .int l1), (2, .int l2)]) hx hb d_Mo_place_98 rfl hl (Nat.le_of_ble_eq_true rfl) rfl (fun ls hl => ?_)
        have hl : lv_has ls 6 [(0, .ref (g 0)), (1, .int l1), (2, .int l2), (3, .int s0)] := lv_sub hl [1, 2, 3, 0] rfl
        refine lv_aload_n hx hb d_Mo_place_99 rfl (lv_at hl 0 rfl) ?_
        refine lv_iload_n hx hb d_Mo_place_100 rfl (lv_at hl 3 rfl) ?_
        refine lv_if_eq (tgt := 110) hx hb d_Mo_place_101 (by decide) (fun (hh : s0 = (0 : Int32)) => ?_) (fun (hh : ¬ s0 = (0 : Int32)) => ?_)
        · rw [if_pos hh] at hF
          refine lv_iload_n hx hb d_Mo_place_110 rfl (lv_at hl 1 rfl) ?_
          exact K111 ls _ _ l2 s0 l1 v f (lv_sub hl [0, 2, 3] rfl) hP hD hS hF
        · rw [if_neg hh] at hF
          refine lv_iload_n hx hb d_Mo_place_104 rfl (lv_at hl 1 rfl) ?_
          refine lv_iconst (v := (1 : Int32)) hx hb d_Mo_place_105 (by decide) ?_
          refine lv_iadd hx hb d_Mo_place_106 ?_
          refine lv_goto (tgt := 111) hx hb d_Mo_place_107 (by decide) ?_
          exact K111 ls _ _ l2 s0 (l1 + (1 : Int32)) v f (lv_sub hl [0, 2, 3] rfl) hP hD hS hF
      have K97 : ∀ (ls : Array Slot) (H : Heap) (locs : List Loc) (l1 : Int32) (l2 : Int32) (v : Nat → Int32) (f : Nat → Nat → Int32), lv_has ls 6 [(0, .ref (g 0)), (1, .int l1), (2, .int l2)] → va_P G.1 dm_cl (tw G g v f) H → va_D A (tw G g v f) → va_S A s.heap H locs → F_Mo_place_97  (F_Mo_place_67  n67) l1 l2 v f = some RES → W p l e rm_Mo_place s m ([.ref (g 0)] : List Value).toArray below meth c H locs 0 0 (dm_Z below G s ([.ref (g 0)] : List Value).toArray A rm_Mo_place.cells rm_Mo_place.slots (fun ov w' => ov = some (.int RES.1) ∧ w' = (tw G g RES.2.1 RES.2.2))) (F0 m 97 ls []) := by
        intro ls H locs l1 l2 v f hl hP hD hS hF
        have hF : (F_Mo_place_98  ((F_Mo_place_67  n67)) l1 l2 (0 : Int32) v f) = some RES := hF
        refine lv_iconst (v := (0 : Int32)) hx hb d_Mo_place_97 (by decide) ?_
        exact K98 ls _ _ l1 l2 (0 : Int32) v f (lv_sub hl [0, 1, 2] rfl) hP hD hS hF
      intro ls H locs l1 l2 v f hl hP hD hS hF
      have hF : (if (v 34) ≤ l2 then (some ((1 : Int32), v, f)) else (if l2 < 0 ∨ 64 ≤ l2.toNatClampNeg then none else (if ((f 35) l2.toNatClampNeg) = (0 : Int32) then (if l2 < 0 ∨ 64 ≤ l2.toNatClampNeg then none else (if ((f 36) l2.toNatClampNeg) = (0 : Int32) then (F_Mo_place_98  (F_Mo_place_67  n67) l1 l2 (1 : Int32) v f) else (F_Mo_place_97  (F_Mo_place_67  n67) l1 l2 v f))) else (F_Mo_place_97  (F_Mo_place_67  n67) l1 l2 v f)))) = some RES := hF
      refine lv_iload_n hx hb d_Mo_place_67 rfl (lv_at hl 2 rfl) ?_
      refine lv_aload_n hx hb d_Mo_place_68 rfl (lv_at hl 0 rfl) ?_
      refine tw_g_0_34 (x := (v 34)) B hP rfl k_759 d_Mo_place_69 ?_
      refine lv_icmp_ge (tgt := 261) hx hb d_Mo_place_72 (by decide) (fun (hh : (v 34) ≤ l2) => ?_) (fun (hh : ¬ (v 34) ≤ l2) => ?_)
      · rw [if_pos hh] at hF
        refine lv_iconst (v := (1 : Int32)) hx hb d_Mo_place_261 (by decide) ?_
        have hF := Option.some.inj hF
        subst hF
        exact dm_ret B (by decide) d_Mo_place_262 (by decide) (by decide) hP hD hS ⟨rfl, rfl⟩
      · rw [if_neg hh] at hF
        refine lv_aload_n hx hb d_Mo_place_75 rfl (lv_at hl 0 rfl) ?_
        refine tw_g_0_35 B hP k_760 d_Mo_place_76 ?_
        refine lv_iload_n hx hb d_Mo_place_79 rfl (lv_at hl 2 rfl) ?_
        obtain ⟨hi, hF⟩ := dm_chk hF
        refine tw_a_11 (F := (f 35)) B hP rfl hi d_Mo_place_80 ?_
        refine lv_if_ne (tgt := 97) hx hb d_Mo_place_81 (by decide) (fun (hh : ¬ ((f 35) l2.toNatClampNeg) = (0 : Int32)) => ?_) (fun (hh : ((f 35) l2.toNatClampNeg) = (0 : Int32)) => ?_)
        · rw [if_neg hh] at hF
          exact K97 ls _ _ l1 l2 v f (lv_sub hl [0, 1, 2] rfl) hP hD hS hF
        · rw [if_pos hh] at hF
          refine lv_aload_n hx hb d_Mo_place_84 rfl (lv_at hl 0 rfl) ?_
          refine tw_g_0_36 B hP k_761 d_Mo_place_85 ?_
          refine lv_iload_n hx hb d_Mo_place_88 rfl (lv_at hl 2 rfl) ?_
          obtain ⟨hi, hF⟩ := dm_chk hF
          refine tw_a_12 (F := (f 36)) B hP rfl hi d_Mo_place_89 ?_
          refine lv_if_ne (tgt := 97) hx hb d_Mo_place_90 (by decide) (fun (hh : ¬ ((f 36) l2.toNatClampNeg) = (0 : Int32)) => ?_) (fun (hh : ((f 36) l2.toNatClampNeg) = (0 : Int32)) => ?_)
          · rw [if_neg hh] at hF
            exact K97 ls _ _ l1 l2 v f (lv_sub hl [0, 1, 2] rfl) hP hD hS hF
          · rw [if_pos hh] at hF
            refine lv_iconst (v := (1 : Int32)) hx hb d_Mo_place_93 (by decide) ?_
            refine lv_goto (tgt := 98) hx hb d_Mo_place_94 (by decide) ?_
            exact K98 ls _ _ l1 l2 (1 : Int32) v f (lv_sub hl [0, 1, 2] rfl) hP hD hS hF
  have K44 : ∀ (n44 : Nat) (ls : Array Slot) (H : Heap) (locs : List Loc) (l1 : Int32) (v : Nat → Int32) (f : Nat → Nat → Int32), lv_has ls 6 [(0, .ref (g 0)), (1, .int l1)] → va_P G.1 dm_cl (tw G g v f) H → va_D A (tw G g v f) → va_S A s.heap H locs → F_Mo_place_44  n44 l1 v f = some RES → W p l e rm_Mo_place s m ([.ref (g 0)] : List Value).toArray below meth c H locs 0 0 (dm_Z below G s ([.ref (g 0)] : List Value).toArray A rm_Mo_place.cells rm_Mo_place.slots (fun ov w' => ov = some (.int RES.1) ∧ w' = (tw G g RES.2.1 RES.2.2))) (F0 m 44 ls []) := by
    intro n44
    induction n44 with
    | zero => intro ls H locs l1 v f hl hP hD hS hF; cases hF
    | succ n44 ih44 =>
      intro ls H locs l1 v f hl hP hD hS hF
      have hF : (if (16 : Int32) ≤ l1 then (F_Mo_place_67  100 (0 : Int32) (0 : Int32) v f) else (if l1 < 0 ∨ 16 ≤ l1.toNatClampNeg then none else (F_Mo_place_44  n44 (l1 + (1 : Int32)) v (va_up f 43 (upd (f 43) l1.toNatClampNeg (-1 : Int32)))))) = some RES := hF
      refine lv_iload_n hx hb d_Mo_place_44 rfl (lv_at hl 1 rfl) ?_
      refine lv_bipush (v := (16 : Int32)) hx hb d_Mo_place_45 (by decide) ?_
      refine lv_icmp_ge (tgt := 63) hx hb d_Mo_place_47 (by decide) (fun (hh : (16 : Int32) ≤ l1) => ?_) (fun (hh : ¬ (16 : Int32) ≤ l1) => ?_)
      · rw [if_pos hh] at hF
        refine lv_iconst (v := (0 : Int32)) hx hb d_Mo_place_63 (by decide) ?_
        refine lv_istore_n (lv' := [(1, .int (0 : Int32)), (0, .ref (g 0))]) hx hb d_Mo_place_64 rfl hl (Nat.le_of_ble_eq_true rfl) rfl (fun ls hl => ?_)
        have hl : lv_has ls 6 [(0, .ref (g 0)), (1, .int (0 : Int32))] := lv_sub hl [1, 0] rfl
        refine lv_iconst (v := (0 : Int32)) hx hb d_Mo_place_65 (by decide) ?_
        refine lv_istore_n (lv' := [(2, .int (0 : Int32)), (0, .ref (g 0)), (1, .int (0 : Int32))]) hx hb d_Mo_place_66 rfl hl (Nat.le_of_ble_eq_true rfl) rfl (fun ls hl => ?_)
        have hl : lv_has ls 6 [(0, .ref (g 0)), (1, .int (0 : Int32)), (2, .int (0 : Int32))] := lv_sub hl [1, 2, 0] rfl
        exact K67 100 ls _ _ (0 : Int32) (0 : Int32) v f (lv_sub hl [0, 1, 2] rfl) hP hD hS hF
      · rw [if_neg hh] at hF
        refine lv_aload_n hx hb d_Mo_place_50 rfl (lv_at hl 0 rfl) ?_
        refine tw_g_0_43 B hP k_768 d_Mo_place_51 ?_
        refine lv_iload_n hx hb d_Mo_place_54 rfl (lv_at hl 1 rfl) ?_
        refine lv_iconst (v := (-1 : Int32)) hx hb d_Mo_place_55 (by decide) ?_
        obtain ⟨hi, hF⟩ := dm_chk hF
        refine tw_s_19 (F := (f 43)) B hP hD hS rfl hi d_Mo_place_56 (fun H locs hP hD hS => ?_)
        refine lv_iinc (k := 1) (v := (l1 + (1 : Int32))) (lv' := [(1, .int (l1 + (1 : Int32))), (0, .ref (g 0))]) hx hb d_Mo_place_57 hl rfl (congrArg (fun q => l1 + q) (by decide)) (Nat.le_of_ble_eq_true rfl) rfl (fun ls hl => ?_)
        have hl : lv_has ls 6 [(0, .ref (g 0)), (1, .int (l1 + (1 : Int32)))] := lv_sub hl [1, 0] rfl
        refine lv_goto (tgt := 44) hx hb d_Mo_place_60 (by decide) ?_
        exact ih44 ls _ _ (l1 + (1 : Int32)) v (va_up f 43 (upd (f 43) l1.toNatClampNeg (-1 : Int32))) (lv_sub hl [0, 1] rfl) hP hD hS hF
  have K23 : ∀ (n23 : Nat) (ls : Array Slot) (H : Heap) (locs : List Loc) (l1 : Int32) (v : Nat → Int32) (f : Nat → Nat → Int32), lv_has ls 6 [(0, .ref (g 0)), (1, .int l1)] → va_P G.1 dm_cl (tw G g v f) H → va_D A (tw G g v f) → va_S A s.heap H locs → F_Mo_place_23  n23 l1 v f = some RES → W p l e rm_Mo_place s m ([.ref (g 0)] : List Value).toArray below meth c H locs 0 0 (dm_Z below G s ([.ref (g 0)] : List Value).toArray A rm_Mo_place.cells rm_Mo_place.slots (fun ov w' => ov = some (.int RES.1) ∧ w' = (tw G g RES.2.1 RES.2.2))) (F0 m 23 ls []) := by
    intro n23
    induction n23 with
    | zero => intro ls H locs l1 v f hl hP hD hS hF; cases hF
    | succ n23 ih23 =>
      intro ls H locs l1 v f hl hP hD hS hF
      have hF : (if (32 : Int32) ≤ l1 then (F_Mo_place_44  100 (0 : Int32) v f) else (if l1 < 0 ∨ 32 ≤ l1.toNatClampNeg then none else (F_Mo_place_23  n23 (l1 + (1 : Int32)) v (va_up f 42 (upd (f 42) l1.toNatClampNeg ((0 : Int32) &&& 1)))))) = some RES := hF
      refine lv_iload_n hx hb d_Mo_place_23 rfl (lv_at hl 1 rfl) ?_
      refine lv_bipush (v := (32 : Int32)) hx hb d_Mo_place_24 (by decide) ?_
      refine lv_icmp_ge (tgt := 42) hx hb d_Mo_place_26 (by decide) (fun (hh : (32 : Int32) ≤ l1) => ?_) (fun (hh : ¬ (32 : Int32) ≤ l1) => ?_)
      · rw [if_pos hh] at hF
        refine lv_iconst (v := (0 : Int32)) hx hb d_Mo_place_42 (by decide) ?_
        refine lv_istore_n (lv' := [(1, .int (0 : Int32)), (0, .ref (g 0))]) hx hb d_Mo_place_43 rfl hl (Nat.le_of_ble_eq_true rfl) rfl (fun ls hl => ?_)
        have hl : lv_has ls 6 [(0, .ref (g 0)), (1, .int (0 : Int32))] := lv_sub hl [1, 0] rfl
        exact K44 100 ls _ _ (0 : Int32) v f (lv_sub hl [0, 1] rfl) hP hD hS hF
      · rw [if_neg hh] at hF
        refine lv_aload_n hx hb d_Mo_place_29 rfl (lv_at hl 0 rfl) ?_
        refine tw_g_0_42 B hP k_767 d_Mo_place_30 ?_
        refine lv_iload_n hx hb d_Mo_place_33 rfl (lv_at hl 1 rfl) ?_
        refine lv_iconst (v := (0 : Int32)) hx hb d_Mo_place_34 (by decide) ?_
        obtain ⟨hi, hF⟩ := dm_chk hF
        refine tw_s_18 (F := (f 42)) B hP hD hS rfl hi d_Mo_place_35 (fun H locs hP hD hS => ?_)
        refine lv_iinc (k := 1) (v := (l1 + (1 : Int32))) (lv' := [(1, .int (l1 + (1 : Int32))), (0, .ref (g 0))]) hx hb d_Mo_place_36 hl rfl (congrArg (fun q => l1 + q) (by decide)) (Nat.le_of_ble_eq_true rfl) rfl (fun ls hl => ?_)
        have hl : lv_has ls 6 [(0, .ref (g 0)), (1, .int (l1 + (1 : Int32)))] := lv_sub hl [1, 0] rfl
        refine lv_goto (tgt := 23) hx hb d_Mo_place_39 (by decide) ?_
        exact ih23 ls _ _ (l1 + (1 : Int32)) v (va_up f 42 (upd (f 42) l1.toNatClampNeg ((0 : Int32) &&& 1))) (lv_sub hl [0, 1] rfl) hP hD hS hF
  have K2 : ∀ (n2 : Nat) (ls : Array Slot) (H : Heap) (locs : List Loc) (l1 : Int32) (v : Nat → Int32) (f : Nat → Nat → Int32), lv_has ls 6 [(0, .ref (g 0)), (1, .int l1)] → va_P G.1 dm_cl (tw G g v f) H → va_D A (tw G g v f) → va_S A s.heap H locs → F_Mo_place_2  n2 l1 v f = some RES → W p l e rm_Mo_place s m ([.ref (g 0)] : List Value).toArray below meth c H locs 0 0 (dm_Z below G s ([.ref (g 0)] : List Value).toArray A rm_Mo_place.cells rm_Mo_place.slots (fun ov w' => ov = some (.int RES.1) ∧ w' = (tw G g RES.2.1 RES.2.2))) (F0 m 2 ls []) := by
    intro n2
    induction n2 with
    | zero => intro ls H locs l1 v f hl hP hD hS hF; cases hF
    | succ n2 ih2 =>
      intro ls H locs l1 v f hl hP hD hS hF
      have hF : (if (64 : Int32) ≤ l1 then (F_Mo_place_23  100 (0 : Int32) v f) else (if l1 < 0 ∨ 64 ≤ l1.toNatClampNeg then none else (F_Mo_place_2  n2 (l1 + (1 : Int32)) v (va_up f 41 (upd (f 41) l1.toNatClampNeg ((0 : Int32) &&& 1)))))) = some RES := hF
      refine lv_iload_n hx hb d_Mo_place_2 rfl (lv_at hl 1 rfl) ?_
      refine lv_bipush (v := (64 : Int32)) hx hb d_Mo_place_3 (by decide) ?_
      refine lv_icmp_ge (tgt := 21) hx hb d_Mo_place_5 (by decide) (fun (hh : (64 : Int32) ≤ l1) => ?_) (fun (hh : ¬ (64 : Int32) ≤ l1) => ?_)
      · rw [if_pos hh] at hF
        refine lv_iconst (v := (0 : Int32)) hx hb d_Mo_place_21 (by decide) ?_
        refine lv_istore_n (lv' := [(1, .int (0 : Int32)), (0, .ref (g 0))]) hx hb d_Mo_place_22 rfl hl (Nat.le_of_ble_eq_true rfl) rfl (fun ls hl => ?_)
        have hl : lv_has ls 6 [(0, .ref (g 0)), (1, .int (0 : Int32))] := lv_sub hl [1, 0] rfl
        exact K23 100 ls _ _ (0 : Int32) v f (lv_sub hl [0, 1] rfl) hP hD hS hF
      · rw [if_neg hh] at hF
        refine lv_aload_n hx hb d_Mo_place_8 rfl (lv_at hl 0 rfl) ?_
        refine tw_g_0_41 B hP k_766 d_Mo_place_9 ?_
        refine lv_iload_n hx hb d_Mo_place_12 rfl (lv_at hl 1 rfl) ?_
        refine lv_iconst (v := (0 : Int32)) hx hb d_Mo_place_13 (by decide) ?_
        obtain ⟨hi, hF⟩ := dm_chk hF
        refine tw_s_17 (F := (f 41)) B hP hD hS rfl hi d_Mo_place_14 (fun H locs hP hD hS => ?_)
        refine lv_iinc (k := 1) (v := (l1 + (1 : Int32))) (lv' := [(1, .int (l1 + (1 : Int32))), (0, .ref (g 0))]) hx hb d_Mo_place_15 hl rfl (congrArg (fun q => l1 + q) (by decide)) (Nat.le_of_ble_eq_true rfl) rfl (fun ls hl => ?_)
        have hl : lv_has ls 6 [(0, .ref (g 0)), (1, .int (l1 + (1 : Int32)))] := lv_sub hl [1, 0] rfl
        refine lv_goto (tgt := 2) hx hb d_Mo_place_18 (by decide) ?_
        exact ih2 ls _ _ (l1 + (1 : Int32)) v (va_up f 41 (upd (f 41) l1.toNatClampNeg ((0 : Int32) &&& 1))) (lv_sub hl [0, 1] rfl) hP hD hS hF
  have hF : (F_Mo_place_2  100 (0 : Int32) v f) = some RES := hF
  refine lv_iconst (v := (0 : Int32)) hx hb d_Mo_place_0 (by decide) ?_
  refine lv_istore_n (lv' := [(1, .int (0 : Int32)), (0, .ref (g 0))]) hx hb d_Mo_place_1 rfl hl (Nat.le_of_ble_eq_true rfl) rfl (fun ls hl => ?_)
  have hl : lv_has ls 6 [(0, .ref (g 0)), (1, .int (0 : Int32))] := lv_sub hl [1, 0] rfl
  exact K2 100 ls _ _ (0 : Int32) v f (lv_sub hl [0, 1] rfl) hP hD hS hF
