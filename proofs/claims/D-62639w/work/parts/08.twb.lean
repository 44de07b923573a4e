abbrev b_Mo_get : ByteArray := prog_16_method_12_code
abbrev y_Mo_get : MethodName := { cls := "DelayMachineModel", name := "get", desc := "(I)S" }
theorem d_Mo_get_0 : decode b_Mo_get 0 = .ok (.aload_n 0, 1) := by decide +kernel
theorem d_Mo_get_1 : decode b_Mo_get 1 = .ok (.getfield 13, 3) := by decide +kernel
theorem d_Mo_get_4 : decode b_Mo_get 4 = .ok (.sipush (128), 3) := by decide +kernel
theorem d_Mo_get_7 : decode b_Mo_get 7 = .ok (.saload, 1) := by decide +kernel
theorem d_Mo_get_8 : decode b_Mo_get 8 = .ok (.istore_n 2, 1) := by decide +kernel
theorem d_Mo_get_9 : decode b_Mo_get 9 = .ok (.aload_n 0, 1) := by decide +kernel
theorem d_Mo_get_10 : decode b_Mo_get 10 = .ok (.getfield 13, 3) := by decide +kernel
theorem d_Mo_get_13 : decode b_Mo_get 13 = .ok (.sipush (129), 3) := by decide +kernel
theorem d_Mo_get_16 : decode b_Mo_get 16 = .ok (.saload, 1) := by decide +kernel
theorem d_Mo_get_17 : decode b_Mo_get 17 = .ok (.istore_n 3, 1) := by decide +kernel
theorem d_Mo_get_18 : decode b_Mo_get 18 = .ok (.iload_n 1, 1) := by decide +kernel
theorem d_Mo_get_19 : decode b_Mo_get 19 = .ok (.tableswitch (174) (0) (14) #[73, 75, 77, 77, 77, 77, 97, 106, 115, 131, 136, 141, 143, 148, 169], 73) := by decide +kernel
theorem d_Mo_get_92 : decode b_Mo_get 92 = .ok (.iconst 0, 1) := by decide +kernel
theorem d_Mo_get_93 : decode b_Mo_get 93 = .ok (.ireturn, 1) := by decide +kernel
theorem d_Mo_get_94 : decode b_Mo_get 94 = .ok (.iconst 1, 1) := by decide +kernel
theorem d_Mo_get_95 : decode b_Mo_get 95 = .ok (.ireturn, 1) := by decide +kernel
theorem d_Mo_get_96 : decode b_Mo_get 96 = .ok (.aload_n 0, 1) := by decide +kernel
theorem d_Mo_get_97 : decode b_Mo_get 97 = .ok (.getfield 13, 3) := by decide +kernel
theorem d_Mo_get_100 : decode b_Mo_get 100 = .ok (.bipush (32), 2) := by decide +kernel
theorem d_Mo_get_102 : decode b_Mo_get 102 = .ok (.iload_n 1, 1) := by decide +kernel
theorem d_Mo_get_103 : decode b_Mo_get 103 = .ok (.iconst 2, 1) := by decide +kernel
theorem d_Mo_get_104 : decode b_Mo_get 104 = .ok (.isub, 1) := by decide +kernel
theorem d_Mo_get_105 : decode b_Mo_get 105 = .ok (.imul, 1) := by decide +kernel
theorem d_Mo_get_106 : decode b_Mo_get 106 = .ok (.aload_n 0, 1) := by decide +kernel
theorem d_Mo_get_107 : decode b_Mo_get 107 = .ok (.getfield 128, 3) := by decide +kernel
theorem d_Mo_get_110 : decode b_Mo_get 110 = .ok (.bipush (32), 2) := by decide +kernel
theorem d_Mo_get_112 : decode b_Mo_get 112 = .ok (.irem, 1) := by decide +kernel
theorem d_Mo_get_113 : decode b_Mo_get 113 = .ok (.iadd, 1) := by decide +kernel
theorem d_Mo_get_114 : decode b_Mo_get 114 = .ok (.saload, 1) := by decide +kernel
theorem d_Mo_get_115 : decode b_Mo_get 115 = .ok (.ireturn, 1) := by decide +kernel
theorem d_Mo_get_116 : decode b_Mo_get 116 = .ok (.aload_n 0, 1) := by decide +kernel
theorem d_Mo_get_117 : decode b_Mo_get 117 = .ok (.getfield 13, 3) := by decide +kernel
theorem d_Mo_get_120 : decode b_Mo_get 120 = .ok (.sipush (128), 3) := by decide +kernel
theorem d_Mo_get_123 : decode b_Mo_get 123 = .ok (.saload, 1) := by decide +kernel
theorem d_Mo_get_124 : decode b_Mo_get 124 = .ok (.ireturn, 1) := by decide +kernel
theorem d_Mo_get_125 : decode b_Mo_get 125 = .ok (.aload_n 0, 1) := by decide +kernel
theorem d_Mo_get_126 : decode b_Mo_get 126 = .ok (.getfield 13, 3) := by decide +kernel
theorem d_Mo_get_129 : decode b_Mo_get 129 = .ok (.sipush (129), 3) := by decide +kernel
theorem d_Mo_get_132 : decode b_Mo_get 132 = .ok (.saload, 1) := by decide +kernel
theorem d_Mo_get_133 : decode b_Mo_get 133 = .ok (.ireturn, 1) := by decide +kernel
theorem d_Mo_get_134 : decode b_Mo_get 134 = .ok (.aload_n 0, 1) := by decide +kernel
theorem d_Mo_get_135 : decode b_Mo_get 135 = .ok (.getfield 13, 3) := by decide +kernel
theorem d_Mo_get_138 : decode b_Mo_get 138 = .ok (.sipush (130), 3) := by decide +kernel
theorem d_Mo_get_141 : decode b_Mo_get 141 = .ok (.aload_n 0, 1) := by decide +kernel
theorem d_Mo_get_142 : decode b_Mo_get 142 = .ok (.getfield 128, 3) := by decide +kernel
theorem d_Mo_get_145 : decode b_Mo_get 145 = .ok (.iconst 2, 1) := by decide +kernel
theorem d_Mo_get_146 : decode b_Mo_get 146 = .ok (.irem, 1) := by decide +kernel
theorem d_Mo_get_147 : decode b_Mo_get 147 = .ok (.iadd, 1) := by decide +kernel
theorem d_Mo_get_148 : decode b_Mo_get 148 = .ok (.saload, 1) := by decide +kernel
theorem d_Mo_get_149 : decode b_Mo_get 149 = .ok (.ireturn, 1) := by decide +kernel
theorem d_Mo_get_150 : decode b_Mo_get 150 = .ok (.iload_n 2, 1) := by decide +kernel
theorem d_Mo_get_151 : decode b_Mo_get 151 = .ok (.iload_n 3, 1) := by decide +kernel
theorem d_Mo_get_152 : decode b_Mo_get 152 = .ok (.iand, 1) := by decide +kernel
theorem d_Mo_get_153 : decode b_Mo_get 153 = .ok (.i2s, 1) := by decide +kernel
theorem d_Mo_get_154 : decode b_Mo_get 154 = .ok (.ireturn, 1) := by decide +kernel
theorem d_Mo_get_155 : decode b_Mo_get 155 = .ok (.iload_n 2, 1) := by decide +kernel
theorem d_Mo_get_156 : decode b_Mo_get 156 = .ok (.iload_n 3, 1) := by decide +kernel
theorem d_Mo_get_157 : decode b_Mo_get 157 = .ok (.ixor, 1) := by decide +kernel
theorem d_Mo_get_158 : decode b_Mo_get 158 = .ok (.i2s, 1) := by decide +kernel
theorem d_Mo_get_159 : decode b_Mo_get 159 = .ok (.ireturn, 1) := by decide +kernel
theorem d_Mo_get_160 : decode b_Mo_get 160 = .ok (.iconst (-1), 1) := by decide +kernel
theorem d_Mo_get_161 : decode b_Mo_get 161 = .ok (.ireturn, 1) := by decide +kernel
theorem d_Mo_get_162 : decode b_Mo_get 162 = .ok (.iload_n 2, 1) := by decide +kernel
theorem d_Mo_get_163 : decode b_Mo_get 163 = .ok (.iconst 1, 1) := by decide +kernel
theorem d_Mo_get_164 : decode b_Mo_get 164 = .ok (.ishr, 1) := by decide +kernel
theorem d_Mo_get_165 : decode b_Mo_get 165 = .ok (.i2s, 1) := by decide +kernel
theorem d_Mo_get_166 : decode b_Mo_get 166 = .ok (.ireturn, 1) := by decide +kernel
theorem d_Mo_get_167 : decode b_Mo_get 167 = .ok (.aload_n 0, 1) := by decide +kernel
theorem d_Mo_get_168 : decode b_Mo_get 168 = .ok (.invokevirtual 153, 3) := by decide +kernel
theorem d_Mo_get_171 : decode b_Mo_get 171 = .ok (.ifCond .ge (7), 3) := by decide +kernel
theorem d_Mo_get_174 : decode b_Mo_get 174 = .ok (.iconst 0, 1) := by decide +kernel
theorem d_Mo_get_175 : decode b_Mo_get 175 = .ok (.goto (12), 3) := by decide +kernel
theorem d_Mo_get_178 : decode b_Mo_get 178 = .ok (.aload_n 0, 1) := by decide +kernel
theorem d_Mo_get_179 : decode b_Mo_get 179 = .ok (.getfield 20, 3) := by decide +kernel
theorem d_Mo_get_182 : decode b_Mo_get 182 = .ok (.aload_n 0, 1) := by decide +kernel
theorem d_Mo_get_183 : decode b_Mo_get 183 = .ok (.invokevirtual 153, 3) := by decide +kernel
theorem d_Mo_get_186 : decode b_Mo_get 186 = .ok (.saload, 1) := by decide +kernel
theorem d_Mo_get_187 : decode b_Mo_get 187 = .ok (.ireturn, 1) := by decide +kernel
theorem d_Mo_get_188 : decode b_Mo_get 188 = .ok (.iload_n 2, 1) := by decide +kernel
theorem d_Mo_get_189 : decode b_Mo_get 189 = .ok (.iconst (-1), 1) := by decide +kernel
theorem d_Mo_get_190 : decode b_Mo_get 190 = .ok (.ixor, 1) := by decide +kernel
theorem d_Mo_get_191 : decode b_Mo_get 191 = .ok (.i2s, 1) := by decide +kernel
theorem d_Mo_get_192 : decode b_Mo_get 192 = .ok (.ireturn, 1) := by decide +kernel
theorem d_Mo_get_193 : decode b_Mo_get 193 = .ok (.aload_n 0, 1) := by decide +kernel
theorem d_Mo_get_194 : decode b_Mo_get 194 = .ok (.getfield 128, 3) := by decide +kernel
theorem d_Mo_get_197 : decode b_Mo_get 197 = .ok (.i2s, 1) := by decide +kernel
theorem d_Mo_get_198 : decode b_Mo_get 198 = .ok (.ireturn, 1) := by decide +kernel
theorem hd_Mo_get : y_Mo_get.cls ≠ "java/lang/invoke/MethodHandle" ∧ y_Mo_get.cls ≠ "java/lang/invoke/VarHandle" ∧ (parseMethodDescriptor y_Mo_get.desc).map (fun d => d.parameters.length) = some 1 := by decide +kernel
abbrev rm_Mo_get : Room := { frames := 1, cells := 0, slots := 0, locals := 21 }
def F_Mo_get (x1 : Int32) (v : Nat → Int32) (f : Nat → Nat → Int32)  : Option (Int32) := (if x1 = (0 : Int32) then (some (0 : Int32)) else (if x1 = (1 : Int32) then (some (1 : Int32)) else (if x1 = (2 : Int32) then (if (((32 : Int32) * (x1 - (2 : Int32))) + ((v 2) - (v 2) / (32 : Int32) * (32 : Int32))) < 0 ∨ 132 ≤ (((32 : Int32) * (x1 - (2 : Int32))) + ((v 2) - (v 2) / (32 : Int32) * (32 : Int32))).toNatClampNeg then none else (if ((f 1) (((32 : Int32) * (x1 - (2 : Int32))) + ((v 2) - (v 2) / (32 : Int32) * (32 : Int32))).toNatClampNeg).toInt16.toInt32 = ((f 1) (((32 : Int32) * (x1 - (2 : Int32))) + ((v 2) - (v 2) / (32 : Int32) * (32 : Int32))).toNatClampNeg) then (some ((f 1) (((32 : Int32) * (x1 - (2 : Int32))) + ((v 2) - (v 2) / (32 : Int32) * (32 : Int32))).toNatClampNeg)) else none)) else (if x1 = (3 : Int32) then (if (((32 : Int32) * (x1 - (2 : Int32))) + ((v 2) - (v 2) / (32 : Int32) * (32 : Int32))) < 0 ∨ 132 ≤ (((32 : Int32) * (x1 - (2 : Int32))) + ((v 2) - (v 2) / (32 : Int32) * (32 : Int32))).toNatClampNeg then none else (if ((f 1) (((32 : Int32) * (x1 - (2 : Int32))) + ((v 2) - (v 2) / (32 : Int32) * (32 : Int32))).toNatClampNeg).toInt16.toInt32 = ((f 1) (((32 : Int32) * (x1 - (2 : Int32))) + ((v 2) - (v 2) / (32 : Int32) * (32 : Int32))).toNatClampNeg) then (some ((f 1) (((32 : Int32) * (x1 - (2 : Int32))) + ((v 2) - (v 2) / (32 : Int32) * (32 : Int32))).toNatClampNeg)) else none)) else (if x1 = (4 : Int32) then (if (((32 : Int32) * (x1 - (2 : Int32))) + ((v 2) - (v 2) / (32 : Int32) * (32 : Int32))) < 0 ∨ 132 ≤ (((32 : Int32) * (x1 - (2 : Int32))) + ((v 2) - (v 2) / (32 : Int32) * (32 : Int32))).toNatClampNeg then none else (if ((f 1) (((32 : Int32) * (x1 - (2 : Int32))) + ((v 2) - (v 2) / (32 : Int32) * (32 : Int32))).toNatClampNeg).toInt16.toInt32 = ((f 1) (((32 : Int32) * (x1 - (2 : Int32))) + ((v 2) - (v 2) / (32 : Int32) * (32 : Int32))).toNatClampNeg) then (some ((f 1) (((32 : Int32) * (x1 - (2 : Int32))) + ((v 2) - (v 2) / (32 : Int32) * (32 : Int32))).toNatClampNeg)) else none)) else (if x1 = (5 : Int32) then (if (((32 : Int32) * (x1 - (2 : Int32))) + ((v 2) - (v 2) / (32 : Int32) * (32 : Int32))) < 0 ∨ 132 ≤ (((32 : Int32) * (x1 - (2 : Int32))) + ((v 2) - (v 2) / (32 : Int32) * (32 : Int32))).toNatClampNeg then none else (if ((f 1) (((32 : Int32) * (x1 - (2 : Int32))) + ((v 2) - (v 2) / (32 : Int32) * (32 : Int32))).toNatClampNeg).toInt16.toInt32 = ((f 1) (((32 : Int32) * (x1 - (2 : Int32))) + ((v 2) - (v 2) / (32 : Int32) * (32 : Int32))).toNatClampNeg) then (some ((f 1) (((32 : Int32) * (x1 - (2 : Int32))) + ((v 2) - (v 2) / (32 : Int32) * (32 : Int32))).toNatClampNeg)) else none)) else (if x1 = (6 : Int32) then (if ((f 1) (128 : Int32).toNatClampNeg).toInt16.toInt32 = ((f 1) (128 : Int32).toNatClampNeg) then (some ((f 1) (128 : Int32).toNatClampNeg)) else none) else (if x1 = (7 : Int32) then (if ((f 1) (129 : Int32).toNatClampNeg).toInt16.toInt32 = ((f 1) (129 : Int32).toNatClampNeg) then (some ((f 1) (129 : Int32).toNatClampNeg)) else none) else (if x1 = (8 : Int32) then (if ((130 : Int32) + ((v 2) - (v 2) / (2 : Int32) * (2 : Int32))) < 0 ∨ 132 ≤ ((130 : Int32) + ((v 2) - (v 2) / (2 : Int32) * (2 : Int32))).toNatClampNeg then none else (if ((f 1) ((130 : Int32) + ((v 2) - (v 2) / (2 : Int32) * (2 : Int32))).toNatClampNeg).toInt16.toInt32 = ((f 1) ((130 : Int32) + ((v 2) - (v 2) / (2 : Int32) * (2 : Int32))).toNatClampNeg) then (some ((f 1) ((130 : Int32) + ((v 2) - (v 2) / (2 : Int32) * (2 : Int32))).toNatClampNeg)) else none)) else (if x1 = (9 : Int32) then (some (((f 1) (128 : Int32).toNatClampNeg) &&& ((f 1) (129 : Int32).toNatClampNeg)).toInt16.toInt32) else (if x1 = (10 : Int32) then (some (((f 1) (128 : Int32).toNatClampNeg) ^^^ ((f 1) (129 : Int32).toNatClampNeg)).toInt16.toInt32) else (if x1 = (11 : Int32) then (some (-1 : Int32)) else (if x1 = (12 : Int32) then (some (((f 1) (128 : Int32).toNatClampNeg) >>> ((1 : Int32) &&& 31)).toInt16.toInt32) else (if x1 = (13 : Int32) then (Option.bind (F_Mo_row  v f) (fun z1 => (if (0 : Int32) ≤ z1 then (Option.bind (F_Mo_row  v f) (fun z2 => (if z2 < 0 ∨ 12 ≤ z2.toNatClampNeg then none else (if ((f 22) z2.toNatClampNeg).toInt16.toInt32 = ((f 22) z2.toNatClampNeg) then (some ((f 22) z2.toNatClampNeg)) else none)))) else (some (0 : Int32))))) else (if x1 = (14 : Int32) then (some (((f 1) (128 : Int32).toNatClampNeg) ^^^ (-1 : Int32)).toInt16.toInt32) else (some (v 2).toInt16.toInt32))))))))))))))))
set_option maxHeartbeats 4000000 in
set_option maxRecDepth 100000 in
theorem c_Mo_get (l : Launch) (G : dm_G) (g : Nat → Nat) (x1 : Int32) (v : Nat → Int32) (f : Nat → Nat → Int32) (RES : Int32) (hF : F_Mo_get x1 v f = some RES) : dm_Ct l y_Mo_get b_Mo_get 4 (some .short) rm_Mo_get G (tw G g v f) [.ref (g 0), .int x1] (fun ov w' => ov = some (.int RES) ∧ w' = (tw G g v f)) := by
  refine dm_Ct.of (by decide +kernel) (Nat.le_of_ble_eq_true rfl) ?_
  intro p e s m below meth c A ls B hl hP hD hS
  have hx := B.1
  have hb := B.2.1
  have hl : lv_has ls 4 [(0, .ref (g 0)), (1, .int x1)] := hl
  have hF : (if x1 = (0 : Int32) then (some (0 : Int32)) else (if x1 = (1 : Int32) then (some (1 : Int32)) else (if x1 = (2 : Int32) then (if (((32 : Int32) * (x1 - (2 : Int32))) + ((v 2) - (v 2) / (32 : Int32) * (32 : Int32))) < 0 ∨ 132 ≤ (((32 : Int32) * (x1 - (2 : Int32))) + ((v 2) - (v 2) / (32 : Int32) * (32 : Int32))).toNatClampNeg then none else (if ((f 1) (((32 : Int32) * (x1 - (2 : Int32))) + ((v 2) - (v 2) / (32 : Int32) * (32 : Int32))).toNatClampNeg).toInt16.toInt32 = ((f 1) (((32 : Int32) * (x1 - (2 : Int32))) + ((v 2) - (v 2) / (32 : Int32) * (32 : Int32))).toNatClampNeg) then (some ((f 1) (((32 : Int32) * (x1 - (2 : Int32))) + ((v 2) - (v 2) / (32 : Int32) * (32 : Int32))).toNatClampNeg)) else none)) else (if x1 = (3 : Int32) then (if (((32 : Int32) * (x1 - (2 : Int32))) + ((v 2) - (v 2) / (32 : Int32) * (32 : Int32))) < 0 ∨ 132 ≤ (((32 : Int32) * (x1 - (2 : Int32))) + ((v 2) - (v 2) / (32 : Int32) * (32 : Int32))).toNatClampNeg then none else (if ((f 1) (((32 : Int32) * (x1 - (2 : Int32))) + ((v 2) - (v 2) / (32 : Int32) * (32 : Int32))).toNatClampNeg).toInt16.toInt32 = ((f 1) (((32 : Int32) * (x1 - (2 : Int32))) + ((v 2) - (v 2) / (32 : Int32) * (32 : Int32))).toNatClampNeg) then (some ((f 1) (((32 : Int32) * (x1 - (2 : Int32))) + ((v 2) - (v 2) / (32 : Int32) * (32 : Int32))).toNatClampNeg)) else none)) else (if x1 = (4 : Int32) then (if (((32 : Int32) * (x1 - (2 : Int32))) + ((v 2) - (v 2) / (32 : Int32) * (32 : Int32))) < 0 ∨ 132 ≤ (((32 : Int32) * (x1 - (2 : Int32))) + ((v 2) - (v 2) / (32 : Int32) * (32 : Int32))).toNatClampNeg then none else (if ((f 1) (((32 : Int32) * (x1 - (2 : Int32))) + ((v 2) - (v 2) / (32 : Int32) * (32 : Int32))).toNatClampNeg).toInt16.toInt32 = ((f 1) (((32 : Int32) * (x1 - (2 : Int32))) + ((v 2) - (v 2) / (32 : Int32) * (32 : Int32))).toNatClampNeg) then (some ((f 1) (((32 : Int32) * (x1 - (2 : Int32))) + ((v 2) - (v 2) / (32 : Int32) * (32 : Int32))).toNatClampNeg)) else none)) else (if x1 = (5 : Int32) then (if (((32 : Int32) * (x1 - (2 : Int32))) + ((v 2) - (v 2) / (32 : Int32) * (32 : Int32))) < 0 ∨ 132 ≤ (((32 : Int32) * (x1 - (2 : Int32))) + ((v 2) - (v 2) / (32 : Int32) * (32 : Int32))).toNatClampNeg then none else (if ((f 1) (((32 : Int32) * (x1 - (2 : Int32))) + ((v 2) - (v 2) / (32 : Int32) * (32 : Int32))).toNatClampNeg).toInt16.toInt32 = ((f 1) (((32 : Int32) * (x1 - (2 : Int32))) + ((v 2) - (v 2) / (32 : Int32) * (32 : Int32))).toNatClampNeg) then (some ((f 1) (((32 : Int32) * (x1 - (2 : Int32))) + ((v 2) - (v 2) / (32 : Int32) * (32 : Int32))).toNatClampNeg)) else none)) else (if x1 = (6 : Int32) then (if ((f 1) (128 : Int32).toNatClampNeg).toInt16.toInt32 = ((f 1) (128 : Int32).toNatClampNeg) then (some ((f 1) (128 : Int32).toNatClampNeg)) else none) else (if x1 = (7 : Int32) then (if ((f 1) (129 : Int32).toNatClampNeg).toInt16.toInt32 = ((f 1) (129 : Int32).toNatClampNeg) then (some ((f 1) (129 : Int32).toNatClampNeg)) else none) else (if x1 = (8 : Int32) then (if ((130 : Int32) + ((v 2) - (v 2) / (2 : Int32) * (2 : Int32))) < 0 ∨ 132 ≤ ((130 : Int32) + ((v 2) - (v 2) / (2 : Int32) * (2 : Int32))).toNatClampNeg then none else (if ((f 1) ((130 : Int32) + ((v 2) - (v 2) / (2 : Int32) * (2 : Int32))).toNatClampNeg).toInt16.toInt32 = ((f 1) ((130 : Int32) + ((v 2) - (v 2) / (2 : Int32) * (2 : Int32))).toNatClampNeg) then (some ((f 1) ((130 : Int32) + ((v 2) - (v 2) / (2 : Int32) * (2 : Int32))).toNatClampNeg)) else none)) else (if x1 = (9 : Int32) then (some (((f 1) (128 : Int32).toNatClampNeg) &&& ((f 1) (129 : Int32).toNatClampNeg)).toInt16.toInt32) else (if x1 = (10 : Int32) then (some (((f 1) (128 : Int32).toNatClampNeg) ^^^ ((f 1) (129 : Int32).toNatClampNeg)).toInt16.toInt32) else (if x1 = (11 : Int32) then (some (-1 : Int32)) else (if x1 = (12 : Int32) then (some (((f 1) (128 : Int32).toNatClampNeg) >>> ((1 : Int32) &&& 31)).toInt16.toInt32) else (if x1 = (13 : Int32) then (Option.bind (F_Mo_row  v f) (fun z1 => (if (0 : Int32) ≤ z1 then (Option.bind (F_Mo_row  v f) (fun z2 => (if z2 < 0 ∨ 12 ≤ z2.toNatClampNeg then none else (if ((f 22) z2.toNatClampNeg).toInt16.toInt32 = ((f 22) z2.toNatClampNeg) then (some ((f 22) z2.toNatClampNeg)) else none)))) else (some (0 : Int32))))) else (if x1 = (14 : Int32) then (some (((f 1) (128 : Int32).toNatClampNeg) ^^^ (-1 : Int32)).toInt16.toInt32) else (some (v 2).toInt16.toInt32)))))))))))))))) = some RES := hF
  refine lv_aload_n hx hb d_Mo_get_0 rfl (lv_at hl 0 rfl) ?_
  refine tw_g_0_1 B hP k_726 d_Mo_get_1 ?_
  refine lv_sipush (v := (128 : Int32)) hx hb d_Mo_get_4 (by decide) ?_
  refine tw_a_2 (F := (f 1)) B hP rfl (by unfold vp_in; decide) d_Mo_get_7 ?_
  refine lv_istore_n (lv' := [(2, .int ((f 1) (128 : Int32).toNatClampNeg)), (0, .ref (g 0)), (1, .int x1)]) hx hb d_Mo_get_8 rfl hl (Nat.le_of_ble_eq_true rfl) rfl (fun ls hl => ?_)
  have hl : lv_has ls 4 [(0, .ref (g 0)), (1, .int x1), (2, .int ((f 1) (128 : Int32).toNatClampNeg))] := lv_sub hl [1, 2, 0] rfl
  refine lv_aload_n hx hb d_Mo_get_9 rfl (lv_at hl 0 rfl) ?_
  refine tw_g_0_1 B hP k_726 d_Mo_get_10 ?_
  refine lv_sipush (v := (129 : Int32)) hx hb d_Mo_get_13 (by decide) ?_
  refine tw_a_2 (F := (f 1)) B hP rfl (by unfold vp_in; decide) d_Mo_get_16 ?_
  refine lv_istore_n (lv' := [(3, .int ((f 1) (129 : Int32).toNatClampNeg)), (0, .ref (g 0)), (1, .int x1), (2, .int ((f 1) (128 : Int32).toNatClampNeg))]) hx hb d_Mo_get_17 rfl hl (Nat.le_of_ble_eq_true rfl) rfl (fun ls hl => ?_)
  have hl : lv_has ls 4 [(0, .ref (g 0)), (1, .int x1), (2, .int ((f 1) (128 : Int32).toNatClampNeg)), (3, .int ((f 1) (129 : Int32).toNatClampNeg))] := lv_sub hl [1, 2, 3, 0] rfl
  refine lv_iload_n hx hb d_Mo_get_18 rfl (lv_at hl 1 rfl) ?_
  by_cases h0 : x1 = (0 : Int32)
  · rw [if_pos h0] at hF
    refine lv_tableIn (off := 73) (tgt := 92) hx hb d_Mo_get_19 (by rw [h0]; decide) (by rw [h0]; decide) (by rw [h0]; rfl) (by decide) ?_
    refine lv_iconst (v := (0 : Int32)) hx hb d_Mo_get_92 (by decide) ?_
    have hF := Option.some.inj hF
    subst hF
    exact dm_ret B (by decide) d_Mo_get_93 (by decide) (by decide) hP hD hS ⟨rfl, rfl⟩
  rw [if_neg h0] at hF
  by_cases h1 : x1 = (1 : Int32)
  · rw [if_pos h1] at hF
    refine lv_tableIn (off := 75) (tgt := 94) hx hb d_Mo_get_19 (by rw [h1]; decide) (by rw [h1]; decide) (by rw [h1]; rfl) (by decide) ?_
    refine lv_iconst (v := (1 : Int32)) hx hb d_Mo_get_94 (by decide) ?_
    have hF := Option.some.inj hF
    subst hF
    exact dm_ret B (by decide) d_Mo_get_95 (by decide) (by decide) hP hD hS ⟨rfl, rfl⟩
  rw [if_neg h1] at hF
  by_cases h2 : x1 = (2 : Int32)
  · rw [if_pos h2] at hF
    refine lv_tableIn (off := 77) (tgt := 96) hx hb d_Mo_get_19 (by rw [h2]; decide) (by rw [h2]; decide) (by rw [h2]; rfl) (by decide) ?_
    refine lv_aload_n hx hb d_Mo_get_96 rfl (lv_at hl 0 rfl) ?_
    refine tw_g_0_1 B hP k_726 d_Mo_get_97 ?_
    refine lv_bipush (v := (32 : Int32)) hx hb d_Mo_get_100 (by decide) ?_
    refine lv_iload_n hx hb d_Mo_get_102 rfl (lv_at hl 1 rfl) ?_
    refine lv_iconst (v := (2 : Int32)) hx hb d_Mo_get_103 (by decide) ?_
    refine lv_isub hx hb d_Mo_get_104 ?_
    refine lv_imul hx hb d_Mo_get_105 ?_
    refine lv_aload_n hx hb d_Mo_get_106 rfl (lv_at hl 0 rfl) ?_
    refine tw_g_0_2 (x := (v 2)) B hP rfl k_727 d_Mo_get_107 ?_
    refine lv_bipush (v := (32 : Int32)) hx hb d_Mo_get_110 (by decide) ?_
    refine lv_irem hx hb d_Mo_get_112 (by decide) ?_
    refine lv_iadd hx hb d_Mo_get_113 ?_
    obtain ⟨hi, hF⟩ := dm_chk hF
    refine tw_a_2 (F := (f 1)) B hP rfl hi d_Mo_get_114 ?_
    obtain ⟨hz, hF⟩ := dm_ck1 hF
    have hF := Option.some.inj hF
    subst hF
    exact dm_ret B (dm_nsh hz) d_Mo_get_115 (by decide) (by decide) hP hD hS ⟨rfl, rfl⟩
  rw [if_neg h2] at hF
  by_cases h3 : x1 = (3 : Int32)
  · rw [if_pos h3] at hF
    refine lv_tableIn (off := 77) (tgt := 96) hx hb d_Mo_get_19 (by rw [h3]; decide) (by rw [h3]; decide) (by rw [h3]; rfl) (by decide) ?_
    refine lv_aload_n hx hb d_Mo_get_96 rfl (lv_at hl 0 rfl) ?_
    refine tw_g_0_1 B hP k_726 d_Mo_get_97 ?_
    refine lv_bipush (v := (32 : Int32)) hx hb d_Mo_get_100 (by decide) ?_
    refine lv_iload_n hx hb d_Mo_get_102 rfl (lv_at hl 1 rfl) ?_
    refine lv_iconst (v := (2 : Int32)) hx hb d_Mo_get_103 (by decide) ?_
    refine lv_isub hx hb d_Mo_get_104 ?_
    refine lv_imul hx hb d_Mo_get_105 ?_
    refine lv_aload_n hx hb d_Mo_get_106 rfl (lv_at hl 0 rfl) ?_
    refine tw_g_0_2 (x := (v 2)) B hP rfl k_727 d_Mo_get_107 ?_
    refine lv_bipush (v := (32 : Int32)) hx hb d_Mo_get_110 (by decide) ?_
    refine lv_irem hx hb d_Mo_get_112 (by decide) ?_
    refine lv_iadd hx hb d_Mo_get_113 ?_
    obtain ⟨hi, hF⟩ := dm_chk hF
    refine tw_a_2 (F := (f 1)) B hP rfl hi d_Mo_get_114 ?_
    obtain ⟨hz, hF⟩ := dm_ck1 hF
    have hF := Option.some.inj hF
    subst hF
    exact dm_ret B (dm_nsh hz) d_Mo_get_115 (by decide) (by decide) hP hD hS ⟨rfl, rfl⟩
  rw [if_neg h3] at hF
  by_cases h4 : x1 = (4 : Int32)
  · rw [if_pos h4] at hF
    refine lv_tableIn (off := 77) (tgt := 96) hx hb d_Mo_get_19 (by rw [h4]; decide) (by rw [h4]; decide) (by rw [h4]; rfl) (by decide) ?_
    refine lv_aload_n hx hb d_Mo_get_96 rfl (lv_at hl 0 rfl) ?_
    refine tw_g_0_1 B hP k_726 d_Mo_get_97 ?_
    refine lv_bipush (v := (32 : Int32)) hx hb d_Mo_get_100 (by decide) ?_
    refine lv_iload_n hx hb d_Mo_get_102 rfl (lv_at hl 1 rfl) ?_
    refine lv_iconst (v := (2 : Int32)) hx hb d_Mo_get_103 (by decide) ?_
    refine lv_isub hx hb d_Mo_get_104 ?_
    refine lv_imul hx hb d_Mo_get_105 ?_
    refine lv_aload_n hx hb d_Mo_get_106 rfl (lv_at hl 0 rfl) ?_
    refine tw_g_0_2 (x := (v 2)) B hP rfl k_727 d_Mo_get_107 ?_
    refine lv_bipush (v := (32 : Int32)) hx hb d_Mo_get_110 (by decide) ?_
    refine lv_irem hx hb d_Mo_get_112 (by decide) ?_
    refine lv_iadd hx hb d_Mo_get_113 ?_
    obtain ⟨hi, hF⟩ := dm_chk hF
    refine tw_a_2 (F := (f 1)) B hP rfl hi d_Mo_get_114 ?_
    obtain ⟨hz, hF⟩ := dm_ck1 hF
    have hF := Option.some.inj hF
    subst hF
    exact dm_ret B (dm_nsh hz) d_Mo_get_115 (by decide) (by decide) hP hD hS ⟨rfl, rfl⟩
  rw [if_neg h4] at hF
  by_cases h5 : x1 = (5 : Int32)
  · rw [if_pos h5] at hF
    refine lv_tableIn (off := 77) (tgt := 96) hx hb d_Mo_get_19 (by rw [h5]; decide) (by rw [h5]; decide) (by rw [h5]; rfl) (by decide) ?_
    refine lv_aload_n hx hb d_Mo_get_96 rfl (lv_at hl 0 rfl) ?_
    refine tw_g_0_1 B hP k_726 d_Mo_get_97 ?_
    refine lv_bipush (v := (32 : Int32)) hx hb d_Mo_get_100 (by decide) ?_
    refine lv_iload_n hx hb d_Mo_get_102 rfl (lv_at hl 1 rfl) ?_
    refine lv_iconst (v := (2 : Int32)) hx hb d_Mo_get_103 (by decide) ?_
    refine lv_isub hx hb d_Mo_get_104 ?_
    refine lv_imul hx hb d_Mo_get_105 ?_
    refine lv_aload_n hx hb d_Mo_get_106 rfl (lv_at hl 0 rfl) ?_
    refine tw_g_0_2 (x := (v 2)) B hP rfl k_727 d_Mo_get_107 ?_
    refine lv_bipush (v := (32 : Int32)) hx hb d_Mo_get_110 (by decide) ?_
    refine lv_irem hx hb d_Mo_get_112 (by decide) ?_
    refine lv_iadd hx hb d_Mo_get_113 ?_
    obtain ⟨hi, hF⟩ := dm_chk hF
    refine tw_a_2 (F := (f 1)) B hP rfl hi d_Mo_get_114 ?_
    obtain ⟨hz, hF⟩ := dm_ck1 hF
    have hF := Option.some.inj hF
    subst hF
    exact dm_ret B (dm_nsh hz) d_Mo_get_115 (by decide) (by decide) hP hD hS ⟨rfl, rfl⟩
  rw [if_neg h5] at hF
  by_cases h6 : x1 = (6 : Int32)
  · rw [if_pos h6] at hF
    refine lv_tableIn (off := 97) (tgt := 116) hx hb d_Mo_get_19 (by rw [h6]; decide) (by rw [h6]; decide) (by rw [h6]; rfl) (by decide) ?_
    refine lv_aload_n hx hb d_Mo_get_116 rfl (lv_at hl 0 rfl) ?_
    refine tw_g_0_1 B hP k_726 d_Mo_get_117 ?_
    refine lv_sipush (v := (128 : Int32)) hx hb d_Mo_get_120 (by decide) ?_
    refine tw_a_2 (F := (f 1)) B hP rfl (by unfold vp_in; decide) d_Mo_get_123 ?_
    obtain ⟨hz, hF⟩ := dm_ck1 hF
    have hF := Option.some.inj hF
    subst hF
    exact dm_ret B (dm_nsh hz) d_Mo_get_124 (by decide) (by decide) hP hD hS ⟨rfl, rfl⟩
  rw [if_neg h6] at hF
  by_cases h7 : x1 = (7 : Int32)
  · rw [if_pos h7] at hF
    refine lv_tableIn (off := 106) (tgt := 125) hx hb d_Mo_get_19 (by rw [h7]; decide) (by rw [h7]; decide) (by rw [h7]; rfl) (by decide) ?_
    refine lv_aload_n hx hb d_Mo_get_125 rfl (lv_at hl 0 rfl) ?_
    refine tw_g_0_1 B hP k_726 d_Mo_get_126 ?_
    refine lv_sipush (v := (129 : Int32)) hx hb d_Mo_get_129 (by decide) ?_
    refine tw_a_2 (F := (f 1)) B hP rfl (by unfold vp_in; decide) d_Mo_get_132 ?_
    obtain ⟨hz, hF⟩ := dm_ck1 hF
    have hF := Option.some.inj hF
    subst hF
    exact dm_ret B (dm_nsh hz) d_Mo_get_133 (by decide) (by decide) hP hD hS ⟨rfl, rfl⟩
  rw [if_neg h7] at hF
  by_cases h8 : x1 = (8 : Int32)
  · rw [if_pos h8] at hF
    refine lv_tableIn (off := 115) (tgt := 134) hx hb d_Mo_get_19 (by rw [h8]; decide) (by rw [h8]; decide) (by rw [h8]; rfl) (by decide) ?_
    refine lv_aload_n hx hb d_Mo_get_134 rfl (lv_at hl 0 rfl) ?_
    refine tw_g_0_1 B hP k_726 d_Mo_get_135 ?_
    refine lv_sipush (v := (130 : Int32)) hx hb d_Mo_get_138 (by decide) ?_
    refine lv_aload_n hx hb d_Mo_get_141 rfl (lv_at hl 0 rfl) ?_
    refine tw_g_0_2 (x := (v 2)) B hP rfl k_727 d_Mo_get_142 ?_
    refine lv_iconst (v := (2 : Int32)) hx hb d_Mo_get_145 (by decide) ?_
    refine lv_irem hx hb d_Mo_get_146 (by decide) ?_
    refine lv_iadd hx hb d_Mo_get_147 ?_
    obtain ⟨hi, hF⟩ := dm_chk hF
    refine tw_a_2 (F := (f 1)) B hP rfl hi d_Mo_get_148 ?_
    obtain ⟨hz, hF⟩ := dm_ck1 hF
    have hF := Option.some.inj hF
    subst hF
    exact dm_ret B (dm_nsh hz) d_Mo_get_149 (by decide) (by decide) hP hD hS ⟨rfl, rfl⟩
  rw [if_neg h8] at hF
  by_cases h9 : x1 = (9 : Int32)
  · rw [if_pos h9] at hF
    refine lv_tableIn (off := 131) (tgt := 150) hx hb d_Mo_get_19 (by rw [h9]; decide) (by rw [h9]; decide) (by rw [h9]; rfl) (by decide) ?_
    refine lv_iload_n hx hb d_Mo_get_150 rfl (lv_at hl 2 rfl) ?_
    refine lv_iload_n hx hb d_Mo_get_151 rfl (lv_at hl 3 rfl) ?_
    refine lv_iand hx hb d_Mo_get_152 ?_
    refine lv_i2s (v := (((f 1) (128 : Int32).toNatClampNeg) &&& ((f 1) (129 : Int32).toNatClampNeg)).toInt16.toInt32) hx hb d_Mo_get_153 rfl ?_
    have hF := Option.some.inj hF
    subst hF
    exact dm_ret B (pk_ns _) d_Mo_get_154 (by decide) (by decide) hP hD hS ⟨rfl, rfl⟩
  rw [if_neg h9] at hF
  by_cases h10 : x1 = (10 : Int32)
  · rw [if_pos h10] at hF
    refine lv_tableIn (off := 136) (tgt := 155) hx hb d_Mo_get_19 (by rw [h10]; decide) (by rw [h10]; decide) (by rw [h10]; rfl) (by decide) ?_
    refine lv_iload_n hx hb d_Mo_get_155 rfl (lv_at hl 2 rfl) ?_
    refine lv_iload_n hx hb d_Mo_get_156 rfl (lv_at hl 3 rfl) ?_
    refine lv_ixor hx hb d_Mo_get_157 ?_
    refine lv_i2s (v := (((f 1) (128 : Int32).toNatClampNeg) ^^^ ((f 1) (129 : Int32).toNatClampNeg)).toInt16.toInt32) hx hb d_Mo_get_158 rfl ?_
    have hF := Option.some.inj hF
    subst hF
    exact dm_ret B (pk_ns _) d_Mo_get_159 (by decide) (by decide) hP hD hS ⟨rfl, rfl⟩
  rw [if_neg h10] at hF
  by_cases h11 : x1 = (11 : Int32)
  · rw [if_pos h11] at hF
    refine lv_tableIn (off := 141) (tgt := 160) hx hb d_Mo_get_19 (by rw [h11]; decide) (by rw [h11]; decide) (by rw [h11]; rfl) (by decide) ?_
    refine lv_iconst (v := (-1 : Int32)) hx hb d_Mo_get_160 (by decide) ?_
    have hF := Option.some.inj hF
    subst hF
    exact dm_ret B (by decide) d_Mo_get_161 (by decide) (by decide) hP hD hS ⟨rfl, rfl⟩
  rw [if_neg h11] at hF
  by_cases h12 : x1 = (12 : Int32)
  · rw [if_pos h12] at hF
    refine lv_tableIn (off := 143) (tgt := 162) hx hb d_Mo_get_19 (by rw [h12]; decide) (by rw [h12]; decide) (by rw [h12]; rfl) (by decide) ?_
    refine lv_iload_n hx hb d_Mo_get_162 rfl (lv_at hl 2 rfl) ?_
    refine lv_iconst (v := (1 : Int32)) hx hb d_Mo_get_163 (by decide) ?_
    refine lv_ishr hx hb d_Mo_get_164 ?_
    refine lv_i2s (v := (((f 1) (128 : Int32).toNatClampNeg) >>> ((1 : Int32) &&& 31)).toInt16.toInt32) hx hb d_Mo_get_165 rfl ?_
    have hF := Option.some.inj hF
    subst hF
    exact dm_ret B (pk_ns _) d_Mo_get_166 (by decide) (by decide) hP hD hS ⟨rfl, rfl⟩
  rw [if_neg h12] at hF
  by_cases h13 : x1 = (13 : Int32)
  · rw [if_pos h13] at hF
    refine lv_tableIn (off := 148) (tgt := 167) hx hb d_Mo_get_19 (by rw [h13]; decide) (by rw [h13]; decide) (by rw [h13]; rfl) (by decide) ?_
    refine lv_aload_n hx hb d_Mo_get_167 rfl (lv_at hl 0 rfl) ?_
    obtain ⟨z1, hcz1, hF⟩ := dm_bind hF
    refine dm_callVw B [] (c_Mo_row l G g  v f z1 hcz1) k_908 k_910 ks_18 k_14 k_911 hd_Mo_row rfl ⟨by decide, by decide⟩ 0 rfl rfl hP hD hS hl.1 (rest := []) rfl (Nat.le_of_ble_eq_true rfl) d_Mo_get_168 ⟨by decide, by decide⟩ (fun ov w' H locs hq hP hD hS => ?_)
    obtain ⟨rfl, rfl⟩ := hq
    have hP : va_P G.1 dm_cl (tw G g v f) H := hP
    have hD : va_D A (tw G g v f) := hD
    refine W.eq (g2 := F0 m 171 ls [.int z1]) rfl ?_
    refine lv_if_ge (tgt := 178) hx hb d_Mo_get_171 (by decide) (fun (hh : (0 : Int32) ≤ z1) => ?_) (fun (hh : ¬ (0 : Int32) ≤ z1) => ?_)
    · rw [if_pos hh] at hF
      refine lv_aload_n hx hb d_Mo_get_178 rfl (lv_at hl 0 rfl) ?_
      refine tw_g_0_22 B hP k_747 d_Mo_get_179 ?_
      refine lv_aload_n hx hb d_Mo_get_182 rfl (lv_at hl 0 rfl) ?_
      obtain ⟨z2, hcz2, hF⟩ := dm_bind hF
      refine dm_callVw B [] (c_Mo_row l G g  v f z2 hcz2) k_908 k_910 ks_18 k_14 k_911 hd_Mo_row rfl ⟨by decide, by decide⟩ 0 rfl rfl hP hD hS hl.1 (rest := [.ref (g 23)]) rfl (Nat.le_of_ble_eq_true rfl) d_Mo_get_183 ⟨by decide, by decide⟩ (fun ov w' H locs hq hP hD hS => ?_)
      obtain ⟨rfl, rfl⟩ := hq
      have hP : va_P G.1 dm_cl (tw G g v f) H := hP
      have hD : va_D A (tw G g v f) := hD
      refine W.eq (g2 := F0 m 186 ls [.int z2, .ref (g 23)]) rfl ?_
      obtain ⟨hi, hF⟩ := dm_chk hF
      refine tw_a_4 (F := (f 22)) B hP rfl hi d_Mo_get_186 ?_
      obtain ⟨hz, hF⟩ := dm_ck1 hF
      have hF := Option.some.inj hF
      subst hF
      exact dm_ret B (dm_nsh hz) d_Mo_get_187 (by decide) (by decide) hP hD hS ⟨rfl, rfl⟩
    · rw [if_neg hh] at hF
      refine lv_iconst (v := (0 : Int32)) hx hb d_Mo_get_174 (by decide) ?_
      refine lv_goto (tgt := 187) hx hb d_Mo_get_175 (by decide) ?_
      have hF := Option.some.inj hF
      subst hF
      exact dm_ret B (by decide) d_Mo_get_187 (by decide) (by decide) hP hD hS ⟨rfl, rfl⟩
  rw [if_neg h13] at hF
  by_cases h14 : x1 = (14 : Int32)
  · rw [if_pos h14] at hF
    refine lv_tableIn (off := 169) (tgt := 188) hx hb d_Mo_get_19 (by rw [h14]; decide) (by rw [h14]; decide) (by rw [h14]; rfl) (by decide) ?_
    refine lv_iload_n hx hb d_Mo_get_188 rfl (lv_at hl 2 rfl) ?_
    refine lv_iconst (v := (-1 : Int32)) hx hb d_Mo_get_189 (by decide) ?_
    refine lv_ixor hx hb d_Mo_get_190 ?_
    refine lv_i2s (v := (((f 1) (128 : Int32).toNatClampNeg) ^^^ (-1 : Int32)).toInt16.toInt32) hx hb d_Mo_get_191 rfl ?_
    have hF := Option.some.inj hF
    subst hF
    exact dm_ret B (pk_ns _) d_Mo_get_192 (by decide) (by decide) hP hD hS ⟨rfl, rfl⟩
  rw [if_neg h14] at hF
  have e0 := lv_neT (a := 0) h0 (by decide)
  have e1 := lv_neT (a := 1) h1 (by decide)
  have e2 := lv_neT (a := 2) h2 (by decide)
  have e3 := lv_neT (a := 3) h3 (by decide)
  have e4 := lv_neT (a := 4) h4 (by decide)
  have e5 := lv_neT (a := 5) h5 (by decide)
  have e6 := lv_neT (a := 6) h6 (by decide)
  have e7 := lv_neT (a := 7) h7 (by decide)
  have e8 := lv_neT (a := 8) h8 (by decide)
  have e9 := lv_neT (a := 9) h9 (by decide)
  have e10 := lv_neT (a := 10) h10 (by decide)
  have e11 := lv_neT (a := 11) h11 (by decide)
  have e12 := lv_neT (a := 12) h12 (by decide)
  have e13 := lv_neT (a := 13) h13 (by decide)
  have e14 := lv_neT (a := 14) h14 (by decide)
  refine lv_tableOut (tgt := 193) hx hb d_Mo_get_19 (by omega) (by decide) ?_
  refine lv_aload_n hx hb d_Mo_get_193 rfl (lv_at hl 0 rfl) ?_
  refine tw_g_0_2 (x := (v 2)) B hP rfl k_727 d_Mo_get_194 ?_
  refine lv_i2s (v := (v 2).toInt16.toInt32) hx hb d_Mo_get_197 rfl ?_
  have hF := Option.some.inj hF
  subst hF
  exact dm_ret B (pk_ns _) d_Mo_get_198 (by decide) (by decide) hP hD hS ⟨rfl, rfl⟩
abbrev b_Mo_fail : ByteArray := prog_16_method_13_code
abbrev y_Mo_fail : MethodName := { cls := "DelayMachineModel", name := "fail", desc := "(I)V" }
theorem d_Mo_fail_0 : decode b_Mo_fail 0 = .ok (.aload_n 0, 1) := by decide +kernel
theorem d_Mo_fail_1 : decode b_Mo_fail 1 = .ok (.aload_n 0, 1) := by decide +kernel
theorem d_Mo_fail_2 : decode b_Mo_fail 2 = .ok (.getfield 101, 3) := by decide +kernel
theorem d_Mo_fail_5 : decode b_Mo_fail 5 = .ok (.ifCond .ne (7), 3) := by decide +kernel
theorem d_Mo_fail_8 : decode b_Mo_fail 8 = .ok (.iload_n 1, 1) := by decide +kernel
theorem d_Mo_fail_9 : decode b_Mo_fail 9 = .ok (.goto (7), 3) := by decide +kernel
theorem d_Mo_fail_12 : decode b_Mo_fail 12 = .ok (.aload_n 0, 1) := by decide +kernel
theorem d_Mo_fail_13 : decode b_Mo_fail 13 = .ok (.getfield 101, 3) := by decide +kernel
theorem d_Mo_fail_16 : decode b_Mo_fail 16 = .ok (.putfield 101, 3) := by decide +kernel
theorem d_Mo_fail_19 : decode b_Mo_fail 19 = .ok (.aload_n 0, 1) := by decide +kernel
theorem d_Mo_fail_20 : decode b_Mo_fail 20 = .ok (.iconst 0, 1) := by decide +kernel
theorem d_Mo_fail_21 : decode b_Mo_fail 21 = .ok (.putfield 97, 3) := by decide +kernel
theorem d_Mo_fail_24 : decode b_Mo_fail 24 = .ok (.return_, 1) := by decide +kernel
theorem hd_Mo_fail : y_Mo_fail.cls ≠ "java/lang/invoke/MethodHandle" ∧ y_Mo_fail.cls ≠ "java/lang/invoke/VarHandle" ∧ (parseMethodDescriptor y_Mo_fail.desc).map (fun d => d.parameters.length) = some 1 := by decide +kernel
abbrev rm_Mo_fail : Room := { frames := 0, cells := 0, slots := 0, locals := 0 }
def F_Mo_fail_16 (x1 : Int32)   (s1 : Int32) (v : Nat → Int32) (f : Nat → Nat → Int32) : Option ((Nat → Int32) × (Nat → Nat → Int32)) := (some ((va_up (va_up v 4 s1) 3 (0 : Int32)), f))
def F_Mo_fail (x1 : Int32)  (v : Nat → Int32) (f : Nat → Nat → Int32) : Option ((Nat → Int32) × (Nat → Nat → Int32)) := (if (v 4) = (0 : Int32) then (F_Mo_fail_16 x1 x1 v f) else (F_Mo_fail_16 x1 (v 4) v f))
set_option maxHeartbeats 4000000 in
set_option maxRecDepth 100000 in
theorem c_Mo_fail (l : Launch) (G : dm_G) (g : Nat → Nat) (x1 : Int32) (v : Nat → Int32) (f : Nat → Nat → Int32) (RES : (Nat → Int32) × (Nat → Nat → Int32)) (hF : F_Mo_fail x1 v f = some RES) : dm_Ct l y_Mo_fail b_Mo_fail 2 none rm_Mo_fail G (tw G g v f) [.ref (g 0), .int x1] (fun ov w' => ov = none ∧ w' = (tw G g RES.1 RES.2)) := by
  refine dm_Ct.of (by decide +kernel) (Nat.le_of_ble_eq_true rfl) ?_
  intro p e s m below meth c A ls B hl hP hD hS
  have hx := B.1
  have hb := B.2.1
  have hl : lv_has ls 2 [(0, .ref (g 0)), (1, .int x1)] := hl
  have K16 : ∀ (ls : Array Slot) (H : Heap) (locs : List Loc) (s1 : Int32) (v : Nat → Int32) (f : Nat → Nat → Int32), lv_has ls 2 [(0, .ref (g 0))] → va_P G.1 dm_cl (tw G g v f) H → va_D A (tw G g v f) → va_S A s.heap H locs → F_Mo_fail_16 x1 s1 v f = some RES → W p l e rm_Mo_fail s m ([.ref (g 0), .int x1] : List Value).toArray below meth c H locs 0 0 (dm_Z below G s ([.ref (g 0), .int x1] : List Value).toArray A rm_Mo_fail.cells rm_Mo_fail.slots (fun ov w' => ov = none ∧ w' = (tw G g RES.1 RES.2))) (F0 m 16 ls [.int s1, .ref (g 0)]) := by
    intro ls H locs s1 v f hl hP hD hS hF
    have hF : (some ((va_up (va_up v 4 s1) 3 (0 : Int32)), f)) = some RES := hF
    refine tw_p_0_4 (x := s1) B hP hD hS k_729 d_Mo_fail_16 (fun H locs hP hD hS => ?_)
    refine lv_aload_n hx hb d_Mo_fail_19 rfl (lv_at hl 0 rfl) ?_
    refine lv_iconst (v := (0 : Int32)) hx hb d_Mo_fail_20 (by decide) ?_
    refine tw_p_0_3 (x := (0 : Int32)) B hP hD hS (by decide) k_728 d_Mo_fail_21 (fun H locs hP hD hS => ?_)
    have hF := Option.some.inj hF
    subst hF
    exact dm_retv B d_Mo_fail_24 (by decide) (by decide) hP hD hS ⟨rfl, rfl⟩
  have hF : (if (v 4) = (0 : Int32) then (F_Mo_fail_16 x1 x1 v f) else (F_Mo_fail_16 x1 (v 4) v f)) = some RES := hF
  refine lv_aload_n hx hb d_Mo_fail_0 rfl (lv_at hl 0 rfl) ?_
  refine lv_aload_n hx hb d_Mo_fail_1 rfl (lv_at hl 0 rfl) ?_
  refine tw_g_0_4 (x := (v 4)) B hP rfl k_729 d_Mo_fail_2 ?_
  refine lv_if_ne (tgt := 12) hx hb d_Mo_fail_5 (by decide) (fun (hh : ¬ (v 4) = (0 : Int32)) => ?_) (fun (hh : (v 4) = (0 : Int32)) => ?_)
  · rw [if_neg hh] at hF
    refine lv_aload_n hx hb d_Mo_fail_12 rfl (lv_at hl 0 rfl) ?_
    refine tw_g_0_4 (x := (v 4)) B hP rfl k_729 d_Mo_fail_13 ?_
    exact K16 ls _ _ (v 4) v f (lv_sub hl [0] rfl) hP hD hS hF
  · rw [if_pos hh] at hF
    refine lv_iload_n hx hb d_Mo_fail_8 rfl (lv_at hl 1 rfl) ?_
    refine lv_goto (tgt := 16) hx hb d_Mo_fail_9 (by decide) ?_
    exact K16 ls _ _ x1 v f (lv_sub hl [0] rfl) hP hD hS hF
abbrev b_Mo_discriminate : ByteArray := prog_16_method_15_code
abbrev y_Mo_discriminate : MethodName := { cls := "DelayMachineModel", name := "discriminate", desc := "(Z)V" }
theorem d_Mo_discriminate_0 : decode b_Mo_discriminate 0 = .ok (.iload_n 1, 1) := by decide +kernel
theorem d_Mo_discriminate_1 : decode b_Mo_discriminate 1 = .ok (.ifCond .eq (21), 3) := by decide +kernel
theorem d_Mo_discriminate_4 : decode b_Mo_discriminate 4 = .ok (.aload_n 0, 1) := by decide +kernel
theorem d_Mo_discriminate_5 : decode b_Mo_discriminate 5 = .ok (.getfield 150, 3) := by decide +kernel
theorem d_Mo_discriminate_8 : decode b_Mo_discriminate 8 = .ok (.ifCond .ne (14), 3) := by decide +kernel
theorem d_Mo_discriminate_11 : decode b_Mo_discriminate 11 = .ok (.aload_n 0, 1) := by decide +kernel
theorem d_Mo_discriminate_12 : decode b_Mo_discriminate 12 = .ok (.getfield 131, 3) := by decide +kernel
theorem d_Mo_discriminate_15 : decode b_Mo_discriminate 15 = .ok (.aload_n 0, 1) := by decide +kernel
theorem d_Mo_discriminate_16 : decode b_Mo_discriminate 16 = .ok (.getfield 128, 3) := by decide +kernel
theorem d_Mo_discriminate_19 : decode b_Mo_discriminate 19 = .ok (.if_icmp .gt (4), 3) := by decide +kernel
theorem d_Mo_discriminate_22 : decode b_Mo_discriminate 22 = .ok (.return_, 1) := by decide +kernel
theorem d_Mo_discriminate_23 : decode b_Mo_discriminate 23 = .ok (.aload_n 0, 1) := by decide +kernel
theorem d_Mo_discriminate_24 : decode b_Mo_discriminate 24 = .ok (.iconst 1, 1) := by decide +kernel
theorem d_Mo_discriminate_25 : decode b_Mo_discriminate 25 = .ok (.putfield 150, 3) := by decide +kernel
theorem d_Mo_discriminate_28 : decode b_Mo_discriminate 28 = .ok (.aload_n 0, 1) := by decide +kernel
theorem d_Mo_discriminate_29 : decode b_Mo_discriminate 29 = .ok (.dup, 1) := by decide +kernel
theorem d_Mo_discriminate_30 : decode b_Mo_discriminate 30 = .ok (.getfield 131, 3) := by decide +kernel
theorem d_Mo_discriminate_33 : decode b_Mo_discriminate 33 = .ok (.iconst 1, 1) := by decide +kernel
theorem d_Mo_discriminate_34 : decode b_Mo_discriminate 34 = .ok (.iadd, 1) := by decide +kernel
theorem d_Mo_discriminate_35 : decode b_Mo_discriminate 35 = .ok (.putfield 131, 3) := by decide +kernel
theorem d_Mo_discriminate_38 : decode b_Mo_discriminate 38 = .ok (.return_, 1) := by decide +kernel
theorem hd_Mo_discriminate : y_Mo_discriminate.cls ≠ "java/lang/invoke/MethodHandle" ∧ y_Mo_discriminate.cls ≠ "java/lang/invoke/VarHandle" ∧ (parseMethodDescriptor y_Mo_discriminate.desc).map (fun d => d.parameters.length) = some 1 := by decide +kernel
abbrev rm_Mo_discriminate : Room := { frames := 0, cells := 0, slots := 0, locals := 0 }
def F_Mo_discriminate (x1 : Int32)  (v : Nat → Int32) (f : Nat → Nat → Int32) : Option ((Nat → Int32) × (Nat → Nat → Int32)) := (if x1 = (0 : Int32) then (some (v, f)) else (if (v 16) = (0 : Int32) then (if (v 2) < (v 5) then (some ((va_up (va_up v 16 (1 : Int32)) 5 ((v 5) + (1 : Int32))), f)) else (some (v, f))) else (some (v, f))))
set_option maxHeartbeats 4000000 in
set_option maxRecDepth 100000 in
theorem c_Mo_discriminate (l : Launch) (G : dm_G) (g : Nat → Nat) (x1 : Int32) (v : Nat → Int32) (f : Nat → Nat → Int32) (RES : (Nat → Int32) × (Nat → Nat → Int32)) (hF : F_Mo_discriminate x1 v f = some RES) : dm_Ct l y_Mo_discriminate b_Mo_discriminate 2 none rm_Mo_discriminate G (tw G g v f) [.ref (g 0), .int x1] (fun ov w' => ov = none ∧ w' = (tw G g RES.1 RES.2)) := by
  refine dm_Ct.of (by decide +kernel) (Nat.le_of_ble_eq_true rfl) ?_
  intro p e s m below meth c A ls B hl hP hD hS
  have hx := B.1
  have hb := B.2.1
  have hl : lv_has ls 2 [(0, .ref (g 0)), (1, .int x1)] := hl
  have hF : (if x1 = (0 : Int32) then (some (v, f)) else (if (v 16) = (0 : Int32) then (if (v 2) < (v 5) then (some ((va_up (va_up v 16 (1 : Int32)) 5 ((v 5) + (1 : Int32))), f)) else (some (v, f))) else (some (v, f)))) = some RES := hF
  refine lv_iload_n hx hb d_Mo_discriminate_0 rfl (lv_at hl 1 rfl) ?_
  refine lv_if_eq (tgt := 22) hx hb d_Mo_discriminate_1 (by decide) (fun (hh : x1 = (0 : Int32)) => ?_) (fun (hh : ¬ x1 = (0 : Int32)) => ?_)
  · rw [if_pos hh] at hF
    have hF := Option.some.inj hF
    subst hF
    exact dm_retv B d_Mo_discriminate_22 (by decide) (by decide) hP hD hS ⟨rfl, rfl⟩
  · rw [if_neg hh] at hF
    refine lv_aload_n hx hb d_Mo_discriminate_4 rfl (lv_at hl 0 rfl) ?_
    refine tw_g_0_16 (x := (v 16)) B hP rfl k_741 d_Mo_discriminate_5 ?_
    refine lv_if_ne (tgt := 22) hx hb d_Mo_discriminate_8 (by decide) (fun (hh : ¬ (v 16) = (0 : Int32)) => ?_) (fun (hh : (v 16) = (0 : Int32)) => ?_)
    · rw [if_neg hh] at hF
      have hF := Option.some.inj hF
      subst hF
      exact dm_retv B d_Mo_discriminate_22 (by decide) (by decide) hP hD hS ⟨rfl, rfl⟩
    · rw [if_pos hh] at hF
      refine lv_aload_n hx hb d_Mo_discriminate_11 rfl (lv_at hl 0 rfl) ?_
      refine tw_g_0_5 (x := (v 5)) B hP rfl k_730 d_Mo_discriminate_12 ?_
      refine lv_aload_n hx hb d_Mo_discriminate_15 rfl (lv_at hl 0 rfl) ?_
      refine tw_g_0_2 (x := (v 2)) B hP rfl k_727 d_Mo_discriminate_16 ?_
      refine lv_icmp_gt (tgt := 23) hx hb d_Mo_discriminate_19 (by decide) (fun (hh : (v 2) < (v 5)) => ?_) (fun (hh : ¬ (v 2) < (v 5)) => ?_)
      · rw [if_pos hh] at hF
        refine lv_aload_n hx hb d_Mo_discriminate_23 rfl (lv_at hl 0 rfl) ?_
        refine lv_iconst (v := (1 : Int32)) hx hb d_Mo_discriminate_24 (by decide) ?_
        refine tw_p_0_16 (x := (1 : Int32)) B hP hD hS (by decide) k_741 d_Mo_discriminate_25 (fun H locs hP hD hS => ?_)
        refine lv_aload_n hx hb d_Mo_discriminate_28 rfl (lv_at hl 0 rfl) ?_
        refine lv_dup hx hb d_Mo_discriminate_29 rfl ?_
        refine tw_g_0_5 (x := (v 5)) B hP rfl k_730 d_Mo_discriminate_30 ?_
        refine lv_iconst (v := (1 : Int32)) hx hb d_Mo_discriminate_33 (by decide) ?_
        refine lv_iadd hx hb d_Mo_discriminate_34 ?_
        refine tw_p_0_5 (x := ((v 5) + (1 : Int32))) B hP hD hS k_730 d_Mo_discriminate_35 (fun H locs hP hD hS => ?_)
        have hF := Option.some.inj hF
        subst hF
        exact dm_retv B d_Mo_discriminate_38 (by decide) (by decide) hP hD hS ⟨rfl, rfl⟩
      · rw [if_neg hh] at hF
        have hF := Option.some.inj hF
        subst hF
        exact dm_retv B d_Mo_discriminate_22 (by decide) (by decide) hP hD hS ⟨rfl, rfl⟩
abbrev b_Mo_feed : ByteArray := prog_16_method_16_code
abbrev y_Mo_feed : MethodName := { cls := "DelayMachineModel", name := "feed", desc := "()V" }
theorem d_Mo_feed_0 : decode b_Mo_feed 0 = .ok (.aload_n 0, 1) := by decide +kernel
theorem d_Mo_feed_1 : decode b_Mo_feed 1 = .ok (.getfield 94, 3) := by decide +kernel
theorem d_Mo_feed_4 : decode b_Mo_feed 4 = .ok (.bipush (12), 2) := by decide +kernel
theorem d_Mo_feed_6 : decode b_Mo_feed 6 = .ok (.if_icmp .lt (25), 3) := by decide +kernel
theorem d_Mo_feed_9 : decode b_Mo_feed 9 = .ok (.aload_n 0, 1) := by decide +kernel
theorem d_Mo_feed_10 : decode b_Mo_feed 10 = .ok (.getfield 23, 3) := by decide +kernel
theorem d_Mo_feed_13 : decode b_Mo_feed 13 = .ok (.ifCond .lt (24), 3) := by decide +kernel
theorem d_Mo_feed_16 : decode b_Mo_feed 16 = .ok (.aload_n 0, 1) := by decide +kernel
theorem d_Mo_feed_17 : decode b_Mo_feed 17 = .ok (.getfield 128, 3) := by decide +kernel
theorem d_Mo_feed_20 : decode b_Mo_feed 20 = .ok (.aload_n 0, 1) := by decide +kernel
theorem d_Mo_feed_21 : decode b_Mo_feed 21 = .ok (.getfield 23, 3) := by decide +kernel
theorem d_Mo_feed_24 : decode b_Mo_feed 24 = .ok (.sipush (130), 3) := by decide +kernel
theorem d_Mo_feed_27 : decode b_Mo_feed 27 = .ok (.iadd, 1) := by decide +kernel
theorem d_Mo_feed_28 : decode b_Mo_feed 28 = .ok (.if_icmp .gt (9), 3) := by decide +kernel
theorem d_Mo_feed_31 : decode b_Mo_feed 31 = .ok (.aload_n 0, 1) := by decide +kernel
theorem d_Mo_feed_32 : decode b_Mo_feed 32 = .ok (.iconst 2, 1) := by decide +kernel
theorem d_Mo_feed_33 : decode b_Mo_feed 33 = .ok (.invokevirtual 171, 3) := by decide +kernel
theorem d_Mo_feed_36 : decode b_Mo_feed 36 = .ok (.return_, 1) := by decide +kernel
theorem d_Mo_feed_37 : decode b_Mo_feed 37 = .ok (.iconst 0, 1) := by decide +kernel
theorem d_Mo_feed_38 : decode b_Mo_feed 38 = .ok (.istore_n 1, 1) := by decide +kernel
theorem d_Mo_feed_39 : decode b_Mo_feed 39 = .ok (.iload_n 1, 1) := by decide +kernel
theorem d_Mo_feed_40 : decode b_Mo_feed 40 = .ok (.bipush (12), 2) := by decide +kernel
theorem d_Mo_feed_42 : decode b_Mo_feed 42 = .ok (.if_icmp .ge (21), 3) := by decide +kernel
theorem d_Mo_feed_45 : decode b_Mo_feed 45 = .ok (.aload_n 0, 1) := by decide +kernel
theorem d_Mo_feed_46 : decode b_Mo_feed 46 = .ok (.getfield 20, 3) := by decide +kernel
theorem d_Mo_feed_49 : decode b_Mo_feed 49 = .ok (.iload_n 1, 1) := by decide +kernel
theorem d_Mo_feed_50 : decode b_Mo_feed 50 = .ok (.aload_n 0, 1) := by decide +kernel
theorem d_Mo_feed_51 : decode b_Mo_feed 51 = .ok (.getfield 17, 3) := by decide +kernel
theorem d_Mo_feed_54 : decode b_Mo_feed 54 = .ok (.iload_n 1, 1) := by decide +kernel
theorem d_Mo_feed_55 : decode b_Mo_feed 55 = .ok (.saload, 1) := by decide +kernel
theorem d_Mo_feed_56 : decode b_Mo_feed 56 = .ok (.sastore, 1) := by decide +kernel
theorem d_Mo_feed_57 : decode b_Mo_feed 57 = .ok (.iinc 1 (1), 3) := by decide +kernel
theorem d_Mo_feed_60 : decode b_Mo_feed 60 = .ok (.goto (-21), 3) := by decide +kernel
theorem d_Mo_feed_63 : decode b_Mo_feed 63 = .ok (.aload_n 0, 1) := by decide +kernel
theorem d_Mo_feed_64 : decode b_Mo_feed 64 = .ok (.dup, 1) := by decide +kernel
theorem d_Mo_feed_65 : decode b_Mo_feed 65 = .ok (.getfield 94, 3) := by decide +kernel
theorem d_Mo_feed_68 : decode b_Mo_feed 68 = .ok (.bipush (12), 2) := by decide +kernel
theorem d_Mo_feed_70 : decode b_Mo_feed 70 = .ok (.isub, 1) := by decide +kernel
theorem d_Mo_feed_71 : decode b_Mo_feed 71 = .ok (.putfield 94, 3) := by decide +kernel
theorem d_Mo_feed_74 : decode b_Mo_feed 74 = .ok (.iconst 0, 1) := by decide +kernel
theorem d_Mo_feed_75 : decode b_Mo_feed 75 = .ok (.istore_n 1, 1) := by decide +kernel
theorem d_Mo_feed_76 : decode b_Mo_feed 76 = .ok (.iload_n 1, 1) := by decide +kernel
theorem d_Mo_feed_77 : decode b_Mo_feed 77 = .ok (.aload_n 0, 1) := by decide +kernel
theorem d_Mo_feed_78 : decode b_Mo_feed 78 = .ok (.getfield 94, 3) := by decide +kernel
theorem d_Mo_feed_81 : decode b_Mo_feed 81 = .ok (.if_icmp .ge (24), 3) := by decide +kernel
theorem d_Mo_feed_84 : decode b_Mo_feed 84 = .ok (.aload_n 0, 1) := by decide +kernel
theorem d_Mo_feed_85 : decode b_Mo_feed 85 = .ok (.getfield 17, 3) := by decide +kernel
theorem d_Mo_feed_88 : decode b_Mo_feed 88 = .ok (.iload_n 1, 1) := by decide +kernel
theorem d_Mo_feed_89 : decode b_Mo_feed 89 = .ok (.aload_n 0, 1) := by decide +kernel
theorem d_Mo_feed_90 : decode b_Mo_feed 90 = .ok (.getfield 17, 3) := by decide +kernel
theorem d_Mo_feed_93 : decode b_Mo_feed 93 = .ok (.iload_n 1, 1) := by decide +kernel
theorem d_Mo_feed_94 : decode b_Mo_feed 94 = .ok (.bipush (12), 2) := by decide +kernel
theorem d_Mo_feed_96 : decode b_Mo_feed 96 = .ok (.iadd, 1) := by decide +kernel
theorem d_Mo_feed_97 : decode b_Mo_feed 97 = .ok (.saload, 1) := by decide +kernel
theorem d_Mo_feed_98 : decode b_Mo_feed 98 = .ok (.sastore, 1) := by decide +kernel
theorem d_Mo_feed_99 : decode b_Mo_feed 99 = .ok (.iinc 1 (1), 3) := by decide +kernel
theorem d_Mo_feed_102 : decode b_Mo_feed 102 = .ok (.goto (-26), 3) := by decide +kernel
theorem d_Mo_feed_105 : decode b_Mo_feed 105 = .ok (.aload_n 0, 1) := by decide +kernel
theorem d_Mo_feed_106 : decode b_Mo_feed 106 = .ok (.aload_n 0, 1) := by decide +kernel
theorem d_Mo_feed_107 : decode b_Mo_feed 107 = .ok (.getfield 128, 3) := by decide +kernel
theorem d_Mo_feed_110 : decode b_Mo_feed 110 = .ok (.putfield 23, 3) := by decide +kernel
theorem d_Mo_feed_113 : decode b_Mo_feed 113 = .ok (.aload_n 0, 1) := by decide +kernel
theorem d_Mo_feed_114 : decode b_Mo_feed 114 = .ok (.iconst 0, 1) := by decide +kernel
theorem d_Mo_feed_115 : decode b_Mo_feed 115 = .ok (.putfield 175, 3) := by decide +kernel
theorem d_Mo_feed_118 : decode b_Mo_feed 118 = .ok (.return_, 1) := by decide +kernel
theorem hd_Mo_feed : y_Mo_feed.cls ≠ "java/lang/invoke/MethodHandle" ∧ y_Mo_feed.cls ≠ "java/lang/invoke/VarHandle" ∧ (parseMethodDescriptor y_Mo_feed.desc).map (fun d => d.parameters.length) = some 0 := by decide +kernel
abbrev rm_Mo_feed : Room := { frames := 1, cells := 0, slots := 0, locals := 21 }
def F_Mo_feed_31    (v : Nat → Int32) (f : Nat → Nat → Int32) : Option ((Nat → Int32) × (Nat → Nat → Int32)) := (Option.bind (F_Mo_fail (2 : Int32) v f) (fun z1 => (some (z1.1, z1.2))))
def F_Mo_feed_76   : Nat → Int32 → (Nat → Int32) → (Nat → Nat → Int32) → Option ((Nat → Int32) × (Nat → Nat → Int32))
  | 0, _, _, _ => none
  | n + 1, l1, v, f => (if (v 19) ≤ l1 then (some ((va_up (va_up v 23 (v 2)) 24 (0 : Int32)), f)) else (if (l1 + (12 : Int32)) < 0 ∨ 48 ≤ (l1 + (12 : Int32)).toNatClampNeg then none else (if l1 < 0 ∨ 48 ≤ l1.toNatClampNeg then none else (F_Mo_feed_76  n (l1 + (1 : Int32)) v (va_up f 21 (upd (f 21) l1.toNatClampNeg ((f 21) (l1 + (12 : Int32)).toNatClampNeg).toInt16.toInt32))))))
def F_Mo_feed_39   : Nat → Int32 → (Nat → Int32) → (Nat → Nat → Int32) → Option ((Nat → Int32) × (Nat → Nat → Int32))
  | 0, _, _, _ => none
  | n + 1, l1, v, f => (if (12 : Int32) ≤ l1 then (F_Mo_feed_76  100 (0 : Int32) (va_up v 19 ((v 19) - (12 : Int32))) f) else (if l1 < 0 ∨ 48 ≤ l1.toNatClampNeg then none else (if l1 < 0 ∨ 12 ≤ l1.toNatClampNeg then none else (F_Mo_feed_39  n (l1 + (1 : Int32)) v (va_up f 22 (upd (f 22) l1.toNatClampNeg ((f 21) l1.toNatClampNeg).toInt16.toInt32))))))
def F_Mo_feed_37    (v : Nat → Int32) (f : Nat → Nat → Int32) : Option ((Nat → Int32) × (Nat → Nat → Int32)) := (F_Mo_feed_39  100 (0 : Int32) v f)
def F_Mo_feed  (v : Nat → Int32) (f : Nat → Nat → Int32) : Option ((Nat → Int32) × (Nat → Nat → Int32)) := (if (v 19) < (12 : Int32) then (F_Mo_feed_31  v f) else (if (v 23) < (0 : Int32) then (F_Mo_feed_37  v f) else (if ((v 23) + (130 : Int32)) < (v 2) then (F_Mo_feed_37  v f) else (F_Mo_feed_31  v f))))
set_option maxHeartbeats 4000000 in
set_option maxRecDepth 100000 in
theorem c_Mo_feed (l : Launch) (G : dm_G) (g : Nat → Nat) (v : Nat → Int32) (f : Nat → Nat → Int32) (RES : (Nat → Int32) × (Nat → Nat → Int32)) (hF : F_Mo_feed v f = some RES) : dm_Ct l y_Mo_feed b_Mo_feed 2 none rm_Mo_feed G (tw G g v f) [.ref (g 0)] (fun ov w' => ov = none ∧ w' = (tw G g RES.1 RES.2)) := by
  refine dm_Ct.of (by decide +kernel) (Nat.le_of_ble_eq_true rfl) ?_
  intro p e s m below meth c A ls B hl hP hD hS
  have hx := B.1
  have hb := B.2.1
  have hl : lv_has ls 2 [(0, .ref (g 0))] := hl
  have K31 : ∀ (ls : Array Slot) (H : Heap) (locs : List Loc)  (v : Nat → Int32) (f : Nat → Nat → Int32), lv_has ls 2 [(0, .ref (g 0))] → va_P G.1 dm_cl (tw G g v f) H → va_D A (tw G g v f) → va_S A s.heap H locs → F_Mo_feed_31   v f = some RES → W p l e rm_Mo_feed s m ([.ref (g 0)] : List Value).toArray below meth c H locs 0 0 (dm_Z below G s ([.ref (g 0)] : List Value).toArray A rm_Mo_feed.cells rm_Mo_feed.slots (fun ov w' => ov = none ∧ w' = (tw G g RES.1 RES.2))) (F0 m 31 ls []) := by
    intro ls H locs v f hl hP hD hS hF
    have hF : (Option.bind (F_Mo_fail (2 : Int32) v f) (fun z1 => (some (z1.1, z1.2)))) = some RES := hF
    refine lv_aload_n hx hb d_Mo_feed_31 rfl (lv_at hl 0 rfl) ?_
    refine lv_iconst (v := (2 : Int32)) hx hb d_Mo_feed_32 (by decide) ?_
    obtain ⟨z1, hcz1, hF⟩ := dm_bind hF
    refine dm_callVw B [.int (2 : Int32)] (c_Mo_fail l G g (2 : Int32) v f z1 hcz1) k_932 k_934 ks_24 k_14 k_935 hd_Mo_fail rfl ⟨by decide, by decide⟩ 0 rfl rfl hP hD hS hl.1 (rest := []) rfl (Nat.le_of_ble_eq_true rfl) d_Mo_feed_33 ⟨by decide, by decide⟩ (fun ov w' H locs hq hP hD hS => ?_)
    obtain ⟨rfl, rfl⟩ := hq
    have hP : va_P G.1 dm_cl (tw G g z1.1 z1.2) H := hP
    have hD : va_D A (tw G g z1.1 z1.2) := hD
    refine W.eq (g2 := F0 m 36 ls []) rfl ?_
    have hF := Option.some.inj hF
    subst hF
    exact dm_retv B d_Mo_feed_36 (by decide) (by decide) hP hD hS ⟨rfl, rfl⟩
  have K76 : ∀ (n76 : Nat) (ls : Array Slot) (H : Heap) (locs : List Loc) (l1 : Int32) (v : Nat → Int32) (f : Nat → Nat → Int32), lv_has ls 2 [(0, .ref (g 0)), (1, .int l1)] → va_P G.1 dm_cl (tw G g v f) H → va_D A (tw G g v f) → va_S A s.heap H locs → F_Mo_feed_76  n76 l1 v f = some RES → W p l e rm_Mo_feed s m ([.ref (g 0)] : List Value).toArray below meth c H locs 0 0 (dm_Z below G s ([.ref (g 0)] : List Value).toArray A rm_Mo_feed.cells rm_Mo_feed.slots (fun ov w' => ov = none ∧ w' = (tw G g RES.1 RES.2))) (F0 m 76 ls []) := by
    intro n76
    induction n76 with
    | zero => intro ls H locs l1 v f hl hP hD hS hF; cases hF
    | succ n76 ih76 =>
      intro ls H locs l1 v f hl hP hD hS hF
      have hF : (if (v 19) ≤ l1 then (some ((va_up (va_up v 23 (v 2)) 24 (0 : Int32)), f)) else (if (l1 + (12 : Int32)) < 0 ∨ 48 ≤ (l1 + (12 : Int32)).toNatClampNeg then none else (if l1 < 0 ∨ 48 ≤ l1.toNatClampNeg then none else (F_Mo_feed_76  n76 (l1 + (1 : Int32)) v (va_up f 21 (upd (f 21) l1.toNatClampNeg ((f 21) (l1 + (12 : Int32)).toNatClampNeg).toInt16.toInt32)))))) = some RES := hF
      refine lv_iload_n hx hb d_Mo_feed_76 rfl (lv_at hl 1 rfl) ?_
      refine lv_aload_n hx hb d_Mo_feed_77 rfl (lv_at hl 0 rfl) ?_
      refine tw_g_0_19 (x := (v 19)) B hP rfl k_744 d_Mo_feed_78 ?_
      refine lv_icmp_ge (tgt := 105) hx hb d_Mo_feed_81 (by decide) (fun (hh : (v 19) ≤ l1) => ?_) (fun (hh : ¬ (v 19) ≤ l1) => ?_)
      · rw [if_pos hh] at hF
        refine lv_aload_n hx hb d_Mo_feed_105 rfl (lv_at hl 0 rfl) ?_
        refine lv_aload_n hx hb d_Mo_feed_106 rfl (lv_at hl 0 rfl) ?_
        refine tw_g_0_2 (x := (v 2)) B hP rfl k_727 d_Mo_feed_107 ?_
        refine tw_p_0_23 (x := (v 2)) B hP hD hS k_748 d_Mo_feed_110 (fun H locs hP hD hS => ?_)
        refine lv_aload_n hx hb d_Mo_feed_113 rfl (lv_at hl 0 rfl) ?_
        refine lv_iconst (v := (0 : Int32)) hx hb d_Mo_feed_114 (by decide) ?_
        refine tw_p_0_24 (x := (0 : Int32)) B hP hD hS (by decide) k_749 d_Mo_feed_115 (fun H locs hP hD hS => ?_)
        have hF := Option.some.inj hF
        subst hF
        exact dm_retv B d_Mo_feed_118 (by decide) (by decide) hP hD hS ⟨rfl, rfl⟩
      · rw [if_neg hh] at hF
        refine lv_aload_n hx hb d_Mo_feed_84 rfl (lv_at hl 0 rfl) ?_
        refine tw_g_0_21 B hP k_746 d_Mo_feed_85 ?_
        refine lv_iload_n hx hb d_Mo_feed_88 rfl (lv_at hl 1 rfl) ?_
        refine lv_aload_n hx hb d_Mo_feed_89 rfl (lv_at hl 0 rfl) ?_
        refine tw_g_0_21 B hP k_746 d_Mo_feed_90 ?_
        refine lv_iload_n hx hb d_Mo_feed_93 rfl (lv_at hl 1 rfl) ?_
        refine lv_bipush (v := (12 : Int32)) hx hb d_Mo_feed_94 (by decide) ?_
        refine lv_iadd hx hb d_Mo_feed_96 ?_
        obtain ⟨hi, hF⟩ := dm_chk hF
        refine tw_a_3 (F := (f 21)) B hP rfl hi d_Mo_feed_97 ?_
        obtain ⟨hi, hF⟩ := dm_chk hF
        refine tw_s_3 (F := (f 21)) B hP hD hS rfl hi d_Mo_feed_98 (fun H locs hP hD hS => ?_)
        refine lv_iinc (k := 1) (v := (l1 + (1 : Int32))) (lv' := [(1, .int (l1 + (1 : Int32))), (0, .ref (g 0))]) hx hb d_Mo_feed_99 hl rfl (congrArg (fun q => l1 + q) (by decide)) (Nat.le_of_ble_eq_true rfl) rfl (fun ls hl => ?_)
        have hl : lv_has ls 2 [(0, .ref (g 0)), (1, .int (l1 + (1 : Int32)))] := lv_sub hl [1, 0] rfl
        refine lv_goto (tgt := 76) hx hb d_Mo_feed_102 (by decide) ?_
        exact ih76 ls _ _ (l1 + (1 : Int32)) v (va_up f 21 (upd (f 21) l1.toNatClampNeg ((f 21) (l1 + (12 : Int32)).toNatClampNeg).toInt16.toInt32)) (lv_sub hl [0, 1] rfl) hP hD hS hF
  have K39 : ∀ (n39 : Nat) (ls : Array Slot) (H : Heap) (locs : List Loc) (l1 : Int32) (v : Nat → Int32) (f : Nat → Nat → Int32), lv_has ls 2 [(0, .ref (g 0)), (1, .int l1)] → va_P G.1 dm_cl (tw G g v f) H → va_D A (tw G g v f) → va_S A s.heap H locs → F_Mo_feed_39  n39 l1 v f = some RES → W p l e rm_Mo_feed s m ([.ref (g 0)] : List Value).toArray below meth c H locs 0 0 (dm_Z below G s ([.ref (g 0)] : List Value).toArray A rm_Mo_feed.cells rm_Mo_feed.slots (fun ov w' => ov = none ∧ w' = (tw G g RES.1 RES.2))) (F0 m 39 ls []) := by
    intro n39
    induction n39 with
    | zero => intro ls H locs l1 v f hl hP hD hS hF; cases hF
    | succ n39 ih39 =>
      intro ls H locs l1 v f hl hP hD hS hF
      have hF : (if (12 : Int32) ≤ l1 then (F_Mo_feed_76  100 (0 : Int32) (va_up v 19 ((v 19) - (12 : Int32))) f) else (if l1 < 0 ∨ 48 ≤ l1.toNatClampNeg then none else (if l1 < 0 ∨ 12 ≤ l1.toNatClampNeg then none else (F_Mo_feed_39  n39 (l1 + (1 : Int32)) v (va_up f 22 (upd (f 22) l1.toNatClampNeg ((f 21) l1.toNatClampNeg).toInt16.toInt32)))))) = some RES := hF
      refine lv_iload_n hx hb d_Mo_feed_39 rfl (lv_at hl 1 rfl) ?_
      refine lv_bipush (v := (12 : Int32)) hx hb d_Mo_feed_40 (by decide) ?_
      refine lv_icmp_ge (tgt := 63) hx hb d_Mo_feed_42 (by decide) (fun (hh : (12 : Int32) ≤ l1) => ?_) (fun (hh : ¬ (12 : Int32) ≤ l1) => ?_)
      · rw [if_pos hh] at hF
        refine lv_aload_n hx hb d_Mo_feed_63 rfl (lv_at hl 0 rfl) ?_
        refine lv_dup hx hb d_Mo_feed_64 rfl ?_
        refine tw_g_0_19 (x := (v 19)) B hP rfl k_744 d_Mo_feed_65 ?_
        refine lv_bipush (v := (12 : Int32)) hx hb d_Mo_feed_68 (by decide) ?_
        refine lv_isub hx hb d_Mo_feed_70 ?_
        refine tw_p_0_19 (x := ((v 19) - (12 : Int32))) B hP hD hS k_744 d_Mo_feed_71 (fun H locs hP hD hS => ?_)
        refine lv_iconst (v := (0 : Int32)) hx hb d_Mo_feed_74 (by decide) ?_
        refine lv_istore_n (lv' := [(1, .int (0 : Int32)), (0, .ref (g 0))]) hx hb d_Mo_feed_75 rfl hl (Nat.le_of_ble_eq_true rfl) rfl (fun ls hl => ?_)
        have hl : lv_has ls 2 [(0, .ref (g 0)), (1, .int (0 : Int32))] := lv_sub hl [1, 0] rfl
        exact K76 100 ls _ _ (0 : Int32) (va_up v 19 ((v 19) - (12 : Int32))) f (lv_sub hl [0, 1] rfl) hP hD hS hF
      · rw [if_neg hh] at hF
        refine lv_aload_n hx hb d_Mo_feed_45 rfl (lv_at hl 0 rfl) ?_
        refine tw_g_0_22 B hP k_747 d_Mo_feed_46 ?_
        refine lv_iload_n hx hb d_Mo_feed_49 rfl (lv_at hl 1 rfl) ?_
        refine lv_aload_n hx hb d_Mo_feed_50 rfl (lv_at hl 0 rfl) ?_
        refine tw_g_0_21 B hP k_746 d_Mo_feed_51 ?_
        refine lv_iload_n hx hb d_Mo_feed_54 rfl (lv_at hl 1 rfl) ?_
        obtain ⟨hi, hF⟩ := dm_chk hF
        refine tw_a_3 (F := (f 21)) B hP rfl hi d_Mo_feed_55 ?_
        obtain ⟨hi, hF⟩ := dm_chk hF
        refine tw_s_4 (F := (f 22)) B hP hD hS rfl hi d_Mo_feed_56 (fun H locs hP hD hS => ?_)
        refine lv_iinc (k := 1) (v := (l1 + (1 : Int32))) (lv' := [(1, .int (l1 + (1 : Int32))), (0, .ref (g 0))]) hx hb d_Mo_feed_57 hl rfl (congrArg (fun q => l1 + q) (by decide)) (Nat.le_of_ble_eq_true rfl) rfl (fun ls hl => ?_)
        have hl : lv_has ls 2 [(0, .ref (g 0)), (1, .int (l1 + (1 : Int32)))] := lv_sub hl [1, 0] rfl
        refine lv_goto (tgt := 39) hx hb d_Mo_feed_60 (by decide) ?_
        exact ih39 ls _ _ (l1 + (1 : Int32)) v (va_up f 22 (upd (f 22) l1.toNatClampNeg ((f 21) l1.toNatClampNeg).toInt16.toInt32)) (lv_sub hl [0, 1] rfl) hP hD hS hF
  have K37 : ∀ (ls : Array Slot) (H : Heap) (locs : List Loc)  (v : Nat → Int32) (f : Nat → Nat → Int32), lv_has ls 2 [(0, .ref (g 0))] → va_P G.1 dm_cl (tw G g v f) H → va_D A (tw G g v f) → va_S A s.heap H locs → F_Mo_feed_37   v f = some RES → W p l e rm_Mo_feed s m ([.ref (g 0)] : List Value).toArray below meth c H locs 0 0 (dm_Z below G s ([.ref (g 0)] : List Value).toArray A rm_Mo_feed.cells rm_Mo_feed.slots (fun ov w' => ov = none ∧ w' = (tw G g RES.1 RES.2))) (F0 m 37 ls []) := by
    intro ls H locs v f hl hP hD hS hF
    have hF : (F_Mo_feed_39  100 (0 : Int32) v f) = some RES := hF
    refine lv_iconst (v := (0 : Int32)) hx hb d_Mo_feed_37 (by decide) ?_
    refine lv_istore_n (lv' := [(1, .int (0 : Int32)), (0, .ref (g 0))]) hx hb d_Mo_feed_38 rfl hl (Nat.le_of_ble_eq_true rfl) rfl (fun ls hl => ?_)
    have hl : lv_has ls 2 [(0, .ref (g 0)), (1, .int (0 : Int32))] := lv_sub hl [1, 0] rfl
    exact K39 100 ls _ _ (0 : Int32) v f (lv_sub hl [0, 1] rfl) hP hD hS hF
  have hF : (if (v 19) < (12 : Int32) then (F_Mo_feed_31  v f) else (if (v 23) < (0 : Int32) then (F_Mo_feed_37  v f) else (if ((v 23) + (130 : Int32)) < (v 2) then (F_Mo_feed_37  v f) else (F_Mo_feed_31  v f)))) = some RES := hF
  refine lv_aload_n hx hb d_Mo_feed_0 rfl (lv_at hl 0 rfl) ?_
  refine tw_g_0_19 (x := (v 19)) B hP rfl k_744 d_Mo_feed_1 ?_
  refine lv_bipush (v := (12 : Int32)) hx hb d_Mo_feed_4 (by decide) ?_
  refine lv_icmp_lt (tgt := 31) hx hb d_Mo_feed_6 (by decide) (fun (hh : (v 19) < (12 : Int32)) => ?_) (fun (hh : ¬ (v 19) < (12 : Int32)) => ?_)
  · rw [if_pos hh] at hF
    exact K31 ls _ _ v f (lv_sub hl [0] rfl) hP hD hS hF
  · rw [if_neg hh] at hF
    refine lv_aload_n hx hb d_Mo_feed_9 rfl (lv_at hl 0 rfl) ?_
    refine tw_g_0_23 (x := (v 23)) B hP rfl k_748 d_Mo_feed_10 ?_
    refine lv_if_lt (tgt := 37) hx hb d_Mo_feed_13 (by decide) (fun (hh : (v 23) < (0 : Int32)) => ?_) (fun (hh : ¬ (v 23) < (0 : Int32)) => ?_)
    · rw [if_pos hh] at hF
      exact K37 ls _ _ v f (lv_sub hl [0] rfl) hP hD hS hF
    · rw [if_neg hh] at hF
      refine lv_aload_n hx hb d_Mo_feed_16 rfl (lv_at hl 0 rfl) ?_
      refine tw_g_0_2 (x := (v 2)) B hP rfl k_727 d_Mo_feed_17 ?_
      refine lv_aload_n hx hb d_Mo_feed_20 rfl (lv_at hl 0 rfl) ?_
      refine tw_g_0_23 (x := (v 23)) B hP rfl k_748 d_Mo_feed_21 ?_
      refine lv_sipush (v := (130 : Int32)) hx hb d_Mo_feed_24 (by decide) ?_
      refine lv_iadd hx hb d_Mo_feed_27 ?_
      refine lv_icmp_gt (tgt := 37) hx hb d_Mo_feed_28 (by decide) (fun (hh : ((v 23) + (130 : Int32)) < (v 2)) => ?_) (fun (hh : ¬ ((v 23) + (130 : Int32)) < (v 2)) => ?_)
      · rw [if_pos hh] at hF
        exact K37 ls _ _ v f (lv_sub hl [0] rfl) hP hD hS hF
      · rw [if_neg hh] at hF
        exact K31 ls _ _ v f (lv_sub hl [0] rfl) hP hD hS hF
abbrev b_Mo_press : ByteArray := prog_16_method_17_code
abbrev y_Mo_press : MethodName := { cls := "DelayMachineModel", name := "press", desc := "(S)V" }
theorem d_Mo_press_0 : decode b_Mo_press 0 = .ok (.aload_n 0, 1) := by decide +kernel
theorem d_Mo_press_1 : decode b_Mo_press 1 = .ok (.getfield 178, 3) := by decide +kernel
theorem d_Mo_press_4 : decode b_Mo_press 4 = .ok (.bipush (60), 2) := by decide +kernel
theorem d_Mo_press_6 : decode b_Mo_press 6 = .ok (.if_icmp .eq (17), 3) := by decide +kernel
theorem d_Mo_press_9 : decode b_Mo_press 9 = .ok (.aload_n 0, 1) := by decide +kernel
theorem d_Mo_press_10 : decode b_Mo_press 10 = .ok (.getfield 128, 3) := by decide +kernel
theorem d_Mo_press_13 : decode b_Mo_press 13 = .ok (.aload_n 0, 1) := by decide +kernel
theorem d_Mo_press_14 : decode b_Mo_press 14 = .ok (.getfield 30, 3) := by decide +kernel
theorem d_Mo_press_17 : decode b_Mo_press 17 = .ok (.isub, 1) := by decide +kernel
theorem d_Mo_press_18 : decode b_Mo_press 18 = .ok (.bipush (6), 2) := by decide +kernel
theorem d_Mo_press_20 : decode b_Mo_press 20 = .ok (.if_icmp .ge (9), 3) := by decide +kernel
theorem d_Mo_press_23 : decode b_Mo_press 23 = .ok (.aload_n 0, 1) := by decide +kernel
theorem d_Mo_press_24 : decode b_Mo_press 24 = .ok (.iconst 3, 1) := by decide +kernel
theorem d_Mo_press_25 : decode b_Mo_press 25 = .ok (.invokevirtual 171, 3) := by decide +kernel
theorem d_Mo_press_28 : decode b_Mo_press 28 = .ok (.return_, 1) := by decide +kernel
theorem d_Mo_press_29 : decode b_Mo_press 29 = .ok (.aload_n 0, 1) := by decide +kernel
theorem d_Mo_press_30 : decode b_Mo_press 30 = .ok (.getfield 27, 3) := by decide +kernel
theorem d_Mo_press_33 : decode b_Mo_press 33 = .ok (.aload_n 0, 1) := by decide +kernel
theorem d_Mo_press_34 : decode b_Mo_press 34 = .ok (.getfield 178, 3) := by decide +kernel
theorem d_Mo_press_37 : decode b_Mo_press 37 = .ok (.iload_n 1, 1) := by decide +kernel
theorem d_Mo_press_38 : decode b_Mo_press 38 = .ok (.sastore, 1) := by decide +kernel
theorem d_Mo_press_39 : decode b_Mo_press 39 = .ok (.aload_n 0, 1) := by decide +kernel
theorem d_Mo_press_40 : decode b_Mo_press 40 = .ok (.dup, 1) := by decide +kernel
theorem d_Mo_press_41 : decode b_Mo_press 41 = .ok (.getfield 178, 3) := by decide +kernel
theorem d_Mo_press_44 : decode b_Mo_press 44 = .ok (.iconst 1, 1) := by decide +kernel
theorem d_Mo_press_45 : decode b_Mo_press 45 = .ok (.iadd, 1) := by decide +kernel
theorem d_Mo_press_46 : decode b_Mo_press 46 = .ok (.putfield 178, 3) := by decide +kernel
theorem d_Mo_press_49 : decode b_Mo_press 49 = .ok (.aload_n 0, 1) := by decide +kernel
theorem d_Mo_press_50 : decode b_Mo_press 50 = .ok (.aload_n 0, 1) := by decide +kernel
theorem d_Mo_press_51 : decode b_Mo_press 51 = .ok (.getfield 128, 3) := by decide +kernel
theorem d_Mo_press_54 : decode b_Mo_press 54 = .ok (.putfield 30, 3) := by decide +kernel
theorem d_Mo_press_57 : decode b_Mo_press 57 = .ok (.return_, 1) := by decide +kernel
theorem hd_Mo_press : y_Mo_press.cls ≠ "java/lang/invoke/MethodHandle" ∧ y_Mo_press.cls ≠ "java/lang/invoke/VarHandle" ∧ (parseMethodDescriptor y_Mo_press.desc).map (fun d => d.parameters.length) = some 1 := by decide +kernel
abbrev rm_Mo_press : Room := { frames := 1, cells := 0, slots := 0, locals := 21 }
def F_Mo_press_23 (x1 : Int32)    (v : Nat → Int32) (f : Nat → Nat → Int32) : Option ((Nat → Int32) × (Nat → Nat → Int32)) := (Option.bind (F_Mo_fail (3 : Int32) v f) (fun z1 => (some (z1.1, z1.2))))
def F_Mo_press (x1 : Int32)  (v : Nat → Int32) (f : Nat → Nat → Int32) : Option ((Nat → Int32) × (Nat → Nat → Int32)) := (if (v 25) = (60 : Int32) then (F_Mo_press_23 x1 v f) else (if (6 : Int32) ≤ ((v 2) - (v 27)) then (if (v 25) < 0 ∨ 60 ≤ (v 25).toNatClampNeg then none else (some ((va_up (va_up v 25 ((v 25) + (1 : Int32))) 27 (v 2)), (va_up f 26 (upd (f 26) (v 25).toNatClampNeg x1.toInt16.toInt32))))) else (F_Mo_press_23 x1 v f)))
set_option maxHeartbeats 4000000 in
set_option maxRecDepth 100000 in
theorem c_Mo_press (l : Launch) (G : dm_G) (g : Nat → Nat) (x1 : Int32) (v : Nat → Int32) (f : Nat → Nat → Int32) (RES : (Nat → Int32) × (Nat → Nat → Int32)) (hF : F_Mo_press x1 v f = some RES) : dm_Ct l y_Mo_press b_Mo_press 2 none rm_Mo_press G (tw G g v f) [.ref (g 0), .int x1] (fun ov w' => ov = none ∧ w' = (tw G g RES.1 RES.2)) := by
  refine dm_Ct.of (by decide +kernel) (Nat.le_of_ble_eq_true rfl) ?_
  intro p e s m below meth c A ls B hl hP hD hS
  have hx := B.1
  have hb := B.2.1
  have hl : lv_has ls 2 [(0, .ref (g 0)), (1, .int x1)] := hl
  have K23 : ∀ (ls : Array Slot) (H : Heap) (locs : List Loc)  (v : Nat → Int32) (f : Nat → Nat → Int32), lv_has ls 2 [(0, .ref (g 0))] → va_P G.1 dm_cl (tw G g v f) H → va_D A (tw G g v f) → va_S A s.heap H locs → F_Mo_press_23 x1  v f = some RES → W p l e rm_Mo_press s m ([.ref (g 0), .int x1] : List Value).toArray below meth c H locs 0 0 (dm_Z below G s ([.ref (g 0), .int x1] : List Value).toArray A rm_Mo_press.cells rm_Mo_press.slots (fun ov w' => ov = none ∧ w' = (tw G g RES.1 RES.2))) (F0 m 23 ls []) := by
    intro ls H locs v f hl hP hD hS hF
    have hF : (Option.bind (F_Mo_fail (3 : Int32) v f) (fun z1 => (some (z1.1, z1.2)))) = some RES := hF
    refine lv_aload_n hx hb d_Mo_press_23 rfl (lv_at hl 0 rfl) ?_
    refine lv_iconst (v := (3 : Int32)) hx hb d_Mo_press_24 (by decide) ?_
    obtain ⟨z1, hcz1, hF⟩ := dm_bind hF
    refine dm_callVw B [.int (3 : Int32)] (c_Mo_fail l G g (3 : Int32) v f z1 hcz1) k_932 k_934 ks_24 k_14 k_935 hd_Mo_fail rfl ⟨by decide, by decide⟩ 0 rfl rfl hP hD hS hl.1 (rest := []) rfl (Nat.le_of_ble_eq_true rfl) d_Mo_press_25 ⟨by decide, by decide⟩ (fun ov w' H locs hq hP hD hS => ?_)
    obtain ⟨rfl, rfl⟩ := hq
    have hP : va_P G.1 dm_cl (tw G g z1.1 z1.2) H := hP
    have hD : va_D A (tw G g z1.1 z1.2) := hD
    refine W.eq (g2 := F0 m 28 ls []) rfl ?_
    have hF := Option.some.inj hF
    subst hF
    exact dm_retv B d_Mo_press_28 (by decide) (by decide) hP hD hS ⟨rfl, rfl⟩
  have hF : (if (v 25) = (60 : Int32) then (F_Mo_press_23 x1 v f) else (if (6 : Int32) ≤ ((v 2) - (v 27)) then (if (v 25) < 0 ∨ 60 ≤ (v 25).toNatClampNeg then none else (some ((va_up (va_up v 25 ((v 25) + (1 : Int32))) 27 (v 2)), (va_up f 26 (upd (f 26) (v 25).toNatClampNeg x1.toInt16.toInt32))))) else (F_Mo_press_23 x1 v f))) = some RES := hF
  refine lv_aload_n hx hb d_Mo_press_0 rfl (lv_at hl 0 rfl) ?_
  refine tw_g_0_25 (x := (v 25)) B hP rfl k_750 d_Mo_press_1 ?_
  refine lv_bipush (v := (60 : Int32)) hx hb d_Mo_press_4 (by decide) ?_
  refine lv_icmp_eq (tgt := 23) hx hb d_Mo_press_6 (by decide) (fun (hh : (v 25) = (60 : Int32)) => ?_) (fun (hh : ¬ (v 25) = (60 : Int32)) => ?_)
  · rw [if_pos hh] at hF
    exact K23 ls _ _ v f (lv_sub hl [0] rfl) hP hD hS hF
  · rw [if_neg hh] at hF
    refine lv_aload_n hx hb d_Mo_press_9 rfl (lv_at hl 0 rfl) ?_
    refine tw_g_0_2 (x := (v 2)) B hP rfl k_727 d_Mo_press_10 ?_
    refine lv_aload_n hx hb d_Mo_press_13 rfl (lv_at hl 0 rfl) ?_
    refine tw_g_0_27 (x := (v 27)) B hP rfl k_752 d_Mo_press_14 ?_
    refine lv_isub hx hb d_Mo_press_17 ?_
    refine lv_bipush (v := (6 : Int32)) hx hb d_Mo_press_18 (by decide) ?_
    refine lv_icmp_ge (tgt := 29) hx hb d_Mo_press_20 (by decide) (fun (hh : (6 : Int32) ≤ ((v 2) - (v 27))) => ?_) (fun (hh : ¬ (6 : Int32) ≤ ((v 2) - (v 27))) => ?_)
    · rw [if_pos hh] at hF
      refine lv_aload_n hx hb d_Mo_press_29 rfl (lv_at hl 0 rfl) ?_
      refine tw_g_0_26 B hP k_751 d_Mo_press_30 ?_
      refine lv_aload_n hx hb d_Mo_press_33 rfl (lv_at hl 0 rfl) ?_
      refine tw_g_0_25 (x := (v 25)) B hP rfl k_750 d_Mo_press_34 ?_
      refine lv_iload_n hx hb d_Mo_press_37 rfl (lv_at hl 1 rfl) ?_
      obtain ⟨hi, hF⟩ := dm_chk hF
      refine tw_s_5 (F := (f 26)) B hP hD hS rfl hi d_Mo_press_38 (fun H locs hP hD hS => ?_)
      refine lv_aload_n hx hb d_Mo_press_39 rfl (lv_at hl 0 rfl) ?_
      refine lv_dup hx hb d_Mo_press_40 rfl ?_
      refine tw_g_0_25 (x := (v 25)) B hP rfl k_750 d_Mo_press_41 ?_
      refine lv_iconst (v := (1 : Int32)) hx hb d_Mo_press_44 (by decide) ?_
      refine lv_iadd hx hb d_Mo_press_45 ?_
      refine tw_p_0_25 (x := ((v 25) + (1 : Int32))) B hP hD hS k_750 d_Mo_press_46 (fun H locs hP hD hS => ?_)
      refine lv_aload_n hx hb d_Mo_press_49 rfl (lv_at hl 0 rfl) ?_
      refine lv_aload_n hx hb d_Mo_press_50 rfl (lv_at hl 0 rfl) ?_
      refine tw_g_0_2 (x := (v 2)) B hP rfl k_727 d_Mo_press_51 ?_
      refine tw_p_0_27 (x := (v 2)) B hP hD hS k_752 d_Mo_press_54 (fun H locs hP hD hS => ?_)
      have hF := Option.some.inj hF
      subst hF
      exact dm_retv B d_Mo_press_57 (by decide) (by decide) hP hD hS ⟨rfl, rfl⟩
    · rw [if_neg hh] at hF
      exact K23 ls _ _ v f (lv_sub hl [0] rfl) hP hD hS hF
abbrev b_Mo_put : ByteArray := prog_16_method_14_code
abbrev y_Mo_put : MethodName := { cls := "DelayMachineModel", name := "put", desc := "(IS)V" }
theorem d_Mo_put_0 : decode b_Mo_put 0 = .ok (.iload_n 1, 1) := by decide +kernel
theorem d_Mo_put_1 : decode b_Mo_put 1 = .ok (.tableswitch (259) (0) (14) #[75, 78, 86, 86, 86, 86, 109, 109, 126, 145, 145, 186, 186, 220, 252], 75) := by decide +kernel
theorem d_Mo_put_76 : decode b_Mo_put 76 = .ok (.goto (189), 3) := by decide +kernel
theorem d_Mo_put_79 : decode b_Mo_put 79 = .ok (.aload_n 0, 1) := by decide +kernel
theorem d_Mo_put_80 : decode b_Mo_put 80 = .ok (.iconst 0, 1) := by decide +kernel
theorem d_Mo_put_81 : decode b_Mo_put 81 = .ok (.putfield 97, 3) := by decide +kernel
theorem d_Mo_put_84 : decode b_Mo_put 84 = .ok (.goto (181), 3) := by decide +kernel
theorem d_Mo_put_87 : decode b_Mo_put 87 = .ok (.aload_n 0, 1) := by decide +kernel
theorem d_Mo_put_88 : decode b_Mo_put 88 = .ok (.getfield 13, 3) := by decide +kernel
theorem d_Mo_put_91 : decode b_Mo_put 91 = .ok (.bipush (32), 2) := by decide +kernel
theorem d_Mo_put_93 : decode b_Mo_put 93 = .ok (.iload_n 1, 1) := by decide +kernel
theorem d_Mo_put_94 : decode b_Mo_put 94 = .ok (.iconst 2, 1) := by decide +kernel
theorem d_Mo_put_95 : decode b_Mo_put 95 = .ok (.isub, 1) := by decide +kernel
theorem d_Mo_put_96 : decode b_Mo_put 96 = .ok (.imul, 1) := by decide +kernel
theorem d_Mo_put_97 : decode b_Mo_put 97 = .ok (.aload_n 0, 1) := by decide +kernel
theorem d_Mo_put_98 : decode b_Mo_put 98 = .ok (.getfield 128, 3) := by decide +kernel
theorem d_Mo_put_101 : decode b_Mo_put 101 = .ok (.bipush (32), 2) := by decide +kernel
theorem d_Mo_put_103 : decode b_Mo_put 103 = .ok (.irem, 1) := by decide +kernel
theorem d_Mo_put_104 : decode b_Mo_put 104 = .ok (.iadd, 1) := by decide +kernel
theorem d_Mo_put_105 : decode b_Mo_put 105 = .ok (.iload_n 2, 1) := by decide +kernel
theorem d_Mo_put_106 : decode b_Mo_put 106 = .ok (.sastore, 1) := by decide +kernel
theorem d_Mo_put_107 : decode b_Mo_put 107 = .ok (.goto (158), 3) := by decide +kernel
theorem d_Mo_put_110 : decode b_Mo_put 110 = .ok (.aload_n 0, 1) := by decide +kernel
theorem d_Mo_put_111 : decode b_Mo_put 111 = .ok (.getfield 13, 3) := by decide +kernel
theorem d_Mo_put_114 : decode b_Mo_put 114 = .ok (.sipush (128), 3) := by decide +kernel
theorem d_Mo_put_117 : decode b_Mo_put 117 = .ok (.iload_n 1, 1) := by decide +kernel
theorem d_Mo_put_118 : decode b_Mo_put 118 = .ok (.iadd, 1) := by decide +kernel
theorem d_Mo_put_119 : decode b_Mo_put 119 = .ok (.bipush (6), 2) := by decide +kernel
theorem d_Mo_put_121 : decode b_Mo_put 121 = .ok (.isub, 1) := by decide +kernel
theorem d_Mo_put_122 : decode b_Mo_put 122 = .ok (.iload_n 2, 1) := by decide +kernel
theorem d_Mo_put_123 : decode b_Mo_put 123 = .ok (.sastore, 1) := by decide +kernel
theorem d_Mo_put_124 : decode b_Mo_put 124 = .ok (.goto (141), 3) := by decide +kernel
theorem d_Mo_put_127 : decode b_Mo_put 127 = .ok (.aload_n 0, 1) := by decide +kernel
theorem d_Mo_put_128 : decode b_Mo_put 128 = .ok (.getfield 13, 3) := by decide +kernel
theorem d_Mo_put_131 : decode b_Mo_put 131 = .ok (.sipush (130), 3) := by decide +kernel
theorem d_Mo_put_134 : decode b_Mo_put 134 = .ok (.aload_n 0, 1) := by decide +kernel
theorem d_Mo_put_135 : decode b_Mo_put 135 = .ok (.getfield 128, 3) := by decide +kernel
theorem d_Mo_put_138 : decode b_Mo_put 138 = .ok (.iconst 2, 1) := by decide +kernel
theorem d_Mo_put_139 : decode b_Mo_put 139 = .ok (.irem, 1) := by decide +kernel
theorem d_Mo_put_140 : decode b_Mo_put 140 = .ok (.iadd, 1) := by decide +kernel
theorem d_Mo_put_141 : decode b_Mo_put 141 = .ok (.iload_n 2, 1) := by decide +kernel
theorem d_Mo_put_142 : decode b_Mo_put 142 = .ok (.sastore, 1) := by decide +kernel
theorem d_Mo_put_143 : decode b_Mo_put 143 = .ok (.goto (122), 3) := by decide +kernel
theorem d_Mo_put_146 : decode b_Mo_put 146 = .ok (.aload_n 0, 1) := by decide +kernel
theorem d_Mo_put_147 : decode b_Mo_put 147 = .ok (.getfield 13, 3) := by decide +kernel
theorem d_Mo_put_150 : decode b_Mo_put 150 = .ok (.sipush (128), 3) := by decide +kernel
theorem d_Mo_put_153 : decode b_Mo_put 153 = .ok (.iload_n 1, 1) := by decide +kernel
theorem d_Mo_put_154 : decode b_Mo_put 154 = .ok (.bipush (9), 2) := by decide +kernel
theorem d_Mo_put_156 : decode b_Mo_put 156 = .ok (.if_icmp .ne (16), 3) := by decide +kernel
theorem d_Mo_put_159 : decode b_Mo_put 159 = .ok (.aload_n 0, 1) := by decide +kernel
theorem d_Mo_put_160 : decode b_Mo_put 160 = .ok (.getfield 13, 3) := by decide +kernel
theorem d_Mo_put_163 : decode b_Mo_put 163 = .ok (.sipush (128), 3) := by decide +kernel
theorem d_Mo_put_166 : decode b_Mo_put 166 = .ok (.saload, 1) := by decide +kernel
theorem d_Mo_put_167 : decode b_Mo_put 167 = .ok (.iload_n 2, 1) := by decide +kernel
theorem d_Mo_put_168 : decode b_Mo_put 168 = .ok (.iadd, 1) := by decide +kernel
theorem d_Mo_put_169 : decode b_Mo_put 169 = .ok (.goto (13), 3) := by decide +kernel
theorem d_Mo_put_172 : decode b_Mo_put 172 = .ok (.aload_n 0, 1) := by decide +kernel
theorem d_Mo_put_173 : decode b_Mo_put 173 = .ok (.getfield 13, 3) := by decide +kernel
theorem d_Mo_put_176 : decode b_Mo_put 176 = .ok (.sipush (128), 3) := by decide +kernel
theorem d_Mo_put_179 : decode b_Mo_put 179 = .ok (.saload, 1) := by decide +kernel
theorem d_Mo_put_180 : decode b_Mo_put 180 = .ok (.iload_n 2, 1) := by decide +kernel
theorem d_Mo_put_181 : decode b_Mo_put 181 = .ok (.isub, 1) := by decide +kernel
theorem d_Mo_put_182 : decode b_Mo_put 182 = .ok (.i2s, 1) := by decide +kernel
theorem d_Mo_put_183 : decode b_Mo_put 183 = .ok (.sastore, 1) := by decide +kernel
theorem d_Mo_put_184 : decode b_Mo_put 184 = .ok (.goto (81), 3) := by decide +kernel
theorem d_Mo_put_187 : decode b_Mo_put 187 = .ok (.aload_n 0, 1) := by decide +kernel
theorem d_Mo_put_188 : decode b_Mo_put 188 = .ok (.iload_n 1, 1) := by decide +kernel
theorem d_Mo_put_189 : decode b_Mo_put 189 = .ok (.bipush (11), 2) := by decide +kernel
theorem d_Mo_put_191 : decode b_Mo_put 191 = .ok (.if_icmp .ne (15), 3) := by decide +kernel
theorem d_Mo_put_194 : decode b_Mo_put 194 = .ok (.iload_n 2, 1) := by decide +kernel
theorem d_Mo_put_195 : decode b_Mo_put 195 = .ok (.ifCond .ge (7), 3) := by decide +kernel
theorem d_Mo_put_198 : decode b_Mo_put 198 = .ok (.iconst 1, 1) := by decide +kernel
theorem d_Mo_put_199 : decode b_Mo_put 199 = .ok (.goto (16), 3) := by decide +kernel
theorem d_Mo_put_202 : decode b_Mo_put 202 = .ok (.iconst 0, 1) := by decide +kernel
theorem d_Mo_put_203 : decode b_Mo_put 203 = .ok (.goto (12), 3) := by decide +kernel
theorem d_Mo_put_206 : decode b_Mo_put 206 = .ok (.iload_n 2, 1) := by decide +kernel
theorem d_Mo_put_207 : decode b_Mo_put 207 = .ok (.ifCond .eq (7), 3) := by decide +kernel
theorem d_Mo_put_210 : decode b_Mo_put 210 = .ok (.iconst 1, 1) := by decide +kernel
theorem d_Mo_put_211 : decode b_Mo_put 211 = .ok (.goto (4), 3) := by decide +kernel
theorem d_Mo_put_214 : decode b_Mo_put 214 = .ok (.iconst 0, 1) := by decide +kernel
theorem d_Mo_put_215 : decode b_Mo_put 215 = .ok (.invokevirtual 157, 3) := by decide +kernel
theorem d_Mo_put_218 : decode b_Mo_put 218 = .ok (.goto (47), 3) := by decide +kernel
theorem d_Mo_put_221 : decode b_Mo_put 221 = .ok (.aload_n 0, 1) := by decide +kernel
theorem d_Mo_put_222 : decode b_Mo_put 222 = .ok (.bipush (17), 2) := by decide +kernel
theorem d_Mo_put_224 : decode b_Mo_put 224 = .ok (.putfield 104, 3) := by decide +kernel
theorem d_Mo_put_227 : decode b_Mo_put 227 = .ok (.aload_n 0, 1) := by decide +kernel
theorem d_Mo_put_228 : decode b_Mo_put 228 = .ok (.iload_n 2, 1) := by decide +kernel
theorem d_Mo_put_229 : decode b_Mo_put 229 = .ok (.putfield 161, 3) := by decide +kernel
theorem d_Mo_put_232 : decode b_Mo_put 232 = .ok (.aload_n 0, 1) := by decide +kernel
theorem d_Mo_put_233 : decode b_Mo_put 233 = .ok (.getfield 13, 3) := by decide +kernel
theorem d_Mo_put_236 : decode b_Mo_put 236 = .ok (.sipush (130), 3) := by decide +kernel
theorem d_Mo_put_239 : decode b_Mo_put 239 = .ok (.iconst 0, 1) := by decide +kernel
theorem d_Mo_put_240 : decode b_Mo_put 240 = .ok (.sastore, 1) := by decide +kernel
theorem d_Mo_put_241 : decode b_Mo_put 241 = .ok (.aload_n 0, 1) := by decide +kernel
theorem d_Mo_put_242 : decode b_Mo_put 242 = .ok (.getfield 13, 3) := by decide +kernel
theorem d_Mo_put_245 : decode b_Mo_put 245 = .ok (.sipush (131), 3) := by decide +kernel
theorem d_Mo_put_248 : decode b_Mo_put 248 = .ok (.iconst 0, 1) := by decide +kernel
theorem d_Mo_put_249 : decode b_Mo_put 249 = .ok (.sastore, 1) := by decide +kernel
theorem d_Mo_put_250 : decode b_Mo_put 250 = .ok (.goto (15), 3) := by decide +kernel
theorem d_Mo_put_253 : decode b_Mo_put 253 = .ok (.aload_n 0, 1) := by decide +kernel
theorem d_Mo_put_254 : decode b_Mo_put 254 = .ok (.invokevirtual 164, 3) := by decide +kernel
theorem d_Mo_put_257 : decode b_Mo_put 257 = .ok (.goto (8), 3) := by decide +kernel
theorem d_Mo_put_260 : decode b_Mo_put 260 = .ok (.aload_n 0, 1) := by decide +kernel
theorem d_Mo_put_261 : decode b_Mo_put 261 = .ok (.iload_n 2, 1) := by decide +kernel
theorem d_Mo_put_262 : decode b_Mo_put 262 = .ok (.invokevirtual 167, 3) := by decide +kernel
theorem d_Mo_put_265 : decode b_Mo_put 265 = .ok (.return_, 1) := by decide +kernel
theorem hd_Mo_put : y_Mo_put.cls ≠ "java/lang/invoke/MethodHandle" ∧ y_Mo_put.cls ≠ "java/lang/invoke/VarHandle" ∧ (parseMethodDescriptor y_Mo_put.desc).map (fun d => d.parameters.length) = some 2 := by decide +kernel
abbrev rm_Mo_put : Room := { frames := 2, cells := 0, slots := 0, locals := 42 }
def F_Mo_put_182 (x1 x2 : Int32)   (s2 : Int32) (v : Nat → Int32) (f : Nat → Nat → Int32) : Option ((Nat → Int32) × (Nat → Nat → Int32)) := (some (v, (va_up f 1 (upd (f 1) (128 : Int32).toNatClampNeg s2.toInt16.toInt32.toInt16.toInt32))))
def F_Mo_put_215 (x1 x2 : Int32)   (s1 : Int32) (v : Nat → Int32) (f : Nat → Nat → Int32) : Option ((Nat → Int32) × (Nat → Nat → Int32)) := (Option.bind (F_Mo_discriminate s1 v f) (fun z1 => (some (z1.1, z1.2))))
def F_Mo_put (x1 x2 : Int32)  (v : Nat → Int32) (f : Nat → Nat → Int32) : Option ((Nat → Int32) × (Nat → Nat → Int32)) := (if x1 = (0 : Int32) then (some (v, f)) else (if x1 = (1 : Int32) then (some ((va_up v 3 (0 : Int32)), f)) else (if x1 = (2 : Int32) then (if (((32 : Int32) * (x1 - (2 : Int32))) + ((v 2) - (v 2) / (32 : Int32) * (32 : Int32))) < 0 ∨ 132 ≤ (((32 : Int32) * (x1 - (2 : Int32))) + ((v 2) - (v 2) / (32 : Int32) * (32 : Int32))).toNatClampNeg then none else (some (v, (va_up f 1 (upd (f 1) (((32 : Int32) * (x1 - (2 : Int32))) + ((v 2) - (v 2) / (32 : Int32) * (32 : Int32))).toNatClampNeg x2.toInt16.toInt32))))) else (if x1 = (3 : Int32) then (if (((32 : Int32) * (x1 - (2 : Int32))) + ((v 2) - (v 2) / (32 : Int32) * (32 : Int32))) < 0 ∨ 132 ≤ (((32 : Int32) * (x1 - (2 : Int32))) + ((v 2) - (v 2) / (32 : Int32) * (32 : Int32))).toNatClampNeg then none else (some (v, (va_up f 1 (upd (f 1) (((32 : Int32) * (x1 - (2 : Int32))) + ((v 2) - (v 2) / (32 : Int32) * (32 : Int32))).toNatClampNeg x2.toInt16.toInt32))))) else (if x1 = (4 : Int32) then (if (((32 : Int32) * (x1 - (2 : Int32))) + ((v 2) - (v 2) / (32 : Int32) * (32 : Int32))) < 0 ∨ 132 ≤ (((32 : Int32) * (x1 - (2 : Int32))) + ((v 2) - (v 2) / (32 : Int32) * (32 : Int32))).toNatClampNeg then none else (some (v, (va_up f 1 (upd (f 1) (((32 : Int32) * (x1 - (2 : Int32))) + ((v 2) - (v 2) / (32 : Int32) * (32 : Int32))).toNatClampNeg x2.toInt16.toInt32))))) else (if x1 = (5 : Int32) then (if (((32 : Int32) * (x1 - (2 : Int32))) + ((v 2) - (v 2) / (32 : Int32) * (32 : Int32))) < 0 ∨ 132 ≤ (((32 : Int32) * (x1 - (2 : Int32))) + ((v 2) - (v 2) / (32 : Int32) * (32 : Int32))).toNatClampNeg then none else (some (v, (va_up f 1 (upd (f 1) (((32 : Int32) * (x1 - (2 : Int32))) + ((v 2) - (v 2) / (32 : Int32) * (32 : Int32))).toNatClampNeg x2.toInt16.toInt32))))) else (if x1 = (6 : Int32) then (if (((128 : Int32) + x1) - (6 : Int32)) < 0 ∨ 132 ≤ (((128 : Int32) + x1) - (6 : Int32)).toNatClampNeg then none else (some (v, (va_up f 1 (upd (f 1) (((128 : Int32) + x1) - (6 : Int32)).toNatClampNeg x2.toInt16.toInt32))))) else (if x1 = (7 : Int32) then (if (((128 : Int32) + x1) - (6 : Int32)) < 0 ∨ 132 ≤ (((128 : Int32) + x1) - (6 : Int32)).toNatClampNeg then none else (some (v, (va_up f 1 (upd (f 1) (((128 : Int32) + x1) - (6 : Int32)).toNatClampNeg x2.toInt16.toInt32))))) else (if x1 = (8 : Int32) then (if ((130 : Int32) + ((v 2) - (v 2) / (2 : Int32) * (2 : Int32))) < 0 ∨ 132 ≤ ((130 : Int32) + ((v 2) - (v 2) / (2 : Int32) * (2 : Int32))).toNatClampNeg then none else (some (v, (va_up f 1 (upd (f 1) ((130 : Int32) + ((v 2) - (v 2) / (2 : Int32) * (2 : Int32))).toNatClampNeg x2.toInt16.toInt32))))) else (if x1 = (9 : Int32) then (if x1 = (9 : Int32) then (F_Mo_put_182 x1 x2 (((f 1) (128 : Int32).toNatClampNeg) + x2) v f) else (F_Mo_put_182 x1 x2 (((f 1) (128 : Int32).toNatClampNeg) - x2) v f)) else (if x1 = (10 : Int32) then (if x1 = (9 : Int32) then (F_Mo_put_182 x1 x2 (((f 1) (128 : Int32).toNatClampNeg) + x2) v f) else (F_Mo_put_182 x1 x2 (((f 1) (128 : Int32).toNatClampNeg) - x2) v f)) else (if x1 = (11 : Int32) then (if x1 = (11 : Int32) then (if (0 : Int32) ≤ x2 then (F_Mo_put_215 x1 x2 (0 : Int32) v f) else (F_Mo_put_215 x1 x2 (1 : Int32) v f)) else (if x2 = (0 : Int32) then (F_Mo_put_215 x1 x2 (0 : Int32) v f) else (F_Mo_put_215 x1 x2 (1 : Int32) v f))) else (if x1 = (12 : Int32) then (if x1 = (11 : Int32) then (if (0 : Int32) ≤ x2 then (F_Mo_put_215 x1 x2 (0 : Int32) v f) else (F_Mo_put_215 x1 x2 (1 : Int32) v f)) else (if x2 = (0 : Int32) then (F_Mo_put_215 x1 x2 (0 : Int32) v f) else (F_Mo_put_215 x1 x2 (1 : Int32) v f))) else (if x1 = (13 : Int32) then (some ((va_up (va_up v 17 (17 : Int32)) 18 x2), (va_up (va_up f 1 (upd (f 1) (130 : Int32).toNatClampNeg (0 : Int32).toInt16.toInt32)) 1 (upd (upd (f 1) (130 : Int32).toNatClampNeg (0 : Int32).toInt16.toInt32) (131 : Int32).toNatClampNeg (0 : Int32).toInt16.toInt32)))) else (if x1 = (14 : Int32) then (Option.bind (F_Mo_feed  v f) (fun z1 => (some (z1.1, z1.2)))) else (Option.bind (F_Mo_press x2 v f) (fun z2 => (some (z2.1, z2.2)))))))))))))))))))
set_option maxHeartbeats 4000000 in
set_option maxRecDepth 100000 in
theorem c_Mo_put (l : Launch) (G : dm_G) (g : Nat → Nat) (x1 x2 : Int32) (v : Nat → Int32) (f : Nat → Nat → Int32) (RES : (Nat → Int32) × (Nat → Nat → Int32)) (hF : F_Mo_put x1 x2 v f = some RES) : dm_Ct l y_Mo_put b_Mo_put 3 none rm_Mo_put G (tw G g v f) [.ref (g 0), .int x1, .int x2] (fun ov w' => ov = none ∧ w' = (tw G g RES.1 RES.2)) := by
  refine dm_Ct.of (by decide +kernel) (Nat.le_of_ble_eq_true rfl) ?_
  intro p e s m below meth c A ls B hl hP hD hS
  have hx := B.1
  have hb := B.2.1
  have hl : lv_has ls 3 [(0, .ref (g 0)), (1, .int x1), (2, .int x2)] := hl
  have K182 : ∀ (ls : Array Slot) (H : Heap) (locs : List Loc) (s2 : Int32) (v : Nat → Int32) (f : Nat → Nat → Int32), lv_has ls 3 [] → va_P G.1 dm_cl (tw G g v f) H → va_D A (tw G g v f) → va_S A s.heap H locs → F_Mo_put_182 x1 x2 s2 v f = some RES → W p l e rm_Mo_put s m ([.ref (g 0), .int x1, .int x2] : List Value).toArray below meth c H locs 0 0 (dm_Z below G s ([.ref (g 0), .int x1, .int x2] : List Value).toArray A rm_Mo_put.cells rm_Mo_put.slots (fun ov w' => ov = none ∧ w' = (tw G g RES.1 RES.2))) (F0 m 182 ls [.int s2, .int (128 : Int32), .ref (g 2)]) := by
    intro ls H locs s2 v f hl hP hD hS hF
    have hF : (some (v, (va_up f 1 (upd (f 1) (128 : Int32).toNatClampNeg s2.toInt16.toInt32.toInt16.toInt32)))) = some RES := hF
    refine lv_i2s (v := s2.toInt16.toInt32) hx hb d_Mo_put_182 rfl ?_
    refine tw_s_2 (F := (f 1)) B hP hD hS rfl (by unfold vp_in; decide) d_Mo_put_183 (fun H locs hP hD hS => ?_)
    refine lv_goto (tgt := 265) hx hb d_Mo_put_184 (by decide) ?_
    have hF := Option.some.inj hF
    subst hF
    exact dm_retv B d_Mo_put_265 (by decide) (by decide) hP hD hS ⟨rfl, rfl⟩
  have K215 : ∀ (ls : Array Slot) (H : Heap) (locs : List Loc) (s1 : Int32) (v : Nat → Int32) (f : Nat → Nat → Int32), lv_has ls 3 [] → va_P G.1 dm_cl (tw G g v f) H → va_D A (tw G g v f) → va_S A s.heap H locs → F_Mo_put_215 x1 x2 s1 v f = some RES → W p l e rm_Mo_put s m ([.ref (g 0), .int x1, .int x2] : List Value).toArray below meth c H locs 0 0 (dm_Z below G s ([.ref (g 0), .int x1, .int x2] : List Value).toArray A rm_Mo_put.cells rm_Mo_put.slots (fun ov w' => ov = none ∧ w' = (tw G g RES.1 RES.2))) (F0 m 215 ls [.int s1, .ref (g 0)]) := by
    intro ls H locs s1 v f hl hP hD hS hF
    have hF : (Option.bind (F_Mo_discriminate s1 v f) (fun z1 => (some (z1.1, z1.2)))) = some RES := hF
    obtain ⟨z1, hcz1, hF⟩ := dm_bind hF
    refine dm_callVw B [.int s1] (c_Mo_discriminate l G g s1 v f z1 hcz1) k_924 k_926 ks_22 k_14 k_927 hd_Mo_discriminate rfl ⟨by decide, by decide⟩ 0 rfl rfl hP hD hS hl.1 (rest := []) rfl (Nat.le_of_ble_eq_true rfl) d_Mo_put_215 ⟨by decide, by decide⟩ (fun ov w' H locs hq hP hD hS => ?_)
    obtain ⟨rfl, rfl⟩ := hq
    have hP : va_P G.1 dm_cl (tw G g z1.1 z1.2) H := hP
    have hD : va_D A (tw G g z1.1 z1.2) := hD
    refine W.eq (g2 := F0 m 218 ls []) rfl ?_
    refine lv_goto (tgt := 265) hx hb d_Mo_put_218 (by decide) ?_
    have hF := Option.some.inj hF
    subst hF
    exact dm_retv B d_Mo_put_265 (by decide) (by decide) hP hD hS ⟨rfl, rfl⟩
  have hF : (if x1 = (0 : Int32) then (some (v, f)) else (if x1 = (1 : Int32) then (some ((va_up v 3 (0 : Int32)), f)) else (if x1 = (2 : Int32) then (if (((32 : Int32) * (x1 - (2 : Int32))) + ((v 2) - (v 2) / (32 : Int32) * (32 : Int32))) < 0 ∨ 132 ≤ (((32 : Int32) * (x1 - (2 : Int32))) + ((v 2) - (v 2) / (32 : Int32) * (32 : Int32))).toNatClampNeg then none else (some (v, (va_up f 1 (upd (f 1) (((32 : Int32) * (x1 - (2 : Int32))) + ((v 2) - (v 2) / (32 : Int32) * (32 : Int32))).toNatClampNeg x2.toInt16.toInt32))))) else (if x1 = (3 : Int32) then (if (((32 : Int32) * (x1 - (2 : Int32))) + ((v 2) - (v 2) / (32 : Int32) * (32 : Int32))) < 0 ∨ 132 ≤ (((32 : Int32) * (x1 - (2 : Int32))) + ((v 2) - (v 2) / (32 : Int32) * (32 : Int32))).toNatClampNeg then none else (some (v, (va_up f 1 (upd (f 1) (((32 : Int32) * (x1 - (2 : Int32))) + ((v 2) - (v 2) / (32 : Int32) * (32 : Int32))).toNatClampNeg x2.toInt16.toInt32))))) else (if x1 = (4 : Int32) then (if (((32 : Int32) * (x1 - (2 : Int32))) + ((v 2) - (v 2) / (32 : Int32) * (32 : Int32))) < 0 ∨ 132 ≤ (((32 : Int32) * (x1 - (2 : Int32))) + ((v 2) - (v 2) / (32 : Int32) * (32 : Int32))).toNatClampNeg then none else (some (v, (va_up f 1 (upd (f 1) (((32 : Int32) * (x1 - (2 : Int32))) + ((v 2) - (v 2) / (32 : Int32) * (32 : Int32))).toNatClampNeg x2.toInt16.toInt32))))) else (if x1 = (5 : Int32) then (if (((32 : Int32) * (x1 - (2 : Int32))) + ((v 2) - (v 2) / (32 : Int32) * (32 : Int32))) < 0 ∨ 132 ≤ (((32 : Int32) * (x1 - (2 : Int32))) + ((v 2) - (v 2) / (32 : Int32) * (32 : Int32))).toNatClampNeg then none else (some (v, (va_up f 1 (upd (f 1) (((32 : Int32) * (x1 - (2 : Int32))) + ((v 2) - (v 2) / (32 : Int32) * (32 : Int32))).toNatClampNeg x2.toInt16.toInt32))))) else (if x1 = (6 : Int32) then (if (((128 : Int32) + x1) - (6 : Int32)) < 0 ∨ 132 ≤ (((128 : Int32) + x1) - (6 : Int32)).toNatClampNeg then none else (some (v, (va_up f 1 (upd (f 1) (((128 : Int32) + x1) - (6 : Int32)).toNatClampNeg x2.toInt16.toInt32))))) else (if x1 = (7 : Int32) then (if (((128 : Int32) + x1) - (6 : Int32)) < 0 ∨ 132 ≤ (((128 : Int32) + x1) - (6 : Int32)).toNatClampNeg then none else (some (v, (va_up f 1 (upd (f 1) (((128 : Int32) + x1) - (6 : Int32)).toNatClampNeg x2.toInt16.toInt32))))) else (if x1 = (8 : Int32) then (if ((130 : Int32) + ((v 2) - (v 2) / (2 : Int32) * (2 : Int32))) < 0 ∨ 132 ≤ ((130 : Int32) + ((v 2) - (v 2) / (2 : Int32) * (2 : Int32))).toNatClampNeg then none else (some (v, (va_up f 1 (upd (f 1) ((130 : Int32) + ((v 2) - (v 2) / (2 : Int32) * (2 : Int32))).toNatClampNeg x2.toInt16.toInt32))))) else (if x1 = (9 : Int32) then (if x1 = (9 : Int32) then (F_Mo_put_182 x1 x2 (((f 1) (128 : Int32).toNatClampNeg) + x2) v f) else (F_Mo_put_182 x1 x2 (((f 1) (128 : Int32).toNatClampNeg) - x2) v f)) else (if x1 = (10 : Int32) then (if x1 = (9 : Int32) then (F_Mo_put_182 x1 x2 (((f 1) (128 : Int32).toNatClampNeg) + x2) v f) else (F_Mo_put_182 x1 x2 (((f 1) (128 : Int32).toNatClampNeg) - x2) v f)) else (if x1 = (11 : Int32) then (if x1 = (11 : Int32) then (if (0 : Int32) ≤ x2 then (F_Mo_put_215 x1 x2 (0 : Int32) v f) else (F_Mo_put_215 x1 x2 (1 : Int32) v f)) else (if x2 = (0 : Int32) then (F_Mo_put_215 x1 x2 (0 : Int32) v f) else (F_Mo_put_215 x1 x2 (1 : Int32) v f))) else (if x1 = (12 : Int32) then (if x1 = (11 : Int32) then (if (0 : Int32) ≤ x2 then (F_Mo_put_215 x1 x2 (0 : Int32) v f) else (F_Mo_put_215 x1 x2 (1 : Int32) v f)) else (if x2 = (0 : Int32) then (F_Mo_put_215 x1 x2 (0 : Int32) v f) else (F_Mo_put_215 x1 x2 (1 : Int32) v f))) else (if x1 = (13 : Int32) then (some ((va_up (va_up v 17 (17 : Int32)) 18 x2), (va_up (va_up f 1 (upd (f 1) (130 : Int32).toNatClampNeg (0 : Int32).toInt16.toInt32)) 1 (upd (upd (f 1) (130 : Int32).toNatClampNeg (0 : Int32).toInt16.toInt32) (131 : Int32).toNatClampNeg (0 : Int32).toInt16.toInt32)))) else (if x1 = (14 : Int32) then (Option.bind (F_Mo_feed  v f) (fun z1 => (some (z1.1, z1.2)))) else (Option.bind (F_Mo_press x2 v f) (fun z2 => (some (z2.1, z2.2))))))))))))))))))) = some RES := hF
  refine lv_iload_n hx hb d_Mo_put_0 rfl (lv_at hl 1 rfl) ?_
  by_cases h0 : x1 = (0 : Int32)
  · rw [if_pos h0] at hF
    refine lv_tableIn (off := 75) (tgt := 76) hx hb d_Mo_put_1 (by rw [h0]; decide) (by rw [h0]; decide) (by rw [h0]; rfl) (by decide) ?_
    refine lv_goto (tgt := 265) hx hb d_Mo_put_76 (by decide) ?_
    have hF := Option.some.inj hF
    subst hF
    exact dm_retv B d_Mo_put_265 (by decide) (by decide) hP hD hS ⟨rfl, rfl⟩
  rw [if_neg h0] at hF
  by_cases h1 : x1 = (1 : Int32)
  · rw [if_pos h1] at hF
    refine lv_tableIn (off := 78) (tgt := 79) hx hb d_Mo_put_1 (by rw [h1]; decide) (by rw [h1]; decide) (by rw [h1]; rfl) (by decide) ?_
    refine lv_aload_n hx hb d_Mo_put_79 rfl (lv_at hl 0 rfl) ?_
    refine lv_iconst (v := (0 : Int32)) hx hb d_Mo_put_80 (by decide) ?_
    refine tw_p_0_3 (x := (0 : Int32)) B hP hD hS (by decide) k_728 d_Mo_put_81 (fun H locs hP hD hS => ?_)
    refine lv_goto (tgt := 265) hx hb d_Mo_put_84 (by decide) ?_
    have hF := Option.some.inj hF
    subst hF
    exact dm_retv B d_Mo_put_265 (by decide) (by decide) hP hD hS ⟨rfl, rfl⟩
  rw [if_neg h1] at hF
  by_cases h2 : x1 = (2 : Int32)
  · rw [if_pos h2] at hF
    refine lv_tableIn (off := 86) (tgt := 87) hx hb d_Mo_put_1 (by rw [h2]; decide) (by rw [h2]; decide) (by rw [h2]; rfl) (by decide) ?_
    refine lv_aload_n hx hb d_Mo_put_87 rfl (lv_at hl 0 rfl) ?_
    refine tw_g_0_1 B hP k_726 d_Mo_put_88 ?_
    refine lv_bipush (v := (32 : Int32)) hx hb d_Mo_put_91 (by decide) ?_
    refine lv_iload_n hx hb d_Mo_put_93 rfl (lv_at hl 1 rfl) ?_
    refine lv_iconst (v := (2 : Int32)) hx hb d_Mo_put_94 (by decide) ?_
    refine lv_isub hx hb d_Mo_put_95 ?_
    refine lv_imul hx hb d_Mo_put_96 ?_
    refine lv_aload_n hx hb d_Mo_put_97 rfl (lv_at hl 0 rfl) ?_
    refine tw_g_0_2 (x := (v 2)) B hP rfl k_727 d_Mo_put_98 ?_
    refine lv_bipush (v := (32 : Int32)) hx hb d_Mo_put_101 (by decide) ?_
    refine lv_irem hx hb d_Mo_put_103 (by decide) ?_
    refine lv_iadd hx hb d_Mo_put_104 ?_
    refine lv_iload_n hx hb d_Mo_put_105 rfl (lv_at hl 2 rfl) ?_
    obtain ⟨hi, hF⟩ := dm_chk hF
    refine tw_s_2 (F := (f 1)) B hP hD hS rfl hi d_Mo_put_106 (fun H locs hP hD hS => ?_)
    refine lv_goto (tgt := 265) hx hb d_Mo_put_107 (by decide) ?_
    have hF := Option.some.inj hF
    subst hF
    exact dm_retv B d_Mo_put_265 (by decide) (by decide) hP hD hS ⟨rfl, rfl⟩
  rw [if_neg h2] at hF
  by_cases h3 : x1 = (3 : Int32)
  · rw [if_pos h3] at hF
    refine lv_tableIn (off := 86) (tgt := 87) hx hb d_Mo_put_1 (by rw [h3]; decide) (by rw [h3]; decide) (by rw [h3]; rfl) (by decide) ?_
    refine lv_aload_n hx hb d_Mo_put_87 rfl (lv_at hl 0 rfl) ?_
    refine tw_g_0_1 B hP k_726 d_Mo_put_88 ?_
    refine lv_bipush (v := (32 : Int32)) hx hb d_Mo_put_91 (by decide) ?_
    refine lv_iload_n hx hb d_Mo_put_93 rfl (lv_at hl 1 rfl) ?_
    refine lv_iconst (v := (2 : Int32)) hx hb d_Mo_put_94 (by decide) ?_
    refine lv_isub hx hb d_Mo_put_95 ?_
    refine lv_imul hx hb d_Mo_put_96 ?_
    refine lv_aload_n hx hb d_Mo_put_97 rfl (lv_at hl 0 rfl) ?_
    refine tw_g_0_2 (x := (v 2)) B hP rfl k_727 d_Mo_put_98 ?_
    refine lv_bipush (v := (32 : Int32)) hx hb d_Mo_put_101 (by decide) ?_
    refine lv_irem hx hb d_Mo_put_103 (by decide) ?_
    refine lv_iadd hx hb d_Mo_put_104 ?_
    refine lv_iload_n hx hb d_Mo_put_105 rfl (lv_at hl 2 rfl) ?_
    obtain ⟨hi, hF⟩ := dm_chk hF
    refine tw_s_2 (F := (f 1)) B hP hD hS rfl hi d_Mo_put_106 (fun H locs hP hD hS => ?_)
    refine lv_goto (tgt := 265) hx hb d_Mo_put_107 (by decide) ?_
    have hF := Option.some.inj hF
    subst hF
    exact dm_retv B d_Mo_put_265 (by decide) (by decide) hP hD hS ⟨rfl, rfl⟩
  rw [if_neg h3] at hF
  by_cases h4 : x1 = (4 : Int32)
  · rw [if_pos h4] at hF
    refine lv_tableIn (off := 86) (tgt := 87) hx hb d_Mo_put_1 (by rw [h4]; decide) (by rw [h4]; decide) (by rw [h4]; rfl) (by decide) ?_
    refine lv_aload_n hx hb d_Mo_put_87 rfl (lv_at hl 0 rfl) ?_
    refine tw_g_0_1 B hP k_726 d_Mo_put_88 ?_
    refine lv_bipush (v := (32 : Int32)) hx hb d_Mo_put_91 (by decide) ?_
    refine lv_iload_n hx hb d_Mo_put_93 rfl (lv_at hl 1 rfl) ?_
    refine lv_iconst (v := (2 : Int32)) hx hb d_Mo_put_94 (by decide) ?_
    refine lv_isub hx hb d_Mo_put_95 ?_
    refine lv_imul hx hb d_Mo_put_96 ?_
    refine lv_aload_n hx hb d_Mo_put_97 rfl (lv_at hl 0 rfl) ?_
    refine tw_g_0_2 (x := (v 2)) B hP rfl k_727 d_Mo_put_98 ?_
    refine lv_bipush (v := (32 : Int32)) hx hb d_Mo_put_101 (by decide) ?_
    refine lv_irem hx hb d_Mo_put_103 (by decide) ?_
    refine lv_iadd hx hb d_Mo_put_104 ?_
    refine lv_iload_n hx hb d_Mo_put_105 rfl (lv_at hl 2 rfl) ?_
    obtain ⟨hi, hF⟩ := dm_chk hF
    refine tw_s_2 (F := (f 1)) B hP hD hS rfl hi d_Mo_put_106 (fun H locs hP hD hS => ?_)
    refine lv_goto (tgt := 265) hx hb d_Mo_put_107 (by decide) ?_
    have hF := Option.some.inj hF
    subst hF
    exact dm_retv B d_Mo_put_265 (by decide) (by decide) hP hD hS ⟨rfl, rfl⟩
  rw [if_neg h4] at hF
  by_cases h5 : x1 = (5 : Int32)
  · rw [if_pos h5] at hF
    refine lv_tableIn (off := 86) (tgt := 87) hx hb d_Mo_put_1 (by rw [h5]; decide) (by rw [h5]; decide) (by rw [h5]; rfl) (by decide) ?_
    refine lv_aload_n hx hb d_Mo_put_87 rfl (lv_at hl 0 rfl) ?_
    refine tw_g_0_1 B hP k_726 d_Mo_put_88 ?_
    refine lv_bipush (v := (32 : Int32)) hx hb d_Mo_put_91 (by decide) ?_
    refine lv_iload_n hx hb d_Mo_put_93 rfl (lv_at hl 1 rfl) ?_
    refine lv_iconst (v := (2 : Int32)) hx hb d_Mo_put_94 (by decide) ?_
    refine lv_isub hx hb d_Mo_put_95 ?_
    refine lv_imul hx hb d_Mo_put_96 ?_
    refine lv_aload_n hx hb d_Mo_put_97 rfl (lv_at hl 0 rfl) ?_
    refine tw_g_0_2 (x := (v 2)) B hP rfl k_727 d_Mo_put_98 ?_
    refine lv_bipush (v := (32 : Int32)) hx hb d_Mo_put_101 (by decide) ?_
    refine lv_irem hx hb d_Mo_put_103 (by decide) ?_
    refine lv_iadd hx hb d_Mo_put_104 ?_
    refine lv_iload_n hx hb d_Mo_put_105 rfl (lv_at hl 2 rfl) ?_
    obtain ⟨hi, hF⟩ := dm_chk hF
    refine tw_s_2 (F := (f 1)) B hP hD hS rfl hi d_Mo_put_106 (fun H locs hP hD hS => ?_)
    refine lv_goto (tgt := 265) hx hb d_Mo_put_107 (by decide) ?_
    have hF := Option.some.inj hF
    subst hF
    exact dm_retv B d_Mo_put_265 (by decide) (by decide) hP hD hS ⟨rfl, rfl⟩
  rw [if_neg h5] at hF
  by_cases h6 : x1 = (6 : Int32)
  · rw [if_pos h6] at hF
    refine lv_tableIn (off := 109) (tgt := 110) hx hb d_Mo_put_1 (by rw [h6]; decide) (by rw [h6]; decide) (by rw [h6]; rfl) (by decide) ?_
    refine lv_aload_n hx hb d_Mo_put_110 rfl (lv_at hl 0 rfl) ?_
    refine tw_g_0_1 B hP k_726 d_Mo_put_111 ?_
    refine lv_sipush (v := (128 : Int32)) hx hb d_Mo_put_114 (by decide) ?_
    refine lv_iload_n hx hb d_Mo_put_117 rfl (lv_at hl 1 rfl) ?_
    refine lv_iadd hx hb d_Mo_put_118 ?_
    refine lv_bipush (v := (6 : Int32)) hx hb d_Mo_put_119 (by decide) ?_
    refine lv_isub hx hb d_Mo_put_121 ?_
    refine lv_iload_n hx hb d_Mo_put_122 rfl (lv_at hl 2 rfl) ?_
    obtain ⟨hi, hF⟩ := dm_chk hF
    refine tw_s_2 (F := (f 1)) B hP hD hS rfl hi d_Mo_put_123 (fun H locs hP hD hS => ?_)
    refine lv_goto (tgt := 265) hx hb d_Mo_put_124 (by decide) ?_
    have hF := Option.some.inj hF
    subst hF
    exact dm_retv B d_Mo_put_265 (by decide) (by decide) hP hD hS ⟨rfl, rfl⟩
  rw [if_neg h6] at hF
  by_cases h7 : x1 = (7 : Int32)
  · rw [if_pos h7] at hF
    refine lv_tableIn (off := 109) (tgt := 110) hx hb d_Mo_put_1 (by rw [h7]; decide) (by rw [h7]; decide) (by rw [h7]; rfl) (by decide) ?_
    refine lv_aload_n hx hb d_Mo_put_110 rfl (lv_at hl 0 rfl) ?_
    refine tw_g_0_1 B hP k_726 d_Mo_put_111 ?_
    refine lv_sipush (v := (128 : Int32)) hx hb d_Mo_put_114 (by decide) ?_
    refine lv_iload_n hx hb d_Mo_put_117 rfl (lv_at hl 1 rfl) ?_
    refine lv_iadd hx hb d_Mo_put_118 ?_
    refine lv_bipush (v := (6 : Int32)) hx hb d_Mo_put_119 (by decide) ?_
    refine lv_isub hx hb d_Mo_put_121 ?_
    refine lv_iload_n hx hb d_Mo_put_122 rfl (lv_at hl 2 rfl) ?_
    obtain ⟨hi, hF⟩ := dm_chk hF
    refine tw_s_2 (F := (f 1)) B hP hD hS rfl hi d_Mo_put_123 (fun H locs hP hD hS => ?_)
    refine lv_goto (tgt := 265) hx hb d_Mo_put_124 (by decide) ?_
    have hF := Option.some.inj hF
    subst hF
    exact dm_retv B d_Mo_put_265 (by decide) (by decide) hP hD hS ⟨rfl, rfl⟩
  rw [if_neg h7] at hF
  by_cases h8 : x1 = (8 : Int32)
  · rw [if_pos h8] at hF
    refine lv_tableIn (off := 126) (tgt := 127) hx hb d_Mo_put_1 (by rw [h8]; decide) (by rw [h8]; decide) (by rw [h8]; rfl) (by decide) ?_
    refine lv_aload_n hx hb d_Mo_put_127 rfl (lv_at hl 0 rfl) ?_
    refine tw_g_0_1 B hP k_726 d_Mo_put_128 ?_
    refine lv_sipush (v := (130 : Int32)) hx hb d_Mo_put_131 (by decide) ?_
    refine lv_aload_n hx hb d_Mo_put_134 rfl (lv_at hl 0 rfl) ?_
    refine tw_g_0_2 (x := (v 2)) B hP rfl k_727 d_Mo_put_135 ?_
    refine lv_iconst (v := (2 : Int32)) hx hb d_Mo_put_138 (by decide) ?_
    refine lv_irem hx hb d_Mo_put_139 (by decide) ?_
    refine lv_iadd hx hb d_Mo_put_140 ?_
    refine lv_iload_n hx hb d_Mo_put_141 rfl (lv_at hl 2 rfl) ?_
    obtain ⟨hi, hF⟩ := dm_chk hF
    refine tw_s_2 (F := (f 1)) B hP hD hS rfl hi d_Mo_put_142 (fun H locs hP hD hS => ?_)
    refine lv_goto (tgt := 265) hx hb d_Mo_put_143 (by decide) ?_
    have hF := Option.some.inj hF
    subst hF
    exact dm_retv B d_Mo_put_265 (by decide) (by decide) hP hD hS ⟨rfl, rfl⟩
  rw [if_neg h8] at hF
  by_cases h9 : x1 = (9 : Int32)
  · rw [if_pos h9] at hF
    refine lv_tableIn (off := 145) (tgt := 146) hx hb d_Mo_put_1 (by rw [h9]; decide) (by rw [h9]; decide) (by rw [h9]; rfl) (by decide) ?_
    refine lv_aload_n hx hb d_Mo_put_146 rfl (lv_at hl 0 rfl) ?_
    refine tw_g_0_1 B hP k_726 d_Mo_put_147 ?_
    refine lv_sipush (v := (128 : Int32)) hx hb d_Mo_put_150 (by decide) ?_
    refine lv_iload_n hx hb d_Mo_put_153 rfl (lv_at hl 1 rfl) ?_
    refine lv_bipush (v := (9 : Int32)) hx hb d_Mo_put_154 (by decide) ?_
    refine lv_icmp_ne (tgt := 172) hx hb d_Mo_put_156 (by decide) (fun (hh : ¬ x1 = (9 : Int32)) => ?_) (fun (hh : x1 = (9 : Int32)) => ?_)
    · rw [if_neg hh] at hF
      refine lv_aload_n hx hb d_Mo_put_172 rfl (lv_at hl 0 rfl) ?_
      refine tw_g_0_1 B hP k_726 d_Mo_put_173 ?_
      refine lv_sipush (v := (128 : Int32)) hx hb d_Mo_put_176 (by decide) ?_
      refine tw_a_2 (F := (f 1)) B hP rfl (by unfold vp_in; decide) d_Mo_put_179 ?_
      refine lv_iload_n hx hb d_Mo_put_180 rfl (lv_at hl 2 rfl) ?_
      refine lv_isub hx hb d_Mo_put_181 ?_
      exact K182 ls _ _ (((f 1) (128 : Int32).toNatClampNeg) - x2) v f (lv_sub hl [] rfl) hP hD hS hF
    · rw [if_pos hh] at hF
      refine lv_aload_n hx hb d_Mo_put_159 rfl (lv_at hl 0 rfl) ?_
      refine tw_g_0_1 B hP k_726 d_Mo_put_160 ?_
      refine lv_sipush (v := (128 : Int32)) hx hb d_Mo_put_163 (by decide) ?_
      refine tw_a_2 (F := (f 1)) B hP rfl (by unfold vp_in; decide) d_Mo_put_166 ?_
      refine lv_iload_n hx hb d_Mo_put_167 rfl (lv_at hl 2 rfl) ?_
      refine lv_iadd hx hb d_Mo_put_168 ?_
      refine lv_goto (tgt := 182) hx hb d_Mo_put_169 (by decide) ?_
      exact K182 ls _ _ (((f 1) (128 : Int32).toNatClampNeg) + x2) v f (lv_sub hl [] rfl) hP hD hS hF
  rw [if_neg h9] at hF
  by_cases h10 : x1 = (10 : Int32)
  · rw [if_pos h10] at hF
    refine lv_tableIn (off := 145) (tgt := 146) hx hb d_Mo_put_1 (by rw [h10]; decide) (by rw [h10]; decide) (by rw [h10]; rfl) (by decide) ?_
    refine lv_aload_n hx hb d_Mo_put_146 rfl (lv_at hl 0 rfl) ?_
    refine tw_g_0_1 B hP k_726 d_Mo_put_147 ?_
    refine lv_sipush (v := (128 : Int32)) hx hb d_Mo_put_150 (by decide) ?_
    refine lv_iload_n hx hb d_Mo_put_153 rfl (lv_at hl 1 rfl) ?_
    refine lv_bipush (v := (9 : Int32)) hx hb d_Mo_put_154 (by decide) ?_
    refine lv_icmp_ne (tgt := 172) hx hb d_Mo_put_156 (by decide) (fun (hh : ¬ x1 = (9 : Int32)) => ?_) (fun (hh : x1 = (9 : Int32)) => ?_)
    · rw [if_neg hh] at hF
      refine lv_aload_n hx hb d_Mo_put_172 rfl (lv_at hl 0 rfl) ?_
      refine tw_g_0_1 B hP k_726 d_Mo_put_173 ?_
      refine lv_sipush (v := (128 : Int32)) hx hb d_Mo_put_176 (by decide) ?_
      refine tw_a_2 (F := (f 1)) B hP rfl (by unfold vp_in; decide) d_Mo_put_179 ?_
      refine lv_iload_n hx hb d_Mo_put_180 rfl (lv_at hl 2 rfl) ?_
      refine lv_isub hx hb d_Mo_put_181 ?_
      exact K182 ls _ _ (((f 1) (128 : Int32).toNatClampNeg) - x2) v f (lv_sub hl [] rfl) hP hD hS hF
    · rw [if_pos hh] at hF
      refine lv_aload_n hx hb d_Mo_put_159 rfl (lv_at hl 0 rfl) ?_
      refine tw_g_0_1 B hP k_726 d_Mo_put_160 ?_
      refine lv_sipush (v := (128 : Int32)) hx hb d_Mo_put_163 (by decide) ?_
      refine tw_a_2 (F := (f 1)) B hP rfl (by unfold vp_in; decide) d_Mo_put_166 ?_
      refine lv_iload_n hx hb d_Mo_put_167 rfl (lv_at hl 2 rfl) ?_
      refine lv_iadd hx hb d_Mo_put_168 ?_
      refine lv_goto (tgt := 182) hx hb d_Mo_put_169 (by decide) ?_
      exact K182 ls _ _ (((f 1) (128 : Int32).toNatClampNeg) + x2) v f (lv_sub hl [] rfl) hP hD hS hF
  rw [if_neg h10] at hF
  by_cases h11 : x1 = (11 : Int32)
  · rw [if_pos h11] at hF
    refine lv_tableIn (off := 186) (tgt := 187) hx hb d_Mo_put_1 (by rw [h11]; decide) (by rw [h11]; decide) (by rw [h11]; rfl) (by decide) ?_
    refine lv_aload_n hx hb d_Mo_put_187 rfl (lv_at hl 0 rfl) ?_
    refine lv_iload_n hx hb d_Mo_put_188 rfl (lv_at hl 1 rfl) ?_
    refine lv_bipush (v := (11 : Int32)) hx hb d_Mo_put_189 (by decide) ?_
    refine lv_icmp_ne (tgt := 206) hx hb d_Mo_put_191 (by decide) (fun (hh : ¬ x1 = (11 : Int32)) => ?_) (fun (hh : x1 = (11 : Int32)) => ?_)
    · rw [if_neg hh] at hF
      refine lv_iload_n hx hb d_Mo_put_206 rfl (lv_at hl 2 rfl) ?_
      refine lv_if_eq (tgt := 214) hx hb d_Mo_put_207 (by decide) (fun (hh : x2 = (0 : Int32)) => ?_) (fun (hh : ¬ x2 = (0 : Int32)) => ?_)
      · rw [if_pos hh] at hF
        refine lv_iconst (v := (0 : Int32)) hx hb d_Mo_put_214 (by decide) ?_
        exact K215 ls _ _ (0 : Int32) v f (lv_sub hl [] rfl) hP hD hS hF
      · rw [if_neg hh] at hF
        refine lv_iconst (v := (1 : Int32)) hx hb d_Mo_put_210 (by decide) ?_
        refine lv_goto (tgt := 215) hx hb d_Mo_put_211 (by decide) ?_
        exact K215 ls _ _ (1 : Int32) v f (lv_sub hl [] rfl) hP hD hS hF
    · rw [if_pos hh] at hF
      refine lv_iload_n hx hb d_Mo_put_194 rfl (lv_at hl 2 rfl) ?_
      refine lv_if_ge (tgt := 202) hx hb d_Mo_put_195 (by decide) (fun (hh : (0 : Int32) ≤ x2) => ?_) (fun (hh : ¬ (0 : Int32) ≤ x2) => ?_)
      · rw [if_pos hh] at hF
        refine lv_iconst (v := (0 : Int32)) hx hb d_Mo_put_202 (by decide) ?_
        refine lv_goto (tgt := 215) hx hb d_Mo_put_203 (by decide) ?_
        exact K215 ls _ _ (0 : Int32) v f (lv_sub hl [] rfl) hP hD hS hF
      · rw [if_neg hh] at hF
        refine lv_iconst (v := (1 : Int32)) hx hb d_Mo_put_198 (by decide) ?_
        refine lv_goto (tgt := 215) hx hb d_Mo_put_199 (by decide) ?_
        exact K215 ls _ _ (1 : Int32) v f (lv_sub hl [] rfl) hP hD hS hF
  rw [if_neg h11] at hF
  by_cases h12 : x1 = (12 : Int32)
  · rw [if_pos h12] at hF
    refine lv_tableIn (off := 186) (tgt := 187) hx hb d_Mo_put_1 (by rw [h12]; decide) (by rw [h12]; decide) (by rw [h12]; rfl) (by decide) ?_
    refine lv_aload_n hx hb d_Mo_put_187 rfl (lv_at hl 0 rfl) ?_
    refine lv_iload_n hx hb d_Mo_put_188 rfl (lv_at hl 1 rfl) ?_
    refine lv_bipush (v := (11 : Int32)) hx hb d_Mo_put_189 (by decide) ?_
    refine lv_icmp_ne (tgt := 206) hx hb d_Mo_put_191 (by decide) (fun (hh : ¬ x1 = (11 : Int32)) => ?_) (fun (hh : x1 = (11 : Int32)) => ?_)
    · rw [if_neg hh] at hF
      refine lv_iload_n hx hb d_Mo_put_206 rfl (lv_at hl 2 rfl) ?_
      refine lv_if_eq (tgt := 214) hx hb d_Mo_put_207 (by decide) (fun (hh : x2 = (0 : Int32)) => ?_) (fun (hh : ¬ x2 = (0 : Int32)) => ?_)
      · rw [if_pos hh] at hF
        refine lv_iconst (v := (0 : Int32)) hx hb d_Mo_put_214 (by decide) ?_
        exact K215 ls _ _ (0 : Int32) v f (lv_sub hl [] rfl) hP hD hS hF
      · rw [if_neg hh] at hF
        refine lv_iconst (v := (1 : Int32)) hx hb d_Mo_put_210 (by decide) ?_
        refine lv_goto (tgt := 215) hx hb d_Mo_put_211 (by decide) ?_
        exact K215 ls _ _ (1 : Int32) v f (lv_sub hl [] rfl) hP hD hS hF
    · rw [if_pos hh] at hF
      refine lv_iload_n hx hb d_Mo_put_194 rfl (lv_at hl 2 rfl) ?_
      refine lv_if_ge (tgt := 202) hx hb d_Mo_put_195 (by decide) (fun (hh : (0 : Int32) ≤ x2) => ?_) (fun (hh : ¬ (0 : Int32) ≤ x2) => ?_)
      · rw [if_pos hh] at hF
        refine lv_iconst (v := (0 : Int32)) hx hb d_Mo_put_202 (by decide) ?_
        refine lv_goto (tgt := 215) hx hb d_Mo_put_203 (by decide) ?_
        exact K215 ls _ _ (0 : Int32) v f (lv_sub hl [] rfl) hP hD hS hF
      · rw [if_neg hh] at hF
        refine lv_iconst (v := (1 : Int32)) hx hb d_Mo_put_198 (by decide) ?_
        refine lv_goto (tgt := 215) hx hb d_Mo_put_199 (by decide) ?_
        exact K215 ls _ _ (1 : Int32) v f (lv_sub hl [] rfl) hP hD hS hF
  rw [if_neg h12] at hF
  by_cases h13 : x1 = (13 : Int32)
  · rw [if_pos h13] at hF
    refine lv_tableIn (off := 220) (tgt := 221) hx hb d_Mo_put_1 (by rw [h13]; decide) (by rw [h13]; decide) (by rw [h13]; rfl) (by decide) ?_
    refine lv_aload_n hx hb d_Mo_put_221 rfl (lv_at hl 0 rfl) ?_
    refine lv_bipush (v := (17 : Int32)) hx hb d_Mo_put_222 (by decide) ?_
    refine tw_p_0_17 (x := (17 : Int32)) B hP hD hS k_742 d_Mo_put_224 (fun H locs hP hD hS => ?_)
    refine lv_aload_n hx hb d_Mo_put_227 rfl (lv_at hl 0 rfl) ?_
    refine lv_iload_n hx hb d_Mo_put_228 rfl (lv_at hl 2 rfl) ?_
    refine tw_p_0_18 (x := x2) B hP hD hS k_743 d_Mo_put_229 (fun H locs hP hD hS => ?_)
    refine lv_aload_n hx hb d_Mo_put_232 rfl (lv_at hl 0 rfl) ?_
    refine tw_g_0_1 B hP k_726 d_Mo_put_233 ?_
    refine lv_sipush (v := (130 : Int32)) hx hb d_Mo_put_236 (by decide) ?_
    refine lv_iconst (v := (0 : Int32)) hx hb d_Mo_put_239 (by decide) ?_
    refine tw_s_2 (F := (f 1)) B hP hD hS rfl (by unfold vp_in; decide) d_Mo_put_240 (fun H locs hP hD hS => ?_)
    refine lv_aload_n hx hb d_Mo_put_241 rfl (lv_at hl 0 rfl) ?_
    refine tw_g_0_1 B hP k_726 d_Mo_put_242 ?_
    refine lv_sipush (v := (131 : Int32)) hx hb d_Mo_put_245 (by decide) ?_
    refine lv_iconst (v := (0 : Int32)) hx hb d_Mo_put_248 (by decide) ?_
    refine tw_s_2 (F := (upd (f 1) (130 : Int32).toNatClampNeg (0 : Int32).toInt16.toInt32)) B hP hD hS rfl (by unfold vp_in; decide) d_Mo_put_249 (fun H locs hP hD hS => ?_)
    refine lv_goto (tgt := 265) hx hb d_Mo_put_250 (by decide) ?_
    have hF := Option.some.inj hF
    subst hF
    exact dm_retv B d_Mo_put_265 (by decide) (by decide) hP hD hS ⟨rfl, rfl⟩
  rw [if_neg h13] at hF
  by_cases h14 : x1 = (14 : Int32)
  · rw [if_pos h14] at hF
    refine lv_tableIn (off := 252) (tgt := 253) hx hb d_Mo_put_1 (by rw [h14]; decide) (by rw [h14]; decide) (by rw [h14]; rfl) (by decide) ?_
    refine lv_aload_n hx hb d_Mo_put_253 rfl (lv_at hl 0 rfl) ?_
    obtain ⟨z1, hcz1, hF⟩ := dm_bind hF
    refine dm_callVw B [] (c_Mo_feed l G g  v f z1 hcz1) k_928 k_930 ks_23 k_14 k_931 hd_Mo_feed rfl ⟨by decide, by decide⟩ 0 rfl rfl hP hD hS hl.1 (rest := []) rfl (Nat.le_of_ble_eq_true rfl) d_Mo_put_254 ⟨by decide, by decide⟩ (fun ov w' H locs hq hP hD hS => ?_)
    obtain ⟨rfl, rfl⟩ := hq
    have hP : va_P G.1 dm_cl (tw G g z1.1 z1.2) H := hP
    have hD : va_D A (tw G g z1.1 z1.2) := hD
    refine W.eq (g2 := F0 m 257 ls []) rfl ?_
    refine lv_goto (tgt := 265) hx hb d_Mo_put_257 (by decide) ?_
    have hF := Option.some.inj hF
    subst hF
    exact dm_retv B d_Mo_put_265 (by decide) (by decide) hP hD hS ⟨rfl, rfl⟩
  rw [if_neg h14] at hF
  have e0 := lv_neT (a := 0) h0 (by decide)
  have e1 := lv_neT (a := 1) h1 (by decide)
  have e2 := lv_neT (a := 2) h2 (by decide)
  have e3 := lv_neT (a := 3) h3 (by decide)
  have e4 := lv_neT (a := 4) h4 (by decide)
  have e5 := lv_neT (a := 5) h5 (by decide)
  have e6 := lv_neT (a := 6) h6 (by decide)
  have e7 := lv_neT (a := 7) h7 (by decide)
  have e8 := lv_neT (a := 8) h8 (by decide)
  have e9 := lv_neT (a := 9) h9 (by decide)
  have e10 := lv_neT (a := 10) h10 (by decide)
  have e11 := lv_neT (a := 11) h11 (by decide)
  have e12 := lv_neT (a := 12) h12 (by decide)
  have e13 := lv_neT (a := 13) h13 (by decide)
  have e14 := lv_neT (a := 14) h14 (by decide)
  refine lv_tableOut (tgt := 260) hx hb d_Mo_put_1 (by omega) (by decide) ?_
  refine lv_aload_n hx hb d_Mo_put_260 rfl (lv_at hl 0 rfl) ?_
  refine lv_iload_n hx hb d_Mo_put_261 rfl (lv_at hl 2 rfl) ?_
  obtain ⟨z2, hcz2, hF⟩ := dm_bind hF
  refine dm_callVw B [.int x2] (c_Mo_press l G g x2 v f z2 hcz2) k_936 k_938 ks_25 k_14 k_939 hd_Mo_press rfl ⟨by decide, by decide⟩ 0 rfl rfl hP hD hS hl.1 (rest := []) rfl (Nat.le_of_ble_eq_true rfl) d_Mo_put_262 ⟨by decide, by decide⟩ (fun ov w' H locs hq hP hD hS => ?_)
  obtain ⟨rfl, rfl⟩ := hq
  have hP : va_P G.1 dm_cl (tw G g z2.1 z2.2) H := hP
  have hD : va_D A (tw G g z2.1 z2.2) := hD
  refine W.eq (g2 := F0 m 265 ls []) rfl ?_
  have hF := Option.some.inj hF
  subst hF
  exact dm_retv B d_Mo_put_265 (by decide) (by decide) hP hD hS ⟨rfl, rfl⟩
abbrev b_Mo_current : ByteArray := prog_16_method_18_code
abbrev y_Mo_current : MethodName := { cls := "DelayMachineModel", name := "current", desc := "()I" }
theorem d_Mo_current_0 : decode b_Mo_current 0 = .ok (.aload_n 0, 1) := by decide +kernel
theorem d_Mo_current_1 : decode b_Mo_current 1 = .ok (.getfield 128, 3) := by decide +kernel
theorem d_Mo_current_4 : decode b_Mo_current 4 = .ok (.aload_n 0, 1) := by decide +kernel
theorem d_Mo_current_5 : decode b_Mo_current 5 = .ok (.getfield 116, 3) := by decide +kernel
theorem d_Mo_current_8 : decode b_Mo_current 8 = .ok (.if_icmp .lt (21), 3) := by decide +kernel
theorem d_Mo_current_11 : decode b_Mo_current 11 = .ok (.aload_n 0, 1) := by decide +kernel
theorem d_Mo_current_12 : decode b_Mo_current 12 = .ok (.getfield 128, 3) := by decide +kernel
theorem d_Mo_current_15 : decode b_Mo_current 15 = .ok (.aload_n 0, 1) := by decide +kernel
theorem d_Mo_current_16 : decode b_Mo_current 16 = .ok (.getfield 119, 3) := by decide +kernel
theorem d_Mo_current_19 : decode b_Mo_current 19 = .ok (.if_icmp .gt (10), 3) := by decide +kernel
theorem d_Mo_current_22 : decode b_Mo_current 22 = .ok (.aload_n 0, 1) := by decide +kernel
theorem d_Mo_current_23 : decode b_Mo_current 23 = .ok (.getfield 141, 3) := by decide +kernel
theorem d_Mo_current_26 : decode b_Mo_current 26 = .ok (.goto (33), 3) := by decide +kernel
theorem d_Mo_current_29 : decode b_Mo_current 29 = .ok (.aload_n 0, 1) := by decide +kernel
theorem d_Mo_current_30 : decode b_Mo_current 30 = .ok (.getfield 128, 3) := by decide +kernel
theorem d_Mo_current_33 : decode b_Mo_current 33 = .ok (.aload_n 0, 1) := by decide +kernel
theorem d_Mo_current_34 : decode b_Mo_current 34 = .ok (.getfield 122, 3) := by decide +kernel
theorem d_Mo_current_37 : decode b_Mo_current 37 = .ok (.if_icmp .lt (21), 3) := by decide +kernel
theorem d_Mo_current_40 : decode b_Mo_current 40 = .ok (.aload_n 0, 1) := by decide +kernel
theorem d_Mo_current_41 : decode b_Mo_current 41 = .ok (.getfield 128, 3) := by decide +kernel
theorem d_Mo_current_44 : decode b_Mo_current 44 = .ok (.aload_n 0, 1) := by decide +kernel
theorem d_Mo_current_45 : decode b_Mo_current 45 = .ok (.getfield 125, 3) := by decide +kernel
theorem d_Mo_current_48 : decode b_Mo_current 48 = .ok (.if_icmp .gt (10), 3) := by decide +kernel
theorem d_Mo_current_51 : decode b_Mo_current 51 = .ok (.aload_n 0, 1) := by decide +kernel
theorem d_Mo_current_52 : decode b_Mo_current 52 = .ok (.getfield 144, 3) := by decide +kernel
theorem d_Mo_current_55 : decode b_Mo_current 55 = .ok (.goto (4), 3) := by decide +kernel
theorem d_Mo_current_58 : decode b_Mo_current 58 = .ok (.iconst (-1), 1) := by decide +kernel
theorem d_Mo_current_59 : decode b_Mo_current 59 = .ok (.ireturn, 1) := by decide +kernel
theorem hd_Mo_current : y_Mo_current.cls ≠ "java/lang/invoke/MethodHandle" ∧ y_Mo_current.cls ≠ "java/lang/invoke/VarHandle" ∧ (parseMethodDescriptor y_Mo_current.desc).map (fun d => d.parameters.length) = some 0 := by decide +kernel
abbrev rm_Mo_current : Room := { frames := 0, cells := 0, slots := 0, locals := 0 }
def F_Mo_current_58 (v : Nat → Int32) (f : Nat → Nat → Int32)    : Option (Int32) := (some (-1 : Int32))
def F_Mo_current_29 (v : Nat → Int32) (f : Nat → Nat → Int32)    : Option (Int32) := (if (v 2) < (v 14) then (F_Mo_current_58 v f) else (if (v 15) < (v 2) then (F_Mo_current_58 v f) else (some (v 13))))
def F_Mo_current (v : Nat → Int32) (f : Nat → Nat → Int32)  : Option (Int32) := (if (v 2) < (v 11) then (F_Mo_current_29 v f) else (if (v 12) < (v 2) then (F_Mo_current_29 v f) else (some (v 10))))
set_option maxHeartbeats 4000000 in
set_option maxRecDepth 100000 in
theorem c_Mo_current (l : Launch) (G : dm_G) (g : Nat → Nat) (v : Nat → Int32) (f : Nat → Nat → Int32) (RES : Int32) (hF : F_Mo_current v f = some RES) : dm_Ct l y_Mo_current b_Mo_current 1 (some .int) rm_Mo_current G (tw G g v f) [.ref (g 0)] (fun ov w' => ov = some (.int RES) ∧ w' = (tw G g v f)) := by
  refine dm_Ct.of (by decide +kernel) (Nat.le_of_ble_eq_true rfl) ?_
  intro p e s m below meth c A ls B hl hP hD hS
  have hx := B.1
  have hb := B.2.1
  have hl : lv_has ls 1 [(0, .ref (g 0))] := hl
  have K58 : ∀ (ls : Array Slot) (H : Heap) (locs : List Loc)  , lv_has ls 1 [] → va_P G.1 dm_cl (tw G g v f) H → va_D A (tw G g v f) → va_S A s.heap H locs → F_Mo_current_58 v f   = some RES → W p l e rm_Mo_current s m ([.ref (g 0)] : List Value).toArray below meth c H locs 0 0 (dm_Z below G s ([.ref (g 0)] : List Value).toArray A rm_Mo_current.cells rm_Mo_current.slots (fun ov w' => ov = some (.int RES) ∧ w' = (tw G g v f))) (F0 m 58 ls []) := by
    intro ls H locs  hl hP hD hS hF
    have hF : (some (-1 : Int32)) = some RES := hF
    refine lv_iconst (v := (-1 : Int32)) hx hb d_Mo_current_58 (by decide) ?_
    have hF := Option.some.inj hF
    subst hF
    exact dm_ret B rfl d_Mo_current_59 (by decide) (by decide) hP hD hS ⟨rfl, rfl⟩
  have K29 : ∀ (ls : Array Slot) (H : Heap) (locs : List Loc)  , lv_has ls 1 [(0, .ref (g 0))] → va_P G.1 dm_cl (tw G g v f) H → va_D A (tw G g v f) → va_S A s.heap H locs → F_Mo_current_29 v f   = some RES → W p l e rm_Mo_current s m ([.ref (g 0)] : List Value).toArray below meth c H locs 0 0 (dm_Z below G s ([.ref (g 0)] : List Value).toArray A rm_Mo_current.cells rm_Mo_current.slots (fun ov w' => ov = some (.int RES) ∧ w' = (tw G g v f))) (F0 m 29 ls []) := by
    intro ls H locs  hl hP hD hS hF
    have hF : (if (v 2) < (v 14) then (F_Mo_current_58 v f) else (if (v 15) < (v 2) then (F_Mo_current_58 v f) else (some (v 13)))) = some RES := hF
    refine lv_aload_n hx hb d_Mo_current_29 rfl (lv_at hl 0 rfl) ?_
    refine tw_g_0_2 (x := (v 2)) B hP rfl k_727 d_Mo_current_30 ?_
    refine lv_aload_n hx hb d_Mo_current_33 rfl (lv_at hl 0 rfl) ?_
    refine tw_g_0_14 (x := (v 14)) B hP rfl k_739 d_Mo_current_34 ?_
    refine lv_icmp_lt (tgt := 58) hx hb d_Mo_current_37 (by decide) (fun (hh : (v 2) < (v 14)) => ?_) (fun (hh : ¬ (v 2) < (v 14)) => ?_)
    · rw [if_pos hh] at hF
      exact K58 ls _ _  (lv_sub hl [] rfl) hP hD hS hF
    · rw [if_neg hh] at hF
      refine lv_aload_n hx hb d_Mo_current_40 rfl (lv_at hl 0 rfl) ?_
      refine tw_g_0_2 (x := (v 2)) B hP rfl k_727 d_Mo_current_41 ?_
      refine lv_aload_n hx hb d_Mo_current_44 rfl (lv_at hl 0 rfl) ?_
      refine tw_g_0_15 (x := (v 15)) B hP rfl k_740 d_Mo_current_45 ?_
      refine lv_icmp_gt (tgt := 58) hx hb d_Mo_current_48 (by decide) (fun (hh : (v 15) < (v 2)) => ?_) (fun (hh : ¬ (v 15) < (v 2)) => ?_)
      · rw [if_pos hh] at hF
        exact K58 ls _ _  (lv_sub hl [] rfl) hP hD hS hF
      · rw [if_neg hh] at hF
        refine lv_aload_n hx hb d_Mo_current_51 rfl (lv_at hl 0 rfl) ?_
        refine tw_g_0_13 (x := (v 13)) B hP rfl k_738 d_Mo_current_52 ?_
        refine lv_goto (tgt := 59) hx hb d_Mo_current_55 (by decide) ?_
        have hF := Option.some.inj hF
        subst hF
        exact dm_ret B rfl d_Mo_current_59 (by decide) (by decide) hP hD hS ⟨rfl, rfl⟩
  have hF : (if (v 2) < (v 11) then (F_Mo_current_29 v f) else (if (v 12) < (v 2) then (F_Mo_current_29 v f) else (some (v 10)))) = some RES := hF
  refine lv_aload_n hx hb d_Mo_current_0 rfl (lv_at hl 0 rfl) ?_
  refine tw_g_0_2 (x := (v 2)) B hP rfl k_727 d_Mo_current_1 ?_
  refine lv_aload_n hx hb d_Mo_current_4 rfl (lv_at hl 0 rfl) ?_
  refine tw_g_0_11 (x := (v 11)) B hP rfl k_736 d_Mo_current_5 ?_
  refine lv_icmp_lt (tgt := 29) hx hb d_Mo_current_8 (by decide) (fun (hh : (v 2) < (v 11)) => ?_) (fun (hh : ¬ (v 2) < (v 11)) => ?_)
  · rw [if_pos hh] at hF
    exact K29 ls _ _  (lv_sub hl [0] rfl) hP hD hS hF
  · rw [if_neg hh] at hF
    refine lv_aload_n hx hb d_Mo_current_11 rfl (lv_at hl 0 rfl) ?_
    refine tw_g_0_2 (x := (v 2)) B hP rfl k_727 d_Mo_current_12 ?_
    refine lv_aload_n hx hb d_Mo_current_15 rfl (lv_at hl 0 rfl) ?_
    refine tw_g_0_12 (x := (v 12)) B hP rfl k_737 d_Mo_current_16 ?_
    refine lv_icmp_gt (tgt := 29) hx hb d_Mo_current_19 (by decide) (fun (hh : (v 12) < (v 2)) => ?_) (fun (hh : ¬ (v 12) < (v 2)) => ?_)
    · rw [if_pos hh] at hF
      exact K29 ls _ _  (lv_sub hl [0] rfl) hP hD hS hF
    · rw [if_neg hh] at hF
      refine lv_aload_n hx hb d_Mo_current_22 rfl (lv_at hl 0 rfl) ?_
      refine tw_g_0_10 (x := (v 10)) B hP rfl k_735 d_Mo_current_23 ?_
      refine lv_goto (tgt := 59) hx hb d_Mo_current_26 (by decide) ?_
      have hF := Option.some.inj hF
      subst hF
      exact dm_ret B rfl d_Mo_current_59 (by decide) (by decide) hP hD hS ⟨rfl, rfl⟩
abbrev b_Mo_multiply : ByteArray := prog_16_method_20_code
abbrev y_Mo_multiply : MethodName := { cls := "DelayMachineModel", name := "multiply", desc := "()V" }
theorem d_Mo_multiply_0 : decode b_Mo_multiply 0 = .ok (.aload_n 0, 1) := by decide +kernel
theorem d_Mo_multiply_1 : decode b_Mo_multiply 1 = .ok (.getfield 104, 3) := by decide +kernel
theorem d_Mo_multiply_4 : decode b_Mo_multiply 4 = .ok (.ifCond .ne (4), 3) := by decide +kernel
theorem d_Mo_multiply_7 : decode b_Mo_multiply 7 = .ok (.return_, 1) := by decide +kernel
theorem d_Mo_multiply_8 : decode b_Mo_multiply 8 = .ok (.aload_n 0, 1) := by decide +kernel
theorem d_Mo_multiply_9 : decode b_Mo_multiply 9 = .ok (.dup, 1) := by decide +kernel
theorem d_Mo_multiply_10 : decode b_Mo_multiply 10 = .ok (.getfield 104, 3) := by decide +kernel
theorem d_Mo_multiply_13 : decode b_Mo_multiply 13 = .ok (.iconst 1, 1) := by decide +kernel
theorem d_Mo_multiply_14 : decode b_Mo_multiply 14 = .ok (.isub, 1) := by decide +kernel
theorem d_Mo_multiply_15 : decode b_Mo_multiply 15 = .ok (.putfield 104, 3) := by decide +kernel
theorem d_Mo_multiply_18 : decode b_Mo_multiply 18 = .ok (.aload_n 0, 1) := by decide +kernel
theorem d_Mo_multiply_19 : decode b_Mo_multiply 19 = .ok (.getfield 104, 3) := by decide +kernel
theorem d_Mo_multiply_22 : decode b_Mo_multiply 22 = .ok (.bipush (16), 2) := by decide +kernel
theorem d_Mo_multiply_24 : decode b_Mo_multiply 24 = .ok (.if_icmp .ne (4), 3) := by decide +kernel
theorem d_Mo_multiply_27 : decode b_Mo_multiply 27 = .ok (.return_, 1) := by decide +kernel
theorem d_Mo_multiply_28 : decode b_Mo_multiply 28 = .ok (.aload_n 0, 1) := by decide +kernel
theorem d_Mo_multiply_29 : decode b_Mo_multiply 29 = .ok (.getfield 13, 3) := by decide +kernel
theorem d_Mo_multiply_32 : decode b_Mo_multiply 32 = .ok (.sipush (131), 3) := by decide +kernel
theorem d_Mo_multiply_35 : decode b_Mo_multiply 35 = .ok (.saload, 1) := by decide +kernel
theorem d_Mo_multiply_36 : decode b_Mo_multiply 36 = .ok (.bipush (16), 2) := by decide +kernel
theorem d_Mo_multiply_38 : decode b_Mo_multiply 38 = .ok (.ishl, 1) := by decide +kernel
theorem d_Mo_multiply_39 : decode b_Mo_multiply 39 = .ok (.aload_n 0, 1) := by decide +kernel
theorem d_Mo_multiply_40 : decode b_Mo_multiply 40 = .ok (.getfield 13, 3) := by decide +kernel
theorem d_Mo_multiply_43 : decode b_Mo_multiply 43 = .ok (.sipush (130), 3) := by decide +kernel
theorem d_Mo_multiply_46 : decode b_Mo_multiply 46 = .ok (.saload, 1) := by decide +kernel
theorem d_Mo_multiply_47 : decode b_Mo_multiply 47 = .ok (.ldc 198, 2) := by decide +kernel
theorem d_Mo_multiply_49 : decode b_Mo_multiply 49 = .ok (.iand, 1) := by decide +kernel
theorem d_Mo_multiply_50 : decode b_Mo_multiply 50 = .ok (.ior, 1) := by decide +kernel
theorem d_Mo_multiply_51 : decode b_Mo_multiply 51 = .ok (.istore_n 1, 1) := by decide +kernel
theorem d_Mo_multiply_52 : decode b_Mo_multiply 52 = .ok (.iconst 2, 1) := by decide +kernel
theorem d_Mo_multiply_53 : decode b_Mo_multiply 53 = .ok (.iload_n 1, 1) := by decide +kernel
theorem d_Mo_multiply_54 : decode b_Mo_multiply 54 = .ok (.imul, 1) := by decide +kernel
theorem d_Mo_multiply_55 : decode b_Mo_multiply 55 = .ok (.aload_n 0, 1) := by decide +kernel
theorem d_Mo_multiply_56 : decode b_Mo_multiply 56 = .ok (.getfield 161, 3) := by decide +kernel
theorem d_Mo_multiply_59 : decode b_Mo_multiply 59 = .ok (.ifCond .ge (14), 3) := by decide +kernel
theorem d_Mo_multiply_62 : decode b_Mo_multiply 62 = .ok (.aload_n 0, 1) := by decide +kernel
theorem d_Mo_multiply_63 : decode b_Mo_multiply 63 = .ok (.getfield 13, 3) := by decide +kernel
theorem d_Mo_multiply_66 : decode b_Mo_multiply 66 = .ok (.sipush (129), 3) := by decide +kernel
theorem d_Mo_multiply_69 : decode b_Mo_multiply 69 = .ok (.saload, 1) := by decide +kernel
theorem d_Mo_multiply_70 : decode b_Mo_multiply 70 = .ok (.goto (4), 3) := by decide +kernel
theorem d_Mo_multiply_73 : decode b_Mo_multiply 73 = .ok (.iconst 0, 1) := by decide +kernel
theorem d_Mo_multiply_74 : decode b_Mo_multiply 74 = .ok (.iadd, 1) := by decide +kernel
theorem d_Mo_multiply_75 : decode b_Mo_multiply 75 = .ok (.istore_n 1, 1) := by decide +kernel
theorem d_Mo_multiply_76 : decode b_Mo_multiply 76 = .ok (.aload_n 0, 1) := by decide +kernel
theorem d_Mo_multiply_77 : decode b_Mo_multiply 77 = .ok (.getfield 13, 3) := by decide +kernel
theorem d_Mo_multiply_80 : decode b_Mo_multiply 80 = .ok (.sipush (130), 3) := by decide +kernel
theorem d_Mo_multiply_83 : decode b_Mo_multiply 83 = .ok (.iload_n 1, 1) := by decide +kernel
theorem d_Mo_multiply_84 : decode b_Mo_multiply 84 = .ok (.i2s, 1) := by decide +kernel
theorem d_Mo_multiply_85 : decode b_Mo_multiply 85 = .ok (.sastore, 1) := by decide +kernel
theorem d_Mo_multiply_86 : decode b_Mo_multiply 86 = .ok (.aload_n 0, 1) := by decide +kernel
theorem d_Mo_multiply_87 : decode b_Mo_multiply 87 = .ok (.getfield 13, 3) := by decide +kernel
theorem d_Mo_multiply_90 : decode b_Mo_multiply 90 = .ok (.sipush (131), 3) := by decide +kernel
theorem d_Mo_multiply_93 : decode b_Mo_multiply 93 = .ok (.iload_n 1, 1) := by decide +kernel
theorem d_Mo_multiply_94 : decode b_Mo_multiply 94 = .ok (.bipush (16), 2) := by decide +kernel
theorem d_Mo_multiply_96 : decode b_Mo_multiply 96 = .ok (.ishr, 1) := by decide +kernel
theorem d_Mo_multiply_97 : decode b_Mo_multiply 97 = .ok (.i2s, 1) := by decide +kernel
theorem d_Mo_multiply_98 : decode b_Mo_multiply 98 = .ok (.sastore, 1) := by decide +kernel
theorem d_Mo_multiply_99 : decode b_Mo_multiply 99 = .ok (.aload_n 0, 1) := by decide +kernel
theorem d_Mo_multiply_100 : decode b_Mo_multiply 100 = .ok (.aload_n 0, 1) := by decide +kernel
theorem d_Mo_multiply_101 : decode b_Mo_multiply 101 = .ok (.getfield 161, 3) := by decide +kernel
theorem d_Mo_multiply_104 : decode b_Mo_multiply 104 = .ok (.iconst 1, 1) := by decide +kernel
theorem d_Mo_multiply_105 : decode b_Mo_multiply 105 = .ok (.ishl, 1) := by decide +kernel
theorem d_Mo_multiply_106 : decode b_Mo_multiply 106 = .ok (.i2s, 1) := by decide +kernel
theorem d_Mo_multiply_107 : decode b_Mo_multiply 107 = .ok (.putfield 161, 3) := by decide +kernel
theorem d_Mo_multiply_110 : decode b_Mo_multiply 110 = .ok (.return_, 1) := by decide +kernel
theorem hd_Mo_multiply : y_Mo_multiply.cls ≠ "java/lang/invoke/MethodHandle" ∧ y_Mo_multiply.cls ≠ "java/lang/invoke/VarHandle" ∧ (parseMethodDescriptor y_Mo_multiply.desc).map (fun d => d.parameters.length) = some 0 := by decide +kernel
abbrev rm_Mo_multiply : Room := { frames := 0, cells := 0, slots := 0, locals := 0 }
def F_Mo_multiply_74   (s0 : Int32) (s1 : Int32) (v : Nat → Int32) (f : Nat → Nat → Int32) : Option ((Nat → Int32) × (Nat → Nat → Int32)) := (some ((va_up v 18 ((v 18) <<< ((1 : Int32) &&& 31)).toInt16.toInt32), (va_up (va_up f 1 (upd (f 1) (130 : Int32).toNatClampNeg (s0 + s1).toInt16.toInt32.toInt16.toInt32)) 1 (upd (upd (f 1) (130 : Int32).toNatClampNeg (s0 + s1).toInt16.toInt32.toInt16.toInt32) (131 : Int32).toNatClampNeg ((s0 + s1) >>> ((16 : Int32) &&& 31)).toInt16.toInt32.toInt16.toInt32))))
def F_Mo_multiply  (v : Nat → Int32) (f : Nat → Nat → Int32) : Option ((Nat → Int32) × (Nat → Nat → Int32)) := (if (v 17) = (0 : Int32) then (some (v, f)) else (if ((v 17) - (1 : Int32)) = (16 : Int32) then (some ((va_up v 17 ((v 17) - (1 : Int32))), f)) else (if (0 : Int32) ≤ (v 18) then (F_Mo_multiply_74  ((2 : Int32) * ((((f 1) (131 : Int32).toNatClampNeg) <<< ((16 : Int32) &&& 31)) ||| (((f 1) (130 : Int32).toNatClampNeg) &&& (65535 : Int32)))) (0 : Int32) (va_up v 17 ((v 17) - (1 : Int32))) f) else (F_Mo_multiply_74  ((2 : Int32) * ((((f 1) (131 : Int32).toNatClampNeg) <<< ((16 : Int32) &&& 31)) ||| (((f 1) (130 : Int32).toNatClampNeg) &&& (65535 : Int32)))) ((f 1) (129 : Int32).toNatClampNeg) (va_up v 17 ((v 17) - (1 : Int32))) f))))
set_option maxHeartbeats 4000000 in
set_option maxRecDepth 100000 in
theorem c_Mo_multiply (l : Launch) (G : dm_G) (g : Nat → Nat) (v : Nat → Int32) (f : Nat → Nat → Int32) (RES : (Nat → Int32) × (Nat → Nat → Int32)) (hF : F_Mo_multiply v f = some RES) : dm_Ct l y_Mo_multiply b_Mo_multiply 2 none rm_Mo_multiply G (tw G g v f) [.ref (g 0)] (fun ov w' => ov = none ∧ w' = (tw G g RES.1 RES.2)) := by
  refine dm_Ct.of (by decide +kernel) (Nat.le_of_ble_eq_true rfl) ?_
  intro p e s m below meth c A ls B hl hP hD hS
  have hx := B.1
  have hb := B.2.1
  have hl : lv_has ls 2 [(0, .ref (g 0))] := hl
  have K74 : ∀ (ls : Array Slot) (H : Heap) (locs : List Loc) (s0 : Int32) (s1 : Int32) (v : Nat → Int32) (f : Nat → Nat → Int32), lv_has ls 2 [(0, .ref (g 0))] → va_P G.1 dm_cl (tw G g v f) H → va_D A (tw G g v f) → va_S A s.heap H locs → F_Mo_multiply_74  s0 s1 v f = some RES → W p l e rm_Mo_multiply s m ([.ref (g 0)] : List Value).toArray below meth c H locs 0 0 (dm_Z below G s ([.ref (g 0)] : List Value).toArray A rm_Mo_multiply.cells rm_Mo_multiply.slots (fun ov w' => ov = none ∧ w' = (tw G g RES.1 RES.2))) (F0 m 74 ls [.int s1, .int s0]) := by
    intro ls H locs s0 s1 v f hl hP hD hS hF
    have hF : (some ((va_up v 18 ((v 18) <<< ((1 : Int32) &&& 31)).toInt16.toInt32), (va_up (va_up f 1 (upd (f 1) (130 : Int32).toNatClampNeg (s0 + s1).toInt16.toInt32.toInt16.toInt32)) 1 (upd (upd (f 1) (130 : Int32).toNatClampNeg (s0 + s1).toInt16.toInt32.toInt16.toInt32) (131 : Int32).toNatClampNeg ((s0 + s1) >>> ((16 : Int32) &&& 31)).toInt16.toInt32.toInt16.toInt32)))) = some RES := hF
    refine lv_iadd hx hb d_Mo_multiply_74 ?_
    refine lv_istore_n (lv' := [(1, .int (s0 + s1)), (0, .ref (g 0))]) hx hb d_Mo_multiply_75 rfl hl (Nat.le_of_ble_eq_true rfl) rfl (fun ls hl => ?_)
    have hl : lv_has ls 2 [(0, .ref (g 0)), (1, .int (s0 + s1))] := lv_sub hl [1, 0] rfl
    refine lv_aload_n hx hb d_Mo_multiply_76 rfl (lv_at hl 0 rfl) ?_
    refine tw_g_0_1 B hP k_726 d_Mo_multiply_77 ?_
    refine lv_sipush (v := (130 : Int32)) hx hb d_Mo_multiply_80 (by decide) ?_
    refine lv_iload_n hx hb d_Mo_multiply_83 rfl (lv_at hl 1 rfl) ?_
    refine lv_i2s (v := (s0 + s1).toInt16.toInt32) hx hb d_Mo_multiply_84 rfl ?_
    refine tw_s_2 (F := (f 1)) B hP hD hS rfl (by unfold vp_in; decide) d_Mo_multiply_85 (fun H locs hP hD hS => ?_)
    refine lv_aload_n hx hb d_Mo_multiply_86 rfl (lv_at hl 0 rfl) ?_
    refine tw_g_0_1 B hP k_726 d_Mo_multiply_87 ?_
    refine lv_sipush (v := (131 : Int32)) hx hb d_Mo_multiply_90 (by decide) ?_
    refine lv_iload_n hx hb d_Mo_multiply_93 rfl (lv_at hl 1 rfl) ?_
    refine lv_bipush (v := (16 : Int32)) hx hb d_Mo_multiply_94 (by decide) ?_
    refine lv_ishr hx hb d_Mo_multiply_96 ?_
    refine lv_i2s (v := ((s0 + s1) >>> ((16 : Int32) &&& 31)).toInt16.toInt32) hx hb d_Mo_multiply_97 rfl ?_
    refine tw_s_2 (F := (upd (f 1) (130 : Int32).toNatClampNeg (s0 + s1).toInt16.toInt32.toInt16.toInt32)) B hP hD hS rfl (by unfold vp_in; decide) d_Mo_multiply_98 (fun H locs hP hD hS => ?_)
    refine lv_aload_n hx hb d_Mo_multiply_99 rfl (lv_at hl 0 rfl) ?_
    refine lv_aload_n hx hb d_Mo_multiply_100 rfl (lv_at hl 0 rfl) ?_
    refine tw_g_0_18 (x := (v 18)) B hP rfl k_743 d_Mo_multiply_101 ?_
    refine lv_iconst (v := (1 : Int32)) hx hb d_Mo_multiply_104 (by decide) ?_
    refine lv_ishl hx hb d_Mo_multiply_105 ?_
    refine lv_i2s (v := ((v 18) <<< ((1 : Int32) &&& 31)).toInt16.toInt32) hx hb d_Mo_multiply_106 rfl ?_
    refine tw_p_0_18 (x := ((v 18) <<< ((1 : Int32) &&& 31)).toInt16.toInt32) B hP hD hS k_743 d_Mo_multiply_107 (fun H locs hP hD hS => ?_)
    have hF := Option.some.inj hF
    subst hF
    exact dm_retv B d_Mo_multiply_110 (by decide) (by decide) hP hD hS ⟨rfl, rfl⟩
  have hF : (if (v 17) = (0 : Int32) then (some (v, f)) else (if ((v 17) - (1 : Int32)) = (16 : Int32) then (some ((va_up v 17 ((v 17) - (1 : Int32))), f)) else (if (0 : Int32) ≤ (v 18) then (F_Mo_multiply_74  ((2 : Int32) * ((((f 1) (131 : Int32).toNatClampNeg) <<< ((16 : Int32) &&& 31)) ||| (((f 1) (130 : Int32).toNatClampNeg) &&& (65535 : Int32)))) (0 : Int32) (va_up v 17 ((v 17) - (1 : Int32))) f) else (F_Mo_multiply_74  ((2 : Int32) * ((((f 1) (131 : Int32).toNatClampNeg) <<< ((16 : Int32) &&& 31)) ||| (((f 1) (130 : Int32).toNatClampNeg) &&& (65535 : Int32)))) ((f 1) (129 : Int32).toNatClampNeg) (va_up v 17 ((v 17) - (1 : Int32))) f)))) = some RES := hF
  refine lv_aload_n hx hb d_Mo_multiply_0 rfl (lv_at hl 0 rfl) ?_
  refine tw_g_0_17 (x := (v 17)) B hP rfl k_742 d_Mo_multiply_1 ?_
  refine lv_if_ne (tgt := 8) hx hb d_Mo_multiply_4 (by decide) (fun (hh : ¬ (v 17) = (0 : Int32)) => ?_) (fun (hh : (v 17) = (0 : Int32)) => ?_)
  · rw [if_neg hh] at hF
    refine lv_aload_n hx hb d_Mo_multiply_8 rfl (lv_at hl 0 rfl) ?_
    refine lv_dup hx hb d_Mo_multiply_9 rfl ?_
    refine tw_g_0_17 (x := (v 17)) B hP rfl k_742 d_Mo_multiply_10 ?_
    refine lv_iconst (v := (1 : Int32)) hx hb d_Mo_multiply_13 (by decide) ?_
    refine lv_isub hx hb d_Mo_multiply_14 ?_
    refine tw_p_0_17 (x := ((v 17) - (1 : Int32))) B hP hD hS k_742 d_Mo_multiply_15 (fun H locs hP hD hS => ?_)
    refine lv_aload_n hx hb d_Mo_multiply_18 rfl (lv_at hl 0 rfl) ?_
    refine tw_g_0_17 (x := ((v 17) - (1 : Int32))) B hP rfl k_742 d_Mo_multiply_19 ?_
    refine lv_bipush (v := (16 : Int32)) hx hb d_Mo_multiply_22 (by decide) ?_
    refine lv_icmp_ne (tgt := 28) hx hb d_Mo_multiply_24 (by decide) (fun (hh : ¬ ((v 17) - (1 : Int32)) = (16 : Int32)) => ?_) (fun (hh : ((v 17) - (1 : Int32)) = (16 : Int32)) => ?_)
    · rw [if_neg hh] at hF
      refine lv_aload_n hx hb d_Mo_multiply_28 rfl (lv_at hl 0 rfl) ?_
      refine tw_g_0_1 B hP k_726 d_Mo_multiply_29 ?_
      refine lv_sipush (v := (131 : Int32)) hx hb d_Mo_multiply_32 (by decide) ?_
      refine tw_a_2 (F := (f 1)) B hP rfl (by unfold vp_in; decide) d_Mo_multiply_35 ?_
      refine lv_bipush (v := (16 : Int32)) hx hb d_Mo_multiply_36 (by decide) ?_
      refine lv_ishl hx hb d_Mo_multiply_38 ?_
      refine lv_aload_n hx hb d_Mo_multiply_39 rfl (lv_at hl 0 rfl) ?_
      refine tw_g_0_1 B hP k_726 d_Mo_multiply_40 ?_
      refine lv_sipush (v := (130 : Int32)) hx hb d_Mo_multiply_43 (by decide) ?_
      refine tw_a_2 (F := (f 1)) B hP rfl (by unfold vp_in; decide) d_Mo_multiply_46 ?_
      refine dm_ldc B k_944 d_Mo_multiply_47 ?_
      refine lv_iand hx hb d_Mo_multiply_49 ?_
      refine lv_ior hx hb d_Mo_multiply_50 ?_
      refine lv_istore_n (lv' := [(1, .int ((((f 1) (131 : Int32).toNatClampNeg) <<< ((16 : Int32) &&& 31)) ||| (((f 1) (130 : Int32).toNatClampNeg) &&& (65535 : Int32)))), (0, .ref (g 0))]) hx hb d_Mo_multiply_51 rfl hl (Nat.le_of_ble_eq_true rfl) rfl (fun ls hl => ?_)
      have hl : lv_has ls 2 [(0, .ref (g 0)), (1, .int ((((f 1) (131 : Int32).toNatClampNeg) <<< ((16 : Int32) &&& 31)) ||| (((f 1) (130 : Int32).toNatClampNeg) &&& (65535 : Int32))))] := lv_sub hl [1, 0] rfl
      refine lv_iconst (v := (2 : Int32)) hx hb d_Mo_multiply_52 (by decide) ?_
      refine lv_iload_n hx hb d_Mo_multiply_53 rfl (lv_at hl 1 rfl) ?_
      refine lv_imul hx hb d_Mo_multiply_54 ?_
      refine lv_aload_n hx hb d_Mo_multiply_55 rfl (lv_at hl 0 rfl) ?_
      refine tw_g_0_18 (x := (v 18)) B hP rfl k_743 d_Mo_multiply_56 ?_
      refine lv_if_ge (tgt := 73) hx hb d_Mo_multiply_59 (by decide) (fun (hh : (0 : Int32) ≤ (v 18)) => ?_) (fun (hh : ¬ (0 : Int32) ≤ (v 18)) => ?_)
      · rw [if_pos hh] at hF
        refine lv_iconst (v := (0 : Int32)) hx hb d_Mo_multiply_73 (by decide) ?_
        exact K74 ls _ _ ((2 : Int32) * ((((f 1) (131 : Int32).toNatClampNeg) <<< ((16 : Int32) &&& 31)) ||| (((f 1) (130 : Int32).toNatClampNeg) &&& (65535 : Int32)))) (0 : Int32) (va_up v 17 ((v 17) - (1 : Int32))) f (lv_sub hl [0] rfl) hP hD hS hF
      · rw [if_neg hh] at hF
        refine lv_aload_n hx hb d_Mo_multiply_62 rfl (lv_at hl 0 rfl) ?_
        refine tw_g_0_1 B hP k_726 d_Mo_multiply_63 ?_
        refine lv_sipush (v := (129 : Int32)) hx hb d_Mo_multiply_66 (by decide) ?_
        refine tw_a_2 (F := (f 1)) B hP rfl (by unfold vp_in; decide) d_Mo_multiply_69 ?_
        refine lv_goto (tgt := 74) hx hb d_Mo_multiply_70 (by decide) ?_
        exact K74 ls _ _ ((2 : Int32) * ((((f 1) (131 : Int32).toNatClampNeg) <<< ((16 : Int32) &&& 31)) ||| (((f 1) (130 : Int32).toNatClampNeg) &&& (65535 : Int32)))) ((f 1) (129 : Int32).toNatClampNeg) (va_up v 17 ((v 17) - (1 : Int32))) f (lv_sub hl [0] rfl) hP hD hS hF
    · rw [if_pos hh] at hF
      have hF := Option.some.inj hF
      subst hF
      exact dm_retv B d_Mo_multiply_27 (by decide) (by decide) hP hD hS ⟨rfl, rfl⟩
  · rw [if_pos hh] at hF
    have hF := Option.some.inj hF
    subst hF
    exact dm_retv B d_Mo_multiply_7 (by decide) (by decide) hP hD hS ⟨rfl, rfl⟩
