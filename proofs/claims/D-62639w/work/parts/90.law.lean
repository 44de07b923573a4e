/-! THE CLAIM OUT OF ONE WALK OF THE LAW'S BODY. Your part is whole_start (and what it stands on); all else here is the same for every law, but numbers. -/
def R_law : String := "DelayMachineLaw"
def lw_P (b : Addr) (xs : List Int32) (args : Array Value) (s : State) : Prop := args = #[.ref b] ∧ s.IntsAt b xs ∧ xs.length ≤ 3072 ∧ (Jvm.Cond.and given_1 narrow_1).before args s = true
def lw_Q (_ : Array Value) (s : State) (o : Outcome) (t : State) : Prop := o = .returned (some (.int 1)) ∧ Framed s o t [] 600000 7302250
def lw_Z (below : List Frame) (a : Array Value) (s : State) : State → Prop := fun t => ∃ o, t.status = .running ∧ Ended t below o ∧ lw_Q a s o t
/-- the law's own end, with 1 on the stack, nothing written that was there before, its room as the claim has it -/
theorem lw_ret {p : Program} {l : Launch} {e : Env} {s : State} {m : MethodId} {below : List Frame} {meth : Method} {c : Code} {b : Nat} (hx : p.tables.exec = Jvm.exec) (hb : c.code = code) (hr : meth.sig.returnType = ret) (hlocks : meth.locks = false) {pc : Nat} {H : Heap} {ls : Array Slot} (hdg : decode code pc = .ok (.ireturn, 1)) : W p l e room_1 s m #[Value.ref b] below meth c H [] 600000 7302250 (lw_Z below #[Value.ref b] s) (F0 m pc ls [.int 1]) := by
  intro T hT X
  obtain ⟨fs, hret, hrun, hended, hW, hframe⟩ := X.leave (v := some (.int 1)) (hlocks := hlocks) (fun h => by rw [hr] at h; cases h)
  have hmeth' : T.vm.method? m = some meth := X.method'
  refine ⟨T.setFrames fs, ?_, .returned (some (.int 1)), hrun, hended, rfl, ⟨_, rfl⟩, hW, hframe⟩
  jvm_step X.here [X.here.top, hx, hb, hdg, hmeth', hr, ret, narrow_b1]
  (try refine ⟨rfl, ?_⟩); (try refine ⟨rfl, ?_⟩)
  first | (intro acts; rw [hret _ acts rfl rfl rfl]) | rw [hret _ _ rfl rfl rfl]
  exact Steps.refl _
/-- what holds at the law's entry: the machine, the code, the tables' words (any of lw_tbl by 'hts w (by decide +kernel)'), the script of L ints xs at the cell b, what the Statement gives of the start (any of its parts by flat_of_before) -/
def lw_At (p : Program) (s : State) (m : MethodId) (meth : Method) (c : Code) (b L : Nat) (xs : Nat → Int32) : Prop :=
  p.tables.exec = Jvm.exec ∧ c.code = code ∧ meth.sig.returnType = ret ∧ c.maxLocals = 4 ∧ s.vm.findClass R_law = some m.cls ∧ (∀ w ∈ lw_tbl, w.before #[Value.ref b] s = true) ∧ va_X b L xs s s.heap ∧ b < s.heap.size ∧ meth.locks = false ∧ (Jvm.Cond.and given_1 narrow_1).before #[Value.ref b] s = true
theorem d_law_0 : decode code 0 = .ok (.new 7, 3) := by decide +kernel
theorem d_law_3 : decode code 3 = .ok (.dup, 1) := by decide +kernel
theorem d_law_4 : decode code 4 = .ok (.invokespecial 9, 3) := by decide +kernel
theorem d_law_7 : decode code 7 = .ok (.astore_n 1, 1) := by decide +kernel
theorem d_law_8 : decode code 8 = .ok (.new 10, 3) := by decide +kernel
theorem d_law_11 : decode code 11 = .ok (.dup, 1) := by decide +kernel
theorem d_law_12 : decode code 12 = .ok (.invokespecial 12, 3) := by decide +kernel
theorem d_law_15 : decode code 15 = .ok (.astore_n 2, 1) := by decide +kernel
theorem d_law_16 : decode code 16 = .ok (.iconst 0, 1) := by decide +kernel
theorem d_law_17 : decode code 17 = .ok (.istore_n 3, 1) := by decide +kernel
theorem d_law_18 : decode code 18 = .ok (.iload_n 3, 1) := by decide +kernel
theorem d_law_19 : decode code 19 = .ok (.aload_n 0, 1) := by decide +kernel
theorem d_law_20 : decode code 20 = .ok (.arraylength, 1) := by decide +kernel
theorem d_law_21 : decode code 21 = .ok (.bipush (6), 2) := by decide +kernel
theorem d_law_23 : decode code 23 = .ok (.isub, 1) := by decide +kernel
theorem d_law_24 : decode code 24 = .ok (.if_icmp .gt (500), 3) := by decide +kernel
theorem d_law_27 : decode code 27 = .ok (.aload_n 0, 1) := by decide +kernel
theorem d_law_28 : decode code 28 = .ok (.iload_n 3, 1) := by decide +kernel
theorem d_law_29 : decode code 29 = .ok (.iaload, 1) := by decide +kernel
theorem d_law_30 : decode code 30 = .ok (.bipush (15), 2) := by decide +kernel
theorem d_law_32 : decode code 32 = .ok (.iand, 1) := by decide +kernel
theorem d_law_33 : decode code 33 = .ok (.tableswitch (485) (0) (13) #[71, 114, 159, 184, 217, 240, 263, 296, 329, 352, 415, 426, 439, 462], 71) := by decide +kernel
theorem d_law_104 : decode code 104 = .ok (.aload_n 1, 1) := by decide +kernel
theorem d_law_105 : decode code 105 = .ok (.aload_n 0, 1) := by decide +kernel
theorem d_law_106 : decode code 106 = .ok (.iload_n 3, 1) := by decide +kernel
theorem d_law_107 : decode code 107 = .ok (.iconst 1, 1) := by decide +kernel
theorem d_law_108 : decode code 108 = .ok (.iadd, 1) := by decide +kernel
theorem d_law_109 : decode code 109 = .ok (.iaload, 1) := by decide +kernel
theorem d_law_110 : decode code 110 = .ok (.aload_n 0, 1) := by decide +kernel
theorem d_law_111 : decode code 111 = .ok (.iload_n 3, 1) := by decide +kernel
theorem d_law_112 : decode code 112 = .ok (.iconst 2, 1) := by decide +kernel
theorem d_law_113 : decode code 113 = .ok (.iadd, 1) := by decide +kernel
theorem d_law_114 : decode code 114 = .ok (.iaload, 1) := by decide +kernel
theorem d_law_115 : decode code 115 = .ok (.aload_n 0, 1) := by decide +kernel
theorem d_law_116 : decode code 116 = .ok (.iload_n 3, 1) := by decide +kernel
theorem d_law_117 : decode code 117 = .ok (.iconst 3, 1) := by decide +kernel
theorem d_law_118 : decode code 118 = .ok (.iadd, 1) := by decide +kernel
theorem d_law_119 : decode code 119 = .ok (.iaload, 1) := by decide +kernel
theorem d_law_120 : decode code 120 = .ok (.invokevirtual 13, 3) := by decide +kernel
theorem d_law_123 : decode code 123 = .ok (.aload_n 2, 1) := by decide +kernel
theorem d_law_124 : decode code 124 = .ok (.aload_n 0, 1) := by decide +kernel
theorem d_law_125 : decode code 125 = .ok (.iload_n 3, 1) := by decide +kernel
theorem d_law_126 : decode code 126 = .ok (.iconst 1, 1) := by decide +kernel
theorem d_law_127 : decode code 127 = .ok (.iadd, 1) := by decide +kernel
theorem d_law_128 : decode code 128 = .ok (.iaload, 1) := by decide +kernel
theorem d_law_129 : decode code 129 = .ok (.aload_n 0, 1) := by decide +kernel
theorem d_law_130 : decode code 130 = .ok (.iload_n 3, 1) := by decide +kernel
theorem d_law_131 : decode code 131 = .ok (.iconst 2, 1) := by decide +kernel
theorem d_law_132 : decode code 132 = .ok (.iadd, 1) := by decide +kernel
theorem d_law_133 : decode code 133 = .ok (.iaload, 1) := by decide +kernel
theorem d_law_134 : decode code 134 = .ok (.aload_n 0, 1) := by decide +kernel
theorem d_law_135 : decode code 135 = .ok (.iload_n 3, 1) := by decide +kernel
theorem d_law_136 : decode code 136 = .ok (.iconst 3, 1) := by decide +kernel
theorem d_law_137 : decode code 137 = .ok (.iadd, 1) := by decide +kernel
theorem d_law_138 : decode code 138 = .ok (.iaload, 1) := by decide +kernel
theorem d_law_139 : decode code 139 = .ok (.invokevirtual 17, 3) := by decide +kernel
theorem d_law_142 : decode code 142 = .ok (.if_icmp .eq (376), 3) := by decide +kernel
theorem d_law_145 : decode code 145 = .ok (.iconst 0, 1) := by decide +kernel
theorem d_law_146 : decode code 146 = .ok (.ireturn, 1) := by decide +kernel
theorem d_law_147 : decode code 147 = .ok (.aload_n 1, 1) := by decide +kernel
theorem d_law_148 : decode code 148 = .ok (.aload_n 0, 1) := by decide +kernel
theorem d_law_149 : decode code 149 = .ok (.iload_n 3, 1) := by decide +kernel
theorem d_law_150 : decode code 150 = .ok (.iconst 1, 1) := by decide +kernel
theorem d_law_151 : decode code 151 = .ok (.iadd, 1) := by decide +kernel
theorem d_law_152 : decode code 152 = .ok (.iaload, 1) := by decide +kernel
theorem d_law_153 : decode code 153 = .ok (.aload_n 0, 1) := by decide +kernel
theorem d_law_154 : decode code 154 = .ok (.iload_n 3, 1) := by decide +kernel
theorem d_law_155 : decode code 155 = .ok (.iconst 2, 1) := by decide +kernel
theorem d_law_156 : decode code 156 = .ok (.iadd, 1) := by decide +kernel
theorem d_law_157 : decode code 157 = .ok (.iaload, 1) := by decide +kernel
theorem d_law_158 : decode code 158 = .ok (.aload_n 0, 1) := by decide +kernel
theorem d_law_159 : decode code 159 = .ok (.iload_n 3, 1) := by decide +kernel
theorem d_law_160 : decode code 160 = .ok (.iconst 3, 1) := by decide +kernel
theorem d_law_161 : decode code 161 = .ok (.iadd, 1) := by decide +kernel
theorem d_law_162 : decode code 162 = .ok (.iaload, 1) := by decide +kernel
theorem d_law_163 : decode code 163 = .ok (.i2s, 1) := by decide +kernel
theorem d_law_164 : decode code 164 = .ok (.invokevirtual 18, 3) := by decide +kernel
theorem d_law_167 : decode code 167 = .ok (.aload_n 2, 1) := by decide +kernel
theorem d_law_168 : decode code 168 = .ok (.aload_n 0, 1) := by decide +kernel
theorem d_law_169 : decode code 169 = .ok (.iload_n 3, 1) := by decide +kernel
theorem d_law_170 : decode code 170 = .ok (.iconst 1, 1) := by decide +kernel
theorem d_law_171 : decode code 171 = .ok (.iadd, 1) := by decide +kernel
theorem d_law_172 : decode code 172 = .ok (.iaload, 1) := by decide +kernel
theorem d_law_173 : decode code 173 = .ok (.aload_n 0, 1) := by decide +kernel
theorem d_law_174 : decode code 174 = .ok (.iload_n 3, 1) := by decide +kernel
theorem d_law_175 : decode code 175 = .ok (.iconst 2, 1) := by decide +kernel
theorem d_law_176 : decode code 176 = .ok (.iadd, 1) := by decide +kernel
theorem d_law_177 : decode code 177 = .ok (.iaload, 1) := by decide +kernel
theorem d_law_178 : decode code 178 = .ok (.aload_n 0, 1) := by decide +kernel
theorem d_law_179 : decode code 179 = .ok (.iload_n 3, 1) := by decide +kernel
theorem d_law_180 : decode code 180 = .ok (.iconst 3, 1) := by decide +kernel
theorem d_law_181 : decode code 181 = .ok (.iadd, 1) := by decide +kernel
theorem d_law_182 : decode code 182 = .ok (.iaload, 1) := by decide +kernel
theorem d_law_183 : decode code 183 = .ok (.i2s, 1) := by decide +kernel
theorem d_law_184 : decode code 184 = .ok (.invokevirtual 22, 3) := by decide +kernel
theorem d_law_187 : decode code 187 = .ok (.if_icmp .eq (331), 3) := by decide +kernel
theorem d_law_190 : decode code 190 = .ok (.iconst 0, 1) := by decide +kernel
theorem d_law_191 : decode code 191 = .ok (.ireturn, 1) := by decide +kernel
theorem d_law_192 : decode code 192 = .ok (.aload_n 1, 1) := by decide +kernel
theorem d_law_193 : decode code 193 = .ok (.aload_n 0, 1) := by decide +kernel
theorem d_law_194 : decode code 194 = .ok (.iload_n 3, 1) := by decide +kernel
theorem d_law_195 : decode code 195 = .ok (.iconst 1, 1) := by decide +kernel
theorem d_law_196 : decode code 196 = .ok (.iadd, 1) := by decide +kernel
theorem d_law_197 : decode code 197 = .ok (.iaload, 1) := by decide +kernel
theorem d_law_198 : decode code 198 = .ok (.i2s, 1) := by decide +kernel
theorem d_law_199 : decode code 199 = .ok (.invokevirtual 23, 3) := by decide +kernel
theorem d_law_202 : decode code 202 = .ok (.aload_n 2, 1) := by decide +kernel
theorem d_law_203 : decode code 203 = .ok (.aload_n 0, 1) := by decide +kernel
theorem d_law_204 : decode code 204 = .ok (.iload_n 3, 1) := by decide +kernel
theorem d_law_205 : decode code 205 = .ok (.iconst 1, 1) := by decide +kernel
theorem d_law_206 : decode code 206 = .ok (.iadd, 1) := by decide +kernel
theorem d_law_207 : decode code 207 = .ok (.iaload, 1) := by decide +kernel
theorem d_law_208 : decode code 208 = .ok (.i2s, 1) := by decide +kernel
theorem d_law_209 : decode code 209 = .ok (.invokevirtual 27, 3) := by decide +kernel
theorem d_law_212 : decode code 212 = .ok (.if_icmp .eq (306), 3) := by decide +kernel
theorem d_law_215 : decode code 215 = .ok (.iconst 0, 1) := by decide +kernel
theorem d_law_216 : decode code 216 = .ok (.ireturn, 1) := by decide +kernel
theorem d_law_217 : decode code 217 = .ok (.aload_n 1, 1) := by decide +kernel
theorem d_law_218 : decode code 218 = .ok (.aload_n 0, 1) := by decide +kernel
theorem d_law_219 : decode code 219 = .ok (.iload_n 3, 1) := by decide +kernel
theorem d_law_220 : decode code 220 = .ok (.iconst 1, 1) := by decide +kernel
theorem d_law_221 : decode code 221 = .ok (.iadd, 1) := by decide +kernel
theorem d_law_222 : decode code 222 = .ok (.iaload, 1) := by decide +kernel
theorem d_law_223 : decode code 223 = .ok (.aload_n 0, 1) := by decide +kernel
theorem d_law_224 : decode code 224 = .ok (.iload_n 3, 1) := by decide +kernel
theorem d_law_225 : decode code 225 = .ok (.iconst 2, 1) := by decide +kernel
theorem d_law_226 : decode code 226 = .ok (.iadd, 1) := by decide +kernel
theorem d_law_227 : decode code 227 = .ok (.iaload, 1) := by decide +kernel
theorem d_law_228 : decode code 228 = .ok (.invokevirtual 28, 3) := by decide +kernel
theorem d_law_231 : decode code 231 = .ok (.aload_n 2, 1) := by decide +kernel
theorem d_law_232 : decode code 232 = .ok (.aload_n 0, 1) := by decide +kernel
theorem d_law_233 : decode code 233 = .ok (.iload_n 3, 1) := by decide +kernel
theorem d_law_234 : decode code 234 = .ok (.iconst 1, 1) := by decide +kernel
theorem d_law_235 : decode code 235 = .ok (.iadd, 1) := by decide +kernel
theorem d_law_236 : decode code 236 = .ok (.iaload, 1) := by decide +kernel
theorem d_law_237 : decode code 237 = .ok (.aload_n 0, 1) := by decide +kernel
theorem d_law_238 : decode code 238 = .ok (.iload_n 3, 1) := by decide +kernel
theorem d_law_239 : decode code 239 = .ok (.iconst 2, 1) := by decide +kernel
theorem d_law_240 : decode code 240 = .ok (.iadd, 1) := by decide +kernel
theorem d_law_241 : decode code 241 = .ok (.iaload, 1) := by decide +kernel
theorem d_law_242 : decode code 242 = .ok (.invokevirtual 32, 3) := by decide +kernel
theorem d_law_245 : decode code 245 = .ok (.if_icmp .eq (273), 3) := by decide +kernel
theorem d_law_248 : decode code 248 = .ok (.iconst 0, 1) := by decide +kernel
theorem d_law_249 : decode code 249 = .ok (.ireturn, 1) := by decide +kernel
theorem d_law_250 : decode code 250 = .ok (.aload_n 1, 1) := by decide +kernel
theorem d_law_251 : decode code 251 = .ok (.aload_n 0, 1) := by decide +kernel
theorem d_law_252 : decode code 252 = .ok (.iload_n 3, 1) := by decide +kernel
theorem d_law_253 : decode code 253 = .ok (.iconst 1, 1) := by decide +kernel
theorem d_law_254 : decode code 254 = .ok (.iadd, 1) := by decide +kernel
theorem d_law_255 : decode code 255 = .ok (.iaload, 1) := by decide +kernel
theorem d_law_256 : decode code 256 = .ok (.invokevirtual 33, 3) := by decide +kernel
theorem d_law_259 : decode code 259 = .ok (.aload_n 2, 1) := by decide +kernel
theorem d_law_260 : decode code 260 = .ok (.aload_n 0, 1) := by decide +kernel
theorem d_law_261 : decode code 261 = .ok (.iload_n 3, 1) := by decide +kernel
theorem d_law_262 : decode code 262 = .ok (.iconst 1, 1) := by decide +kernel
theorem d_law_263 : decode code 263 = .ok (.iadd, 1) := by decide +kernel
theorem d_law_264 : decode code 264 = .ok (.iaload, 1) := by decide +kernel
theorem d_law_265 : decode code 265 = .ok (.invokevirtual 37, 3) := by decide +kernel
theorem d_law_268 : decode code 268 = .ok (.if_icmp .eq (250), 3) := by decide +kernel
theorem d_law_271 : decode code 271 = .ok (.iconst 0, 1) := by decide +kernel
theorem d_law_272 : decode code 272 = .ok (.ireturn, 1) := by decide +kernel
theorem d_law_273 : decode code 273 = .ok (.aload_n 1, 1) := by decide +kernel
theorem d_law_274 : decode code 274 = .ok (.aload_n 0, 1) := by decide +kernel
theorem d_law_275 : decode code 275 = .ok (.iload_n 3, 1) := by decide +kernel
theorem d_law_276 : decode code 276 = .ok (.iconst 1, 1) := by decide +kernel
theorem d_law_277 : decode code 277 = .ok (.iadd, 1) := by decide +kernel
theorem d_law_278 : decode code 278 = .ok (.iaload, 1) := by decide +kernel
theorem d_law_279 : decode code 279 = .ok (.invokevirtual 38, 3) := by decide +kernel
theorem d_law_282 : decode code 282 = .ok (.aload_n 2, 1) := by decide +kernel
theorem d_law_283 : decode code 283 = .ok (.aload_n 0, 1) := by decide +kernel
theorem d_law_284 : decode code 284 = .ok (.iload_n 3, 1) := by decide +kernel
theorem d_law_285 : decode code 285 = .ok (.iconst 1, 1) := by decide +kernel
theorem d_law_286 : decode code 286 = .ok (.iadd, 1) := by decide +kernel
theorem d_law_287 : decode code 287 = .ok (.iaload, 1) := by decide +kernel
theorem d_law_288 : decode code 288 = .ok (.invokevirtual 41, 3) := by decide +kernel
theorem d_law_291 : decode code 291 = .ok (.if_icmp .eq (227), 3) := by decide +kernel
theorem d_law_294 : decode code 294 = .ok (.iconst 0, 1) := by decide +kernel
theorem d_law_295 : decode code 295 = .ok (.ireturn, 1) := by decide +kernel
theorem d_law_296 : decode code 296 = .ok (.aload_n 1, 1) := by decide +kernel
theorem d_law_297 : decode code 297 = .ok (.aload_n 0, 1) := by decide +kernel
theorem d_law_298 : decode code 298 = .ok (.iload_n 3, 1) := by decide +kernel
theorem d_law_299 : decode code 299 = .ok (.iconst 1, 1) := by decide +kernel
theorem d_law_300 : decode code 300 = .ok (.iadd, 1) := by decide +kernel
theorem d_law_301 : decode code 301 = .ok (.iaload, 1) := by decide +kernel
theorem d_law_302 : decode code 302 = .ok (.aload_n 0, 1) := by decide +kernel
theorem d_law_303 : decode code 303 = .ok (.iload_n 3, 1) := by decide +kernel
theorem d_law_304 : decode code 304 = .ok (.iconst 2, 1) := by decide +kernel
theorem d_law_305 : decode code 305 = .ok (.iadd, 1) := by decide +kernel
theorem d_law_306 : decode code 306 = .ok (.iaload, 1) := by decide +kernel
theorem d_law_307 : decode code 307 = .ok (.invokevirtual 42, 3) := by decide +kernel
theorem d_law_310 : decode code 310 = .ok (.aload_n 2, 1) := by decide +kernel
theorem d_law_311 : decode code 311 = .ok (.aload_n 0, 1) := by decide +kernel
theorem d_law_312 : decode code 312 = .ok (.iload_n 3, 1) := by decide +kernel
theorem d_law_313 : decode code 313 = .ok (.iconst 1, 1) := by decide +kernel
theorem d_law_314 : decode code 314 = .ok (.iadd, 1) := by decide +kernel
theorem d_law_315 : decode code 315 = .ok (.iaload, 1) := by decide +kernel
theorem d_law_316 : decode code 316 = .ok (.aload_n 0, 1) := by decide +kernel
theorem d_law_317 : decode code 317 = .ok (.iload_n 3, 1) := by decide +kernel
theorem d_law_318 : decode code 318 = .ok (.iconst 2, 1) := by decide +kernel
theorem d_law_319 : decode code 319 = .ok (.iadd, 1) := by decide +kernel
theorem d_law_320 : decode code 320 = .ok (.iaload, 1) := by decide +kernel
theorem d_law_321 : decode code 321 = .ok (.invokevirtual 46, 3) := by decide +kernel
theorem d_law_324 : decode code 324 = .ok (.if_icmp .eq (194), 3) := by decide +kernel
theorem d_law_327 : decode code 327 = .ok (.iconst 0, 1) := by decide +kernel
theorem d_law_328 : decode code 328 = .ok (.ireturn, 1) := by decide +kernel
theorem d_law_329 : decode code 329 = .ok (.aload_n 1, 1) := by decide +kernel
theorem d_law_330 : decode code 330 = .ok (.aload_n 0, 1) := by decide +kernel
theorem d_law_331 : decode code 331 = .ok (.iload_n 3, 1) := by decide +kernel
theorem d_law_332 : decode code 332 = .ok (.iconst 1, 1) := by decide +kernel
theorem d_law_333 : decode code 333 = .ok (.iadd, 1) := by decide +kernel
theorem d_law_334 : decode code 334 = .ok (.iaload, 1) := by decide +kernel
theorem d_law_335 : decode code 335 = .ok (.aload_n 0, 1) := by decide +kernel
theorem d_law_336 : decode code 336 = .ok (.iload_n 3, 1) := by decide +kernel
theorem d_law_337 : decode code 337 = .ok (.iconst 2, 1) := by decide +kernel
theorem d_law_338 : decode code 338 = .ok (.iadd, 1) := by decide +kernel
theorem d_law_339 : decode code 339 = .ok (.iaload, 1) := by decide +kernel
theorem d_law_340 : decode code 340 = .ok (.invokevirtual 47, 3) := by decide +kernel
theorem d_law_343 : decode code 343 = .ok (.aload_n 2, 1) := by decide +kernel
theorem d_law_344 : decode code 344 = .ok (.aload_n 0, 1) := by decide +kernel
theorem d_law_345 : decode code 345 = .ok (.iload_n 3, 1) := by decide +kernel
theorem d_law_346 : decode code 346 = .ok (.iconst 1, 1) := by decide +kernel
theorem d_law_347 : decode code 347 = .ok (.iadd, 1) := by decide +kernel
theorem d_law_348 : decode code 348 = .ok (.iaload, 1) := by decide +kernel
theorem d_law_349 : decode code 349 = .ok (.aload_n 0, 1) := by decide +kernel
theorem d_law_350 : decode code 350 = .ok (.iload_n 3, 1) := by decide +kernel
theorem d_law_351 : decode code 351 = .ok (.iconst 2, 1) := by decide +kernel
theorem d_law_352 : decode code 352 = .ok (.iadd, 1) := by decide +kernel
theorem d_law_353 : decode code 353 = .ok (.iaload, 1) := by decide +kernel
theorem d_law_354 : decode code 354 = .ok (.invokevirtual 51, 3) := by decide +kernel
theorem d_law_357 : decode code 357 = .ok (.if_icmp .eq (161), 3) := by decide +kernel
theorem d_law_360 : decode code 360 = .ok (.iconst 0, 1) := by decide +kernel
theorem d_law_361 : decode code 361 = .ok (.ireturn, 1) := by decide +kernel
theorem d_law_362 : decode code 362 = .ok (.aload_n 1, 1) := by decide +kernel
theorem d_law_363 : decode code 363 = .ok (.aload_n 0, 1) := by decide +kernel
theorem d_law_364 : decode code 364 = .ok (.iload_n 3, 1) := by decide +kernel
theorem d_law_365 : decode code 365 = .ok (.iconst 1, 1) := by decide +kernel
theorem d_law_366 : decode code 366 = .ok (.iadd, 1) := by decide +kernel
theorem d_law_367 : decode code 367 = .ok (.iaload, 1) := by decide +kernel
theorem d_law_368 : decode code 368 = .ok (.invokevirtual 52, 3) := by decide +kernel
theorem d_law_371 : decode code 371 = .ok (.aload_n 2, 1) := by decide +kernel
theorem d_law_372 : decode code 372 = .ok (.aload_n 0, 1) := by decide +kernel
theorem d_law_373 : decode code 373 = .ok (.iload_n 3, 1) := by decide +kernel
theorem d_law_374 : decode code 374 = .ok (.iconst 1, 1) := by decide +kernel
theorem d_law_375 : decode code 375 = .ok (.iadd, 1) := by decide +kernel
theorem d_law_376 : decode code 376 = .ok (.iaload, 1) := by decide +kernel
theorem d_law_377 : decode code 377 = .ok (.invokevirtual 56, 3) := by decide +kernel
theorem d_law_380 : decode code 380 = .ok (.if_icmp .eq (138), 3) := by decide +kernel
theorem d_law_383 : decode code 383 = .ok (.iconst 0, 1) := by decide +kernel
theorem d_law_384 : decode code 384 = .ok (.ireturn, 1) := by decide +kernel
theorem d_law_385 : decode code 385 = .ok (.aload_n 1, 1) := by decide +kernel
theorem d_law_386 : decode code 386 = .ok (.aload_n 0, 1) := by decide +kernel
theorem d_law_387 : decode code 387 = .ok (.iload_n 3, 1) := by decide +kernel
theorem d_law_388 : decode code 388 = .ok (.iconst 1, 1) := by decide +kernel
theorem d_law_389 : decode code 389 = .ok (.iadd, 1) := by decide +kernel
theorem d_law_390 : decode code 390 = .ok (.iaload, 1) := by decide +kernel
theorem d_law_391 : decode code 391 = .ok (.aload_n 0, 1) := by decide +kernel
theorem d_law_392 : decode code 392 = .ok (.iload_n 3, 1) := by decide +kernel
theorem d_law_393 : decode code 393 = .ok (.iconst 2, 1) := by decide +kernel
theorem d_law_394 : decode code 394 = .ok (.iadd, 1) := by decide +kernel
theorem d_law_395 : decode code 395 = .ok (.iaload, 1) := by decide +kernel
theorem d_law_396 : decode code 396 = .ok (.aload_n 0, 1) := by decide +kernel
theorem d_law_397 : decode code 397 = .ok (.iload_n 3, 1) := by decide +kernel
theorem d_law_398 : decode code 398 = .ok (.iconst 3, 1) := by decide +kernel
theorem d_law_399 : decode code 399 = .ok (.iadd, 1) := by decide +kernel
theorem d_law_400 : decode code 400 = .ok (.iaload, 1) := by decide +kernel
theorem d_law_401 : decode code 401 = .ok (.aload_n 0, 1) := by decide +kernel
theorem d_law_402 : decode code 402 = .ok (.iload_n 3, 1) := by decide +kernel
theorem d_law_403 : decode code 403 = .ok (.iconst 4, 1) := by decide +kernel
theorem d_law_404 : decode code 404 = .ok (.iadd, 1) := by decide +kernel
theorem d_law_405 : decode code 405 = .ok (.iaload, 1) := by decide +kernel
theorem d_law_406 : decode code 406 = .ok (.aload_n 0, 1) := by decide +kernel
theorem d_law_407 : decode code 407 = .ok (.iload_n 3, 1) := by decide +kernel
theorem d_law_408 : decode code 408 = .ok (.iconst 5, 1) := by decide +kernel
theorem d_law_409 : decode code 409 = .ok (.iadd, 1) := by decide +kernel
theorem d_law_410 : decode code 410 = .ok (.iaload, 1) := by decide +kernel
theorem d_law_411 : decode code 411 = .ok (.invokevirtual 57, 3) := by decide +kernel
theorem d_law_414 : decode code 414 = .ok (.aload_n 2, 1) := by decide +kernel
theorem d_law_415 : decode code 415 = .ok (.aload_n 0, 1) := by decide +kernel
theorem d_law_416 : decode code 416 = .ok (.iload_n 3, 1) := by decide +kernel
theorem d_law_417 : decode code 417 = .ok (.iconst 1, 1) := by decide +kernel
theorem d_law_418 : decode code 418 = .ok (.iadd, 1) := by decide +kernel
theorem d_law_419 : decode code 419 = .ok (.iaload, 1) := by decide +kernel
theorem d_law_420 : decode code 420 = .ok (.aload_n 0, 1) := by decide +kernel
theorem d_law_421 : decode code 421 = .ok (.iload_n 3, 1) := by decide +kernel
theorem d_law_422 : decode code 422 = .ok (.iconst 2, 1) := by decide +kernel
theorem d_law_423 : decode code 423 = .ok (.iadd, 1) := by decide +kernel
theorem d_law_424 : decode code 424 = .ok (.iaload, 1) := by decide +kernel
theorem d_law_425 : decode code 425 = .ok (.aload_n 0, 1) := by decide +kernel
theorem d_law_426 : decode code 426 = .ok (.iload_n 3, 1) := by decide +kernel
theorem d_law_427 : decode code 427 = .ok (.iconst 3, 1) := by decide +kernel
theorem d_law_428 : decode code 428 = .ok (.iadd, 1) := by decide +kernel
theorem d_law_429 : decode code 429 = .ok (.iaload, 1) := by decide +kernel
theorem d_law_430 : decode code 430 = .ok (.aload_n 0, 1) := by decide +kernel
theorem d_law_431 : decode code 431 = .ok (.iload_n 3, 1) := by decide +kernel
theorem d_law_432 : decode code 432 = .ok (.iconst 4, 1) := by decide +kernel
theorem d_law_433 : decode code 433 = .ok (.iadd, 1) := by decide +kernel
theorem d_law_434 : decode code 434 = .ok (.iaload, 1) := by decide +kernel
theorem d_law_435 : decode code 435 = .ok (.aload_n 0, 1) := by decide +kernel
theorem d_law_436 : decode code 436 = .ok (.iload_n 3, 1) := by decide +kernel
theorem d_law_437 : decode code 437 = .ok (.iconst 5, 1) := by decide +kernel
theorem d_law_438 : decode code 438 = .ok (.iadd, 1) := by decide +kernel
theorem d_law_439 : decode code 439 = .ok (.iaload, 1) := by decide +kernel
theorem d_law_440 : decode code 440 = .ok (.invokevirtual 61, 3) := by decide +kernel
theorem d_law_443 : decode code 443 = .ok (.if_icmp .eq (75), 3) := by decide +kernel
theorem d_law_446 : decode code 446 = .ok (.iconst 0, 1) := by decide +kernel
theorem d_law_447 : decode code 447 = .ok (.ireturn, 1) := by decide +kernel
theorem d_law_448 : decode code 448 = .ok (.aload_n 1, 1) := by decide +kernel
theorem d_law_449 : decode code 449 = .ok (.invokevirtual 62, 3) := by decide +kernel
theorem d_law_452 : decode code 452 = .ok (.aload_n 2, 1) := by decide +kernel
theorem d_law_453 : decode code 453 = .ok (.invokevirtual 65, 3) := by decide +kernel
theorem d_law_456 : decode code 456 = .ok (.goto (62), 3) := by decide +kernel
theorem d_law_459 : decode code 459 = .ok (.aload_n 1, 1) := by decide +kernel
theorem d_law_460 : decode code 460 = .ok (.invokevirtual 66, 3) := by decide +kernel
theorem d_law_463 : decode code 463 = .ok (.aload_n 2, 1) := by decide +kernel
theorem d_law_464 : decode code 464 = .ok (.invokevirtual 70, 3) := by decide +kernel
theorem d_law_467 : decode code 467 = .ok (.if_icmp .eq (51), 3) := by decide +kernel
theorem d_law_470 : decode code 470 = .ok (.iconst 0, 1) := by decide +kernel
theorem d_law_471 : decode code 471 = .ok (.ireturn, 1) := by decide +kernel
theorem d_law_472 : decode code 472 = .ok (.aload_n 1, 1) := by decide +kernel
theorem d_law_473 : decode code 473 = .ok (.aload_n 0, 1) := by decide +kernel
theorem d_law_474 : decode code 474 = .ok (.iload_n 3, 1) := by decide +kernel
theorem d_law_475 : decode code 475 = .ok (.iconst 1, 1) := by decide +kernel
theorem d_law_476 : decode code 476 = .ok (.iadd, 1) := by decide +kernel
theorem d_law_477 : decode code 477 = .ok (.iaload, 1) := by decide +kernel
theorem d_law_478 : decode code 478 = .ok (.invokevirtual 71, 3) := by decide +kernel
theorem d_law_481 : decode code 481 = .ok (.aload_n 2, 1) := by decide +kernel
theorem d_law_482 : decode code 482 = .ok (.aload_n 0, 1) := by decide +kernel
theorem d_law_483 : decode code 483 = .ok (.iload_n 3, 1) := by decide +kernel
theorem d_law_484 : decode code 484 = .ok (.iconst 1, 1) := by decide +kernel
theorem d_law_485 : decode code 485 = .ok (.iadd, 1) := by decide +kernel
theorem d_law_486 : decode code 486 = .ok (.iaload, 1) := by decide +kernel
theorem d_law_487 : decode code 487 = .ok (.invokevirtual 74, 3) := by decide +kernel
theorem d_law_490 : decode code 490 = .ok (.if_icmp .eq (28), 3) := by decide +kernel
theorem d_law_493 : decode code 493 = .ok (.iconst 0, 1) := by decide +kernel
theorem d_law_494 : decode code 494 = .ok (.ireturn, 1) := by decide +kernel
theorem d_law_495 : decode code 495 = .ok (.aload_n 1, 1) := by decide +kernel
theorem d_law_496 : decode code 496 = .ok (.aload_n 0, 1) := by decide +kernel
theorem d_law_497 : decode code 497 = .ok (.iload_n 3, 1) := by decide +kernel
theorem d_law_498 : decode code 498 = .ok (.iconst 1, 1) := by decide +kernel
theorem d_law_499 : decode code 499 = .ok (.iadd, 1) := by decide +kernel
theorem d_law_500 : decode code 500 = .ok (.iaload, 1) := by decide +kernel
theorem d_law_501 : decode code 501 = .ok (.invokevirtual 75, 3) := by decide +kernel
theorem d_law_504 : decode code 504 = .ok (.aload_n 2, 1) := by decide +kernel
theorem d_law_505 : decode code 505 = .ok (.aload_n 0, 1) := by decide +kernel
theorem d_law_506 : decode code 506 = .ok (.iload_n 3, 1) := by decide +kernel
theorem d_law_507 : decode code 507 = .ok (.iconst 1, 1) := by decide +kernel
theorem d_law_508 : decode code 508 = .ok (.iadd, 1) := by decide +kernel
theorem d_law_509 : decode code 509 = .ok (.iaload, 1) := by decide +kernel
theorem d_law_510 : decode code 510 = .ok (.invokevirtual 78, 3) := by decide +kernel
theorem d_law_513 : decode code 513 = .ok (.if_icmp .eq (5), 3) := by decide +kernel
theorem d_law_516 : decode code 516 = .ok (.iconst 0, 1) := by decide +kernel
theorem d_law_517 : decode code 517 = .ok (.ireturn, 1) := by decide +kernel
theorem d_law_518 : decode code 518 = .ok (.iinc 3 (6), 3) := by decide +kernel
theorem d_law_521 : decode code 521 = .ok (.goto (-503), 3) := by decide +kernel
theorem d_law_524 : decode code 524 = .ok (.iconst 1, 1) := by decide +kernel
theorem d_law_525 : decode code 525 = .ok (.ireturn, 1) := by decide +kernel
def LOps (LR : Nat → (Nat → Int32) → (Nat → Nat → Int32) → (Nat → Nat) → (Nat → Nat → Int32) → (Nat → Int32) → (Nat → Nat → Int32) → (Nat → Nat → Int32) → (Nat → Option Nat) → (Nat → Int32) → (Nat → Nat → Int32) → Prop) : Prop :=
  (∀ (B : Nat) (x1 x2 x3 : Int32) (mv : Nat → Int32) (mf : Nat → Nat → Int32) (mi : Nat → Nat) (t : Nat → Nat → Int32) (v : Nat → Int32) (f : Nat → Nat → Int32) (u : Nat → Nat → Int32) (la : Nat → Option Nat) (tv : Nat → Int32) (tf : Nat → Nat → Int32), B ≤ 1100000 → LR B mv mf mi t v f u la tv tf → ∃ (r : Int32) (mv1 : Nat → Int32) (mf1 : Nat → Nat → Int32) (mi1 : Nat → Nat) (tv1 : Nat → Int32) (tf1 : Nat → Nat → Int32), F_DM_order x1 x2 x3 mv mf mi = some (r, mv1, mf1, mi1) ∧ F_Mo_order x1 x2 x3 tv tf = some (r, tv1, tf1) ∧ LR B mv1 mf1 mi1 t v f u la tv1 tf1) ∧
  (∀ (B : Nat) (x1 x2 x3 : Int32) (mv : Nat → Int32) (mf : Nat → Nat → Int32) (mi : Nat → Nat) (t : Nat → Nat → Int32) (v : Nat → Int32) (f : Nat → Nat → Int32) (u : Nat → Nat → Int32) (la : Nat → Option Nat) (tv : Nat → Int32) (tf : Nat → Nat → Int32), B ≤ 1100000 → LR B mv mf mi t v f u la tv tf → ∃ (r : Int32) (mv1 : Nat → Int32) (mf1 : Nat → Nat → Int32) (mi1 : Nat → Nat) (tv1 : Nat → Int32) (tf1 : Nat → Nat → Int32), F_DM_word x1 x2 x3 mv mf mi = some (r, mv1, mf1, mi1) ∧ F_Mo_word x1 x2 x3 tv tf = some (r, tv1, tf1) ∧ LR B mv1 mf1 mi1 t v f u la tv1 tf1) ∧
  (∀ (B : Nat) (x1 : Int32) (mv : Nat → Int32) (mf : Nat → Nat → Int32) (mi : Nat → Nat) (t : Nat → Nat → Int32) (v : Nat → Int32) (f : Nat → Nat → Int32) (u : Nat → Nat → Int32) (la : Nat → Option Nat) (tv : Nat → Int32) (tf : Nat → Nat → Int32), B ≤ 1100000 → LR B mv mf mi t v f u la tv tf → ∃ (r : Int32) (mv1 : Nat → Int32) (mf1 : Nat → Nat → Int32) (mi1 : Nat → Nat) (tv1 : Nat → Int32) (tf1 : Nat → Nat → Int32), F_DM_card x1 mv mf mi = some (r, mv1, mf1, mi1) ∧ F_Mo_card x1 tv tf = some (r, tv1, tf1) ∧ LR B mv1 mf1 mi1 t v f u la tv1 tf1) ∧
  (∀ (B : Nat) (x1 x2 : Int32) (mv : Nat → Int32) (mf : Nat → Nat → Int32) (mi : Nat → Nat) (t : Nat → Nat → Int32) (v : Nat → Int32) (f : Nat → Nat → Int32) (u : Nat → Nat → Int32) (la : Nat → Option Nat) (tv : Nat → Int32) (tf : Nat → Nat → Int32), B ≤ 1100000 → LR B mv mf mi t v f u la tv tf → ∃ (r : Int32) (mv1 : Nat → Int32) (mf1 : Nat → Nat → Int32) (mi1 : Nat → Nat) (tv1 : Nat → Int32) (tf1 : Nat → Nat → Int32), F_DM_start x1 x2 mv mf mi = some (r, mv1, mf1, mi1) ∧ F_Mo_start x1 x2 tv tf = some (r, tv1, tf1) ∧ LR B mv1 mf1 mi1 t v f u la tv1 tf1) ∧
  (∀ (B : Nat) (x1 : Int32) (h : Nat → Nat) (mv : Nat → Int32) (mf : Nat → Nat → Int32) (mi : Nat → Nat) (t : Nat → Nat → Int32) (v : Nat → Int32) (f : Nat → Nat → Int32) (u : Nat → Nat → Int32) (la : Nat → Option Nat) (tv : Nat → Int32) (tf : Nat → Nat → Int32), B + 2000 ≤ 1100000 → LR B mv mf mi t v f u la tv tf → ∃ (r : Int32) (h1 : Nat → Nat) (mv1 : Nat → Int32) (mf1 : Nat → Nat → Int32) (mi1 : Nat → Nat) (tv1 : Nat → Int32) (tf1 : Nat → Nat → Int32), F_DM_run x1 h mv mf mi = some (r, h1, mv1, mf1, mi1) ∧ F_Mo_run x1 tv tf = some (r, tv1, tf1) ∧ LR (B + 2000) mv1 mf1 mi1 t v f u la tv1 tf1) ∧
  (∀ (B : Nat) (x1 : Int32) (mv : Nat → Int32) (mf : Nat → Nat → Int32) (mi : Nat → Nat) (t : Nat → Nat → Int32) (v : Nat → Int32) (f : Nat → Nat → Int32) (u : Nat → Nat → Int32) (la : Nat → Option Nat) (tv : Nat → Int32) (tf : Nat → Nat → Int32), LR B mv mf mi t v f u la tv tf → ∃ r : Int32, F_DM_look x1 mv mf mi = some r ∧ F_Mo_look x1 tv tf = some r) ∧
  (∀ (B : Nat) (x1 x2 : Int32) (mv : Nat → Int32) (mf : Nat → Nat → Int32) (mi : Nat → Nat) (t : Nat → Nat → Int32) (v : Nat → Int32) (f : Nat → Nat → Int32) (u : Nat → Nat → Int32) (la : Nat → Option Nat) (tv : Nat → Int32) (tf : Nat → Nat → Int32), LR B mv mf mi t v f u la tv tf → ∃ r : Int32, F_DM_peek x1 x2 mv mf mi = some r ∧ F_Mo_peek x1 x2 tv tf = some r) ∧
  (∀ (B : Nat) (x1 x2 : Int32) (mv : Nat → Int32) (mf : Nat → Nat → Int32) (mi : Nat → Nat) (t : Nat → Nat → Int32) (v : Nat → Int32) (f : Nat → Nat → Int32) (u : Nat → Nat → Int32) (la : Nat → Option Nat) (tv : Nat → Int32) (tf : Nat → Nat → Int32), LR B mv mf mi t v f u la tv tf → ∃ r : Int32, F_DM_read x1 x2 mv mf mi = some r ∧ F_Mo_read2 x1 x2 tv tf = some r) ∧
  (∀ (B : Nat) (x1 : Int32) (mv : Nat → Int32) (mf : Nat → Nat → Int32) (mi : Nat → Nat) (t : Nat → Nat → Int32) (v : Nat → Int32) (f : Nat → Nat → Int32) (u : Nat → Nat → Int32) (la : Nat → Option Nat) (tv : Nat → Int32) (tf : Nat → Nat → Int32), LR B mv mf mi t v f u la tv tf → ∃ r : Int32, F_DM_punched x1 mv mf mi = some r ∧ F_Mo_punched x1 tv tf = some r) ∧
  (∀ (B : Nat) (x1 x2 x3 x4 x5 : Int32) (mv : Nat → Int32) (mf : Nat → Nat → Int32) (mi : Nat → Nat) (t : Nat → Nat → Int32) (v : Nat → Int32) (f : Nat → Nat → Int32) (u : Nat → Nat → Int32) (la : Nat → Option Nat) (tv : Nat → Int32) (tf : Nat → Nat → Int32), LR B mv mf mi t v f u la tv tf → ∃ (r : Int32) (t1 : Nat → Nat → Int32) (v1 : Nat → Int32) (tv1 : Nat → Int32) (tf1 : Nat → Nat → Int32), F_DM_statement t x1 x2 x3 x4 x5 v f u la = some (r, t1, v1) ∧ F_Mo_statement x1 x2 x3 x4 x5 tv tf = some (r, tv1, tf1) ∧ LR B mv mf mi t1 v1 f u la tv1 tf1) ∧
  (∀ (B : Nat) (mv : Nat → Int32) (mf : Nat → Nat → Int32) (mi : Nat → Nat) (t : Nat → Nat → Int32) (v : Nat → Int32) (f : Nat → Nat → Int32) (u : Nat → Nat → Int32) (la : Nat → Option Nat) (tv : Nat → Int32) (tf : Nat → Nat → Int32), LR B mv mf mi t v f u la tv tf → ∃ (tv1 : Nat → Int32) (tf1 : Nat → Nat → Int32), F_Mo_clear tv tf = some (tv1, tf1) ∧ LR B mv mf mi t (va_up v 21 0) f u la tv1 tf1) ∧
  (∀ (B : Nat) (mv : Nat → Int32) (mf : Nat → Nat → Int32) (mi : Nat → Nat) (t : Nat → Nat → Int32) (v : Nat → Int32) (f : Nat → Nat → Int32) (u : Nat → Nat → Int32) (la : Nat → Option Nat) (tv : Nat → Int32) (tf : Nat → Nat → Int32), LR B mv mf mi t v f u la tv tf → ∃ (r : Int32) (mf1 : Nat → Nat → Int32) (v1 : Nat → Int32) (f1 : Nat → Nat → Int32) (u1 : Nat → Nat → Int32) (la1 : Nat → Option Nat) (tv1 : Nat → Int32) (tf1 : Nat → Nat → Int32), F_DM_assemble t mv mf v f u la = some (r, mf1, v1, f1, u1, la1) ∧ F_Mo_assemble tv tf = some (r, tv1, tf1) ∧ LR B mv mf1 mi t v1 f1 u1 la1 tv1 tf1) ∧
  (∀ (B : Nat) (x1 : Int32) (mv : Nat → Int32) (mf : Nat → Nat → Int32) (mi : Nat → Nat) (t : Nat → Nat → Int32) (v : Nat → Int32) (f : Nat → Nat → Int32) (u : Nat → Nat → Int32) (la : Nat → Option Nat) (tv : Nat → Int32) (tf : Nat → Nat → Int32), LR B mv mf mi t v f u la tv tf → ∃ r : Int32, F_DM_placed t x1 v f u la = some r ∧ F_Mo_placed x1 tv tf = some r) ∧
  (∀ (B : Nat) (x1 : Int32) (mv : Nat → Int32) (mf : Nat → Nat → Int32) (mi : Nat → Nat) (t : Nat → Nat → Int32) (v : Nat → Int32) (f : Nat → Nat → Int32) (u : Nat → Nat → Int32) (la : Nat → Option Nat) (tv : Nat → Int32) (tf : Nat → Nat → Int32), LR B mv mf mi t v f u la tv tf → ∃ r : Int32, F_DM_variable t x1 v f u la = some r ∧ F_Mo_variable x1 tv tf = some r) ∧
  (∀ (B B1 : Nat) (mv : Nat → Int32) (mf : Nat → Nat → Int32) (mi : Nat → Nat) (t : Nat → Nat → Int32) (v : Nat → Int32) (f : Nat → Nat → Int32) (u : Nat → Nat → Int32) (la : Nat → Option Nat) (tv : Nat → Int32) (tf : Nat → Nat → Int32), B ≤ B1 → LR B mv mf mi t v f u la tv tf → LR B1 mv mf mi t v f u la tv tf)
theorem lw_pm {G : dm_G} {g : Nat → Nat} {Y : aK} {t : Nat → Nat → Int32} {T X : va_W} {K : aK} {v : Nat → Int32} {f : Nat → Nat → Int32} {u : Nat → Nat → Int32} {la : Nat → Option Nat} : (aw G g Y t T K v f u la ++ X).Perm ((awp G g Y t K v f u la ++ X) ++ T) := by
  rw [aw_pre, List.append_assoc, List.append_assoc]
  exact (List.perm_append_comm).append_left _
theorem lw_end {L I : Nat} (hL : L ≤ 3072) (hI : I ≤ 3078) : (nI L - (6 : Int32) < nI I) ↔ L < I + 6 := by
  rw [Int32.lt_iff_toInt_lt, show (6 : Int32) = nI 6 from rfl, pk_sub_toInt (by omega) (by decide), nI_toInt (by omega)]
  omega

set_option maxHeartbeats 8000000 in
set_option maxRecDepth 100000 in
theorem law_loop {p : Program} {e : Env} {s : State} {m : MethodId} {below : List Frame} {meth : Method} {c : Code} (l : Launch) {b L : Nat} {xs : Nat → Int32} {G : dm_G} {A : Nat → Prop} {g gt : Nat → Nat} (LR : Nat → (Nat → Int32) → (Nat → Nat → Int32) → (Nat → Nat) → (Nat → Nat → Int32) → (Nat → Int32) → (Nat → Nat → Int32) → (Nat → Nat → Int32) → (Nat → Option Nat) → (Nat → Int32) → (Nat → Nat → Int32) → Prop) (ops : LOps LR) (hL : L ≤ 3072) (hA : ∀ q, A q → s.heap.size ≤ q) (B : dm_B p s m #[Value.ref b] meth c code 4 ret "DelayMachineLaw" meth.name G A) (hX : va_X b L xs s s.heap) (hbl : b < s.heap.size) (hbA : ¬ A b) :
    ∀ (n I N cc ss : Nat) (ls : Array Slot) (H : Heap) (locs : List Loc) (h : Nat → Nat) (mv : Nat → Int32) (mf : Nat → Nat → Int32) (mi : Nat → Nat) (Y : aK) (t : Nat → Nat → Int32) (K : aK) (v : Nat → Int32) (f : Nat → Nat → Int32) (u : Nat → Nat → Int32) (la : Nat → Option Nat) (tv : Nat → Int32) (tf : Nat → Nat → Int32), L < I + 6 * n + 6 → I + 6 * n ≤ 3078 → N + 2000 * n ≤ 1100000 → cc + 80 * n ≤ 600000 → ss + 4200 * n ≤ 7302250 → LR N mv mf mi t v f u la tv tf → okA G Y (v 21) → okA G K (v 20) → lv_has ls 4 [(0, .ref b), (1, .ref (g 90)), (2, .ref (gt 0)), (3, .int (nI I))] → va_P G.1 dm_cl ((aw G g Y t (mw G g h mv mf mi) K v f u la) ++ (tw G gt tv tf)) H → va_D A ((aw G g Y t (mw G g h mv mf mi) K v f u la) ++ (tw G gt tv tf)) → va_S A s.heap H locs → W p l e room_1 s m #[Value.ref b] below meth c H locs cc ss (lw_Z below #[Value.ref b] s) (F0 m 18 ls []) := by
  have hx := B.1
  have hb := B.2.1
  have hr := B.2.2.2.2.2.1
  have hlk := B.2.2.2.2.2.2.1
  intro n
  induction n with
  | zero =>
    intro I N cc ss ls H locs h mv mf mi Y t K v f u la tv tf hn hI hB hcc hss hR hY hk hl hP hD hS
    refine lv_iload_n hx hb d_law_18 rfl (lv_at hl 3 rfl) ?_
    refine lv_aload_n hx hb d_law_19 rfl (lv_at hl 0 rfl) ?_
    refine va_slen hx hb hX hbl hbA hS d_law_20 ?_
    refine lv_bipush (v := (6 : Int32)) hx hb d_law_21 (by decide) ?_
    refine lv_isub hx hb d_law_23 ?_
    refine lv_icmp_gt (tgt := 524) hx hb d_law_24 (by decide) (fun _ => ?_) (fun hh => absurd ((lw_end hL (by omega)).mpr (by omega)) hh)
    refine lv_iconst (v := (1 : Int32)) hx hb d_law_524 (by decide) ?_
    refine va_forget (fun q hq => hA _ (hS.2.2 q hq)) ?_
    refine W.widen (k := 600000) (n := 7302250) (by omega) (by omega) ?_
    exact lw_ret hx hb hr hlk d_law_525
  | succ n ih =>
    intro I N cc ss ls H locs h mv mf mi Y t K v f u la tv tf hn hI hB hcc hss hR hY hk hl hP hD hS
    refine lv_iload_n hx hb d_law_18 rfl (lv_at hl 3 rfl) ?_
    refine lv_aload_n hx hb d_law_19 rfl (lv_at hl 0 rfl) ?_
    refine va_slen hx hb hX hbl hbA hS d_law_20 ?_
    refine lv_bipush (v := (6 : Int32)) hx hb d_law_21 (by decide) ?_
    refine lv_isub hx hb d_law_23 ?_
    refine lv_icmp_gt (tgt := 524) hx hb d_law_24 (by decide) (fun _ => ?_) (fun hh => ?_)
    · refine lv_iconst (v := (1 : Int32)) hx hb d_law_524 (by decide) ?_
      refine va_forget (fun q hq => hA _ (hS.2.2 q hq)) ?_
      refine W.widen (k := 600000) (n := 7302250) (by omega) (by omega) ?_
      exact lw_ret hx hb hr hlk d_law_525
    have hIL : I + 6 ≤ L := by
      have := mt (lw_end hL (by omega)).mpr hh
      omega
    have hIn : (nI I).toNatClampNeg = I := nI_clamp (by omega)
    have hi0 : vp_in (nI I) L := vp_in_nI (by omega) (by omega)
    have hi1 : vp_in (nI I + (1 : Int32)) L := by
      rw [show nI I + (1 : Int32) = nI (I + 1) from nI_add I 1]
      exact vp_in_nI (by omega) (by omega)
    have hi2 : vp_in (nI I + (2 : Int32)) L := by
      rw [show nI I + (2 : Int32) = nI (I + 2) from nI_add I 2]
      exact vp_in_nI (by omega) (by omega)
    have hi3 : vp_in (nI I + (3 : Int32)) L := by
      rw [show nI I + (3 : Int32) = nI (I + 3) from nI_add I 3]
      exact vp_in_nI (by omega) (by omega)
    have hi4 : vp_in (nI I + (4 : Int32)) L := by
      rw [show nI I + (4 : Int32) = nI (I + 4) from nI_add I 4]
      exact vp_in_nI (by omega) (by omega)
    have hi5 : vp_in (nI I + (5 : Int32)) L := by
      rw [show nI I + (5 : Int32) = nI (I + 5) from nI_add I 5]
      exact vp_in_nI (by omega) (by omega)
    have K518 : ∀ (cc1 ss1 : Nat) (H : Heap) (locs : List Loc) (h : Nat → Nat) (mv : Nat → Int32) (mf : Nat → Nat → Int32) (mi : Nat → Nat) (Y : aK) (t : Nat → Nat → Int32) (K : aK) (v : Nat → Int32) (f : Nat → Nat → Int32) (u : Nat → Nat → Int32) (la : Nat → Option Nat) (tv : Nat → Int32) (tf : Nat → Nat → Int32), cc1 + 80 * n ≤ 600000 → ss1 + 4200 * n ≤ 7302250 → LR (N + 2000) mv mf mi t v f u la tv tf → okA G Y (v 21) → okA G K (v 20) → va_P G.1 dm_cl ((aw G g Y t (mw G g h mv mf mi) K v f u la) ++ (tw G gt tv tf)) H → va_D A ((aw G g Y t (mw G g h mv mf mi) K v f u la) ++ (tw G gt tv tf)) → va_S A s.heap H locs → W p l e room_1 s m #[Value.ref b] below meth c H locs cc1 ss1 (lw_Z below #[Value.ref b] s) (F0 m 518 ls []) := by
      intro cc1 ss1 H locs h mv mf mi Y t K v f u la tv tf hc1 hs1 hR hY hk hP hD hS
      refine lv_iinc (k := 3) (v := nI (I + 6)) (lv' := [(3, .int (nI (I + 6))), (0, .ref b), (1, .ref (g 90)), (2, .ref (gt 0))]) hx hb d_law_518 hl rfl (nI_add I 6) (Nat.le_of_ble_eq_true rfl) rfl (fun ls hl => ?_)
      refine lv_goto (tgt := 18) hx hb d_law_521 (by decide) ?_
      exact ih (I + 6) (N + 2000) cc1 ss1 ls H locs h mv mf mi Y t K v f u la tv tf (by omega) (by omega) (by omega) hc1 hs1 hR hY hk (lv_sub hl [1, 2, 3, 0] rfl) hP hD hS
    refine lv_aload_n hx hb d_law_27 rfl (lv_at hl 0 rfl) ?_
    refine lv_iload_n hx hb d_law_28 rfl (lv_at hl 3 rfl) ?_
    refine va_sld hx hb hX hbl hbA hS hi0 d_law_29 ?_
    refine lv_bipush (v := (15 : Int32)) hx hb d_law_30 (by decide) ?_
    refine lv_iand hx hb d_law_32 ?_
    by_cases hc0 : (xs (nI I).toNatClampNeg &&& (15 : Int32)) = (0 : Int32)
    · refine lv_tableIn (off := 71) (tgt := 104) hx hb d_law_33 (by rw [hc0]; decide) (by rw [hc0]; decide) (by rw [hc0]; rfl) (by decide) ?_
      refine lv_aload_n hx hb d_law_104 rfl (lv_at hl 1 rfl) ?_
      refine lv_aload_n hx hb d_law_105 rfl (lv_at hl 0 rfl) ?_
      refine lv_iload_n hx hb d_law_106 rfl (lv_at hl 3 rfl) ?_
      refine lv_iconst (v := (1 : Int32)) hx hb d_law_107 (by decide) ?_
      refine lv_iadd hx hb d_law_108 ?_
      refine va_sld hx hb hX hbl hbA hS hi1 d_law_109 ?_
      refine lv_aload_n hx hb d_law_110 rfl (lv_at hl 0 rfl) ?_
      refine lv_iload_n hx hb d_law_111 rfl (lv_at hl 3 rfl) ?_
      refine lv_iconst (v := (2 : Int32)) hx hb d_law_112 (by decide) ?_
      refine lv_iadd hx hb d_law_113 ?_
      refine va_sld hx hb hX hbl hbA hS hi2 d_law_114 ?_
      refine lv_aload_n hx hb d_law_115 rfl (lv_at hl 0 rfl) ?_
      refine lv_iload_n hx hb d_law_116 rfl (lv_at hl 3 rfl) ?_
      refine lv_iconst (v := (3 : Int32)) hx hb d_law_117 (by decide) ?_
      refine lv_iadd hx hb d_law_118 ?_
      refine va_sld hx hb hX hbl hbA hS hi3 d_law_119 ?_
      obtain ⟨r, mv1, mf1, mi1, tv1, tf1, hc, ht, hR⟩ := ops.1 N (xs (nI I + (1 : Int32)).toNatClampNeg) (xs (nI I + (2 : Int32)).toNatClampNeg) (xs (nI I + (3 : Int32)).toNatClampNeg) mv mf mi t v f u la tv tf (by omega) hR
      refine dm_callVp (wr := ((awp G g Y t K v f u la) ++ (tw G gt tv tf))) B [.int (xs (nI I + (1 : Int32)).toNatClampNeg), .int (xs (nI I + (2 : Int32)).toNatClampNeg), .int (xs (nI I + (3 : Int32)).toNatClampNeg)] (c_DM_order l G g h (xs (nI I + (1 : Int32)).toNatClampNeg) (xs (nI I + (2 : Int32)).toNatClampNeg) (xs (nI I + (3 : Int32)).toNatClampNeg) mv mf mi (r, mv1, mf1, mi1) hc) k_330 k_331 k_332 k_1 k_333 hd_DM_order rfl ⟨by decide, by decide⟩ 50 rfl rfl hP hD hS lw_pm hl.1 (rest := []) rfl (Nat.le_of_ble_eq_true rfl) d_law_120 ⟨by show cc + 0 ≤ 600000; omega, by show ss + 0 ≤ 7302250; omega⟩ (fun ov w' H locs hq hP hD hS => ?_)
      obtain ⟨rfl, rfl⟩ := hq
      have hP : va_P G.1 dm_cl ((aw G g Y t (mw G g h mv1 mf1 mi1) K v f u la) ++ (tw G gt tv tf)) H := dm_pP lw_pm.symm hP
      have hD : va_D A ((aw G g Y t (mw G g h mv1 mf1 mi1) K v f u la) ++ (tw G gt tv tf)) := dm_pD lw_pm.symm hD
      refine W.eq (g2 := F0 m 123 ls [.int r]) rfl ?_
      refine lv_aload_n hx hb d_law_123 rfl (lv_at hl 2 rfl) ?_
      refine lv_aload_n hx hb d_law_124 rfl (lv_at hl 0 rfl) ?_
      refine lv_iload_n hx hb d_law_125 rfl (lv_at hl 3 rfl) ?_
      refine lv_iconst (v := (1 : Int32)) hx hb d_law_126 (by decide) ?_
      refine lv_iadd hx hb d_law_127 ?_
      refine va_sld hx hb hX hbl hbA hS hi1 d_law_128 ?_
      refine lv_aload_n hx hb d_law_129 rfl (lv_at hl 0 rfl) ?_
      refine lv_iload_n hx hb d_law_130 rfl (lv_at hl 3 rfl) ?_
      refine lv_iconst (v := (2 : Int32)) hx hb d_law_131 (by decide) ?_
      refine lv_iadd hx hb d_law_132 ?_
      refine va_sld hx hb hX hbl hbA hS hi2 d_law_133 ?_
      refine lv_aload_n hx hb d_law_134 rfl (lv_at hl 0 rfl) ?_
      refine lv_iload_n hx hb d_law_135 rfl (lv_at hl 3 rfl) ?_
      refine lv_iconst (v := (3 : Int32)) hx hb d_law_136 (by decide) ?_
      refine lv_iadd hx hb d_law_137 ?_
      refine va_sld hx hb hX hbl hbA hS hi3 d_law_138 ?_
      refine dm_callVp (wr := (aw G g Y t (mw G g h mv1 mf1 mi1) K v f u la)) B [.int (xs (nI I + (1 : Int32)).toNatClampNeg), .int (xs (nI I + (2 : Int32)).toNatClampNeg), .int (xs (nI I + (3 : Int32)).toNatClampNeg)] (c_Mo_order l G gt (xs (nI I + (1 : Int32)).toNatClampNeg) (xs (nI I + (2 : Int32)).toNatClampNeg) (xs (nI I + (3 : Int32)).toNatClampNeg) tv tf (r, tv1, tf1) ht) k_867 k_868 k_869 k_14 k_870 hd_Mo_order rfl ⟨by decide, by decide⟩ 0 rfl rfl hP hD hS (List.Perm.refl _) hl.1 (rest := [.int r]) rfl (Nat.le_of_ble_eq_true rfl) d_law_139 ⟨by show cc + 0 ≤ 600000; omega, by show ss + 0 ≤ 7302250; omega⟩ (fun ov w' H locs hq hP hD hS => ?_)
      obtain ⟨rfl, rfl⟩ := hq
      have hP : va_P G.1 dm_cl ((aw G g Y t (mw G g h mv1 mf1 mi1) K v f u la) ++ (tw G gt tv1 tf1)) H := hP
      have hD : va_D A ((aw G g Y t (mw G g h mv1 mf1 mi1) K v f u la) ++ (tw G gt tv1 tf1)) := hD
      refine W.eq (g2 := F0 m 142 ls [.int r, .int r]) rfl ?_
      refine lv_icmp_eq (tgt := 518) hx hb d_law_142 (by decide) (fun _ => ?_) (fun h => absurd rfl h)
      refine W.widen (k := cc + 80) (n := ss + 4200) (by show cc ≤ cc + 80; omega) (by show ss ≤ ss + 4200; omega) ?_
      exact K518 (cc + 80) (ss + 4200) H locs h mv1 mf1 mi1 Y t K v f u la tv1 tf1 (by omega) (by omega) (ops.2.2.2.2.2.2.2.2.2.2.2.2.2.2 N (N + 2000) _ _ _ _ _ _ _ _ _ _ (by omega) hR) hY hk hP hD hS
    by_cases hc1 : (xs (nI I).toNatClampNeg &&& (15 : Int32)) = (1 : Int32)
    · refine lv_tableIn (off := 114) (tgt := 147) hx hb d_law_33 (by rw [hc1]; decide) (by rw [hc1]; decide) (by rw [hc1]; rfl) (by decide) ?_
      refine lv_aload_n hx hb d_law_147 rfl (lv_at hl 1 rfl) ?_
      refine lv_aload_n hx hb d_law_148 rfl (lv_at hl 0 rfl) ?_
      refine lv_iload_n hx hb d_law_149 rfl (lv_at hl 3 rfl) ?_
      refine lv_iconst (v := (1 : Int32)) hx hb d_law_150 (by decide) ?_
      refine lv_iadd hx hb d_law_151 ?_
      refine va_sld hx hb hX hbl hbA hS hi1 d_law_152 ?_
      refine lv_aload_n hx hb d_law_153 rfl (lv_at hl 0 rfl) ?_
      refine lv_iload_n hx hb d_law_154 rfl (lv_at hl 3 rfl) ?_
      refine lv_iconst (v := (2 : Int32)) hx hb d_law_155 (by decide) ?_
      refine lv_iadd hx hb d_law_156 ?_
      refine va_sld hx hb hX hbl hbA hS hi2 d_law_157 ?_
      refine lv_aload_n hx hb d_law_158 rfl (lv_at hl 0 rfl) ?_
      refine lv_iload_n hx hb d_law_159 rfl (lv_at hl 3 rfl) ?_
      refine lv_iconst (v := (3 : Int32)) hx hb d_law_160 (by decide) ?_
      refine lv_iadd hx hb d_law_161 ?_
      refine va_sld hx hb hX hbl hbA hS hi3 d_law_162 ?_
      refine lv_i2s (v := (xs (nI I + (3 : Int32)).toNatClampNeg).toInt16.toInt32) hx hb d_law_163 rfl ?_
      obtain ⟨r, mv1, mf1, mi1, tv1, tf1, hc, ht, hR⟩ := ops.2.1 N (xs (nI I + (1 : Int32)).toNatClampNeg) (xs (nI I + (2 : Int32)).toNatClampNeg) ((xs (nI I + (3 : Int32)).toNatClampNeg).toInt16.toInt32) mv mf mi t v f u la tv tf (by omega) hR
      refine dm_callVp (wr := ((awp G g Y t K v f u la) ++ (tw G gt tv tf))) B [.int (xs (nI I + (1 : Int32)).toNatClampNeg), .int (xs (nI I + (2 : Int32)).toNatClampNeg), .int (xs (nI I + (3 : Int32)).toNatClampNeg).toInt16.toInt32] (c_DM_word l G g h (xs (nI I + (1 : Int32)).toNatClampNeg) (xs (nI I + (2 : Int32)).toNatClampNeg) ((xs (nI I + (3 : Int32)).toNatClampNeg).toInt16.toInt32) mv mf mi (r, mv1, mf1, mi1) hc) k_338 k_339 k_340 k_1 k_341 hd_DM_word rfl ⟨by decide, by decide⟩ 50 rfl rfl hP hD hS lw_pm hl.1 (rest := []) rfl (Nat.le_of_ble_eq_true rfl) d_law_164 ⟨by show cc + 0 ≤ 600000; omega, by show ss + 0 ≤ 7302250; omega⟩ (fun ov w' H locs hq hP hD hS => ?_)
      obtain ⟨rfl, rfl⟩ := hq
      have hP : va_P G.1 dm_cl ((aw G g Y t (mw G g h mv1 mf1 mi1) K v f u la) ++ (tw G gt tv tf)) H := dm_pP lw_pm.symm hP
      have hD : va_D A ((aw G g Y t (mw G g h mv1 mf1 mi1) K v f u la) ++ (tw G gt tv tf)) := dm_pD lw_pm.symm hD
      refine W.eq (g2 := F0 m 167 ls [.int r]) rfl ?_
      refine lv_aload_n hx hb d_law_167 rfl (lv_at hl 2 rfl) ?_
      refine lv_aload_n hx hb d_law_168 rfl (lv_at hl 0 rfl) ?_
      refine lv_iload_n hx hb d_law_169 rfl (lv_at hl 3 rfl) ?_
      refine lv_iconst (v := (1 : Int32)) hx hb d_law_170 (by decide) ?_
      refine lv_iadd hx hb d_law_171 ?_
      refine va_sld hx hb hX hbl hbA hS hi1 d_law_172 ?_
      refine lv_aload_n hx hb d_law_173 rfl (lv_at hl 0 rfl) ?_
      refine lv_iload_n hx hb d_law_174 rfl (lv_at hl 3 rfl) ?_
      refine lv_iconst (v := (2 : Int32)) hx hb d_law_175 (by decide) ?_
      refine lv_iadd hx hb d_law_176 ?_
      refine va_sld hx hb hX hbl hbA hS hi2 d_law_177 ?_
      refine lv_aload_n hx hb d_law_178 rfl (lv_at hl 0 rfl) ?_
      refine lv_iload_n hx hb d_law_179 rfl (lv_at hl 3 rfl) ?_
      refine lv_iconst (v := (3 : Int32)) hx hb d_law_180 (by decide) ?_
      refine lv_iadd hx hb d_law_181 ?_
      refine va_sld hx hb hX hbl hbA hS hi3 d_law_182 ?_
      refine lv_i2s (v := (xs (nI I + (3 : Int32)).toNatClampNeg).toInt16.toInt32) hx hb d_law_183 rfl ?_
      refine dm_callVp (wr := (aw G g Y t (mw G g h mv1 mf1 mi1) K v f u la)) B [.int (xs (nI I + (1 : Int32)).toNatClampNeg), .int (xs (nI I + (2 : Int32)).toNatClampNeg), .int (xs (nI I + (3 : Int32)).toNatClampNeg).toInt16.toInt32] (c_Mo_word l G gt (xs (nI I + (1 : Int32)).toNatClampNeg) (xs (nI I + (2 : Int32)).toNatClampNeg) ((xs (nI I + (3 : Int32)).toNatClampNeg).toInt16.toInt32) tv tf (r, tv1, tf1) ht) k_875 k_876 k_877 k_14 k_878 hd_Mo_word rfl ⟨by decide, by decide⟩ 0 rfl rfl hP hD hS (List.Perm.refl _) hl.1 (rest := [.int r]) rfl (Nat.le_of_ble_eq_true rfl) d_law_184 ⟨by show cc + 0 ≤ 600000; omega, by show ss + 0 ≤ 7302250; omega⟩ (fun ov w' H locs hq hP hD hS => ?_)
      obtain ⟨rfl, rfl⟩ := hq
      have hP : va_P G.1 dm_cl ((aw G g Y t (mw G g h mv1 mf1 mi1) K v f u la) ++ (tw G gt tv1 tf1)) H := hP
      have hD : va_D A ((aw G g Y t (mw G g h mv1 mf1 mi1) K v f u la) ++ (tw G gt tv1 tf1)) := hD
      refine W.eq (g2 := F0 m 187 ls [.int r, .int r]) rfl ?_
      refine lv_icmp_eq (tgt := 518) hx hb d_law_187 (by decide) (fun _ => ?_) (fun h => absurd rfl h)
      refine W.widen (k := cc + 80) (n := ss + 4200) (by show cc ≤ cc + 80; omega) (by show ss ≤ ss + 4200; omega) ?_
      exact K518 (cc + 80) (ss + 4200) H locs h mv1 mf1 mi1 Y t K v f u la tv1 tf1 (by omega) (by omega) (ops.2.2.2.2.2.2.2.2.2.2.2.2.2.2 N (N + 2000) _ _ _ _ _ _ _ _ _ _ (by omega) hR) hY hk hP hD hS
    by_cases hc2 : (xs (nI I).toNatClampNeg &&& (15 : Int32)) = (2 : Int32)
    · refine lv_tableIn (off := 159) (tgt := 192) hx hb d_law_33 (by rw [hc2]; decide) (by rw [hc2]; decide) (by rw [hc2]; rfl) (by decide) ?_
      refine lv_aload_n hx hb d_law_192 rfl (lv_at hl 1 rfl) ?_
      refine lv_aload_n hx hb d_law_193 rfl (lv_at hl 0 rfl) ?_
      refine lv_iload_n hx hb d_law_194 rfl (lv_at hl 3 rfl) ?_
      refine lv_iconst (v := (1 : Int32)) hx hb d_law_195 (by decide) ?_
      refine lv_iadd hx hb d_law_196 ?_
      refine va_sld hx hb hX hbl hbA hS hi1 d_law_197 ?_
      refine lv_i2s (v := (xs (nI I + (1 : Int32)).toNatClampNeg).toInt16.toInt32) hx hb d_law_198 rfl ?_
      obtain ⟨r, mv1, mf1, mi1, tv1, tf1, hc, ht, hR⟩ := ops.2.2.1 N ((xs (nI I + (1 : Int32)).toNatClampNeg).toInt16.toInt32) mv mf mi t v f u la tv tf (by omega) hR
      refine dm_callVp (wr := ((awp G g Y t K v f u la) ++ (tw G gt tv tf))) B [.int (xs (nI I + (1 : Int32)).toNatClampNeg).toInt16.toInt32] (c_DM_card l G g h ((xs (nI I + (1 : Int32)).toNatClampNeg).toInt16.toInt32) mv mf mi (r, mv1, mf1, mi1) hc) k_350 k_351 k_352 k_1 k_353 hd_DM_card rfl ⟨by decide, by decide⟩ 50 rfl rfl hP hD hS lw_pm hl.1 (rest := []) rfl (Nat.le_of_ble_eq_true rfl) d_law_199 ⟨by show cc + 0 ≤ 600000; omega, by show ss + 0 ≤ 7302250; omega⟩ (fun ov w' H locs hq hP hD hS => ?_)
      obtain ⟨rfl, rfl⟩ := hq
      have hP : va_P G.1 dm_cl ((aw G g Y t (mw G g h mv1 mf1 mi1) K v f u la) ++ (tw G gt tv tf)) H := dm_pP lw_pm.symm hP
      have hD : va_D A ((aw G g Y t (mw G g h mv1 mf1 mi1) K v f u la) ++ (tw G gt tv tf)) := dm_pD lw_pm.symm hD
      refine W.eq (g2 := F0 m 202 ls [.int r]) rfl ?_
      refine lv_aload_n hx hb d_law_202 rfl (lv_at hl 2 rfl) ?_
      refine lv_aload_n hx hb d_law_203 rfl (lv_at hl 0 rfl) ?_
      refine lv_iload_n hx hb d_law_204 rfl (lv_at hl 3 rfl) ?_
      refine lv_iconst (v := (1 : Int32)) hx hb d_law_205 (by decide) ?_
      refine lv_iadd hx hb d_law_206 ?_
      refine va_sld hx hb hX hbl hbA hS hi1 d_law_207 ?_
      refine lv_i2s (v := (xs (nI I + (1 : Int32)).toNatClampNeg).toInt16.toInt32) hx hb d_law_208 rfl ?_
      refine dm_callVp (wr := (aw G g Y t (mw G g h mv1 mf1 mi1) K v f u la)) B [.int (xs (nI I + (1 : Int32)).toNatClampNeg).toInt16.toInt32] (c_Mo_card l G gt ((xs (nI I + (1 : Int32)).toNatClampNeg).toInt16.toInt32) tv tf (r, tv1, tf1) ht) k_882 k_883 k_884 k_14 k_885 hd_Mo_card rfl ⟨by decide, by decide⟩ 0 rfl rfl hP hD hS (List.Perm.refl _) hl.1 (rest := [.int r]) rfl (Nat.le_of_ble_eq_true rfl) d_law_209 ⟨by show cc + 0 ≤ 600000; omega, by show ss + 0 ≤ 7302250; omega⟩ (fun ov w' H locs hq hP hD hS => ?_)
      obtain ⟨rfl, rfl⟩ := hq
      have hP : va_P G.1 dm_cl ((aw G g Y t (mw G g h mv1 mf1 mi1) K v f u la) ++ (tw G gt tv1 tf1)) H := hP
      have hD : va_D A ((aw G g Y t (mw G g h mv1 mf1 mi1) K v f u la) ++ (tw G gt tv1 tf1)) := hD
      refine W.eq (g2 := F0 m 212 ls [.int r, .int r]) rfl ?_
      refine lv_icmp_eq (tgt := 518) hx hb d_law_212 (by decide) (fun _ => ?_) (fun h => absurd rfl h)
      refine W.widen (k := cc + 80) (n := ss + 4200) (by show cc ≤ cc + 80; omega) (by show ss ≤ ss + 4200; omega) ?_
      exact K518 (cc + 80) (ss + 4200) H locs h mv1 mf1 mi1 Y t K v f u la tv1 tf1 (by omega) (by omega) (ops.2.2.2.2.2.2.2.2.2.2.2.2.2.2 N (N + 2000) _ _ _ _ _ _ _ _ _ _ (by omega) hR) hY hk hP hD hS
    by_cases hc3 : (xs (nI I).toNatClampNeg &&& (15 : Int32)) = (3 : Int32)
    · refine lv_tableIn (off := 184) (tgt := 217) hx hb d_law_33 (by rw [hc3]; decide) (by rw [hc3]; decide) (by rw [hc3]; rfl) (by decide) ?_
      refine lv_aload_n hx hb d_law_217 rfl (lv_at hl 1 rfl) ?_
      refine lv_aload_n hx hb d_law_218 rfl (lv_at hl 0 rfl) ?_
      refine lv_iload_n hx hb d_law_219 rfl (lv_at hl 3 rfl) ?_
      refine lv_iconst (v := (1 : Int32)) hx hb d_law_220 (by decide) ?_
      refine lv_iadd hx hb d_law_221 ?_
      refine va_sld hx hb hX hbl hbA hS hi1 d_law_222 ?_
      refine lv_aload_n hx hb d_law_223 rfl (lv_at hl 0 rfl) ?_
      refine lv_iload_n hx hb d_law_224 rfl (lv_at hl 3 rfl) ?_
      refine lv_iconst (v := (2 : Int32)) hx hb d_law_225 (by decide) ?_
      refine lv_iadd hx hb d_law_226 ?_
      refine va_sld hx hb hX hbl hbA hS hi2 d_law_227 ?_
      obtain ⟨r, mv1, mf1, mi1, tv1, tf1, hc, ht, hR⟩ := ops.2.2.2.1 N (xs (nI I + (1 : Int32)).toNatClampNeg) (xs (nI I + (2 : Int32)).toNatClampNeg) mv mf mi t v f u la tv tf (by omega) hR
      refine dm_callVp (wr := ((awp G g Y t K v f u la) ++ (tw G gt tv tf))) B [.int (xs (nI I + (1 : Int32)).toNatClampNeg), .int (xs (nI I + (2 : Int32)).toNatClampNeg)] (c_DM_start l G g h (xs (nI I + (1 : Int32)).toNatClampNeg) (xs (nI I + (2 : Int32)).toNatClampNeg) mv mf mi (r, mv1, mf1, mi1) hc) k_358 k_359 k_360 k_1 k_361 hd_DM_start rfl ⟨by decide, by decide⟩ 50 rfl rfl hP hD hS lw_pm hl.1 (rest := []) rfl (Nat.le_of_ble_eq_true rfl) d_law_228 ⟨by show cc + 0 ≤ 600000; omega, by show ss + 0 ≤ 7302250; omega⟩ (fun ov w' H locs hq hP hD hS => ?_)
      obtain ⟨rfl, rfl⟩ := hq
      have hP : va_P G.1 dm_cl ((aw G g Y t (mw G g h mv1 mf1 mi1) K v f u la) ++ (tw G gt tv tf)) H := dm_pP lw_pm.symm hP
      have hD : va_D A ((aw G g Y t (mw G g h mv1 mf1 mi1) K v f u la) ++ (tw G gt tv tf)) := dm_pD lw_pm.symm hD
      refine W.eq (g2 := F0 m 231 ls [.int r]) rfl ?_
      refine lv_aload_n hx hb d_law_231 rfl (lv_at hl 2 rfl) ?_
      refine lv_aload_n hx hb d_law_232 rfl (lv_at hl 0 rfl) ?_
      refine lv_iload_n hx hb d_law_233 rfl (lv_at hl 3 rfl) ?_
      refine lv_iconst (v := (1 : Int32)) hx hb d_law_234 (by decide) ?_
      refine lv_iadd hx hb d_law_235 ?_
      refine va_sld hx hb hX hbl hbA hS hi1 d_law_236 ?_
      refine lv_aload_n hx hb d_law_237 rfl (lv_at hl 0 rfl) ?_
      refine lv_iload_n hx hb d_law_238 rfl (lv_at hl 3 rfl) ?_
      refine lv_iconst (v := (2 : Int32)) hx hb d_law_239 (by decide) ?_
      refine lv_iadd hx hb d_law_240 ?_
      refine va_sld hx hb hX hbl hbA hS hi2 d_law_241 ?_
      refine dm_callVp (wr := (aw G g Y t (mw G g h mv1 mf1 mi1) K v f u la)) B [.int (xs (nI I + (1 : Int32)).toNatClampNeg), .int (xs (nI I + (2 : Int32)).toNatClampNeg)] (c_Mo_start l G gt (xs (nI I + (1 : Int32)).toNatClampNeg) (xs (nI I + (2 : Int32)).toNatClampNeg) tv tf (r, tv1, tf1) ht) k_886 k_887 k_888 k_14 k_889 hd_Mo_start rfl ⟨by decide, by decide⟩ 0 rfl rfl hP hD hS (List.Perm.refl _) hl.1 (rest := [.int r]) rfl (Nat.le_of_ble_eq_true rfl) d_law_242 ⟨by show cc + 0 ≤ 600000; omega, by show ss + 0 ≤ 7302250; omega⟩ (fun ov w' H locs hq hP hD hS => ?_)
      obtain ⟨rfl, rfl⟩ := hq
      have hP : va_P G.1 dm_cl ((aw G g Y t (mw G g h mv1 mf1 mi1) K v f u la) ++ (tw G gt tv1 tf1)) H := hP
      have hD : va_D A ((aw G g Y t (mw G g h mv1 mf1 mi1) K v f u la) ++ (tw G gt tv1 tf1)) := hD
      refine W.eq (g2 := F0 m 245 ls [.int r, .int r]) rfl ?_
      refine lv_icmp_eq (tgt := 518) hx hb d_law_245 (by decide) (fun _ => ?_) (fun h => absurd rfl h)
      refine W.widen (k := cc + 80) (n := ss + 4200) (by show cc ≤ cc + 80; omega) (by show ss ≤ ss + 4200; omega) ?_
      exact K518 (cc + 80) (ss + 4200) H locs h mv1 mf1 mi1 Y t K v f u la tv1 tf1 (by omega) (by omega) (ops.2.2.2.2.2.2.2.2.2.2.2.2.2.2 N (N + 2000) _ _ _ _ _ _ _ _ _ _ (by omega) hR) hY hk hP hD hS
    by_cases hc4 : (xs (nI I).toNatClampNeg &&& (15 : Int32)) = (4 : Int32)
    · refine lv_tableIn (off := 217) (tgt := 250) hx hb d_law_33 (by rw [hc4]; decide) (by rw [hc4]; decide) (by rw [hc4]; rfl) (by decide) ?_
      refine lv_aload_n hx hb d_law_250 rfl (lv_at hl 1 rfl) ?_
      refine lv_aload_n hx hb d_law_251 rfl (lv_at hl 0 rfl) ?_
      refine lv_iload_n hx hb d_law_252 rfl (lv_at hl 3 rfl) ?_
      refine lv_iconst (v := (1 : Int32)) hx hb d_law_253 (by decide) ?_
      refine lv_iadd hx hb d_law_254 ?_
      refine va_sld hx hb hX hbl hbA hS hi1 d_law_255 ?_
      obtain ⟨r, h1, mv1, mf1, mi1, tv1, tf1, hc, ht, hR⟩ := ops.2.2.2.2.1 N (xs (nI I + (1 : Int32)).toNatClampNeg) h mv mf mi t v f u la tv tf (by omega) hR
      refine dm_callVp (wr := ((awp G g Y t K v f u la) ++ (tw G gt tv tf))) B [.int (xs (nI I + (1 : Int32)).toNatClampNeg)] (c_DM_run l G g (xs (nI I + (1 : Int32)).toNatClampNeg) h mv mf mi (r, h1, mv1, mf1, mi1) hc) k_370 k_371 k_372 k_1 k_373 hd_DM_run rfl ⟨by decide, by decide⟩ 50 rfl rfl hP hD hS lw_pm hl.1 (rest := []) rfl (Nat.le_of_ble_eq_true rfl) d_law_256 ⟨by show cc + 0 ≤ 600000; omega, by show ss + 0 ≤ 7302250; omega⟩ (fun ov w' H locs hq hP hD hS => ?_)
      obtain ⟨rfl, rfl⟩ := hq
      have hP : va_P G.1 dm_cl ((aw G g Y t (mw G g h1 mv1 mf1 mi1) K v f u la) ++ (tw G gt tv tf)) H := dm_pP lw_pm.symm hP
      have hD : va_D A ((aw G g Y t (mw G g h1 mv1 mf1 mi1) K v f u la) ++ (tw G gt tv tf)) := dm_pD lw_pm.symm hD
      refine W.eq (g2 := F0 m 259 ls [.int r]) rfl ?_
      refine lv_aload_n hx hb d_law_259 rfl (lv_at hl 2 rfl) ?_
      refine lv_aload_n hx hb d_law_260 rfl (lv_at hl 0 rfl) ?_
      refine lv_iload_n hx hb d_law_261 rfl (lv_at hl 3 rfl) ?_
      refine lv_iconst (v := (1 : Int32)) hx hb d_law_262 (by decide) ?_
      refine lv_iadd hx hb d_law_263 ?_
      refine va_sld hx hb hX hbl hbA hS hi1 d_law_264 ?_
      refine dm_callVp (wr := (aw G g Y t (mw G g h1 mv1 mf1 mi1) K v f u la)) B [.int (xs (nI I + (1 : Int32)).toNatClampNeg)] (c_Mo_run l G gt (xs (nI I + (1 : Int32)).toNatClampNeg) tv tf (r, tv1, tf1) ht) k_890 k_891 k_892 k_14 k_893 hd_Mo_run rfl ⟨by decide, by decide⟩ 0 rfl rfl hP hD hS (List.Perm.refl _) hl.1 (rest := [.int r]) rfl (Nat.le_of_ble_eq_true rfl) d_law_265 ⟨by show cc + 0 ≤ 600000; omega, by show ss + 0 ≤ 7302250; omega⟩ (fun ov w' H locs hq hP hD hS => ?_)
      obtain ⟨rfl, rfl⟩ := hq
      have hP : va_P G.1 dm_cl ((aw G g Y t (mw G g h1 mv1 mf1 mi1) K v f u la) ++ (tw G gt tv1 tf1)) H := hP
      have hD : va_D A ((aw G g Y t (mw G g h1 mv1 mf1 mi1) K v f u la) ++ (tw G gt tv1 tf1)) := hD
      refine W.eq (g2 := F0 m 268 ls [.int r, .int r]) rfl ?_
      refine lv_icmp_eq (tgt := 518) hx hb d_law_268 (by decide) (fun _ => ?_) (fun h => absurd rfl h)
      refine W.widen (k := cc + 80) (n := ss + 4200) (by show cc ≤ cc + 80; omega) (by show ss ≤ ss + 4200; omega) ?_
      exact K518 (cc + 80) (ss + 4200) H locs h1 mv1 mf1 mi1 Y t K v f u la tv1 tf1 (by omega) (by omega) hR hY hk hP hD hS
    by_cases hc5 : (xs (nI I).toNatClampNeg &&& (15 : Int32)) = (5 : Int32)
    · refine lv_tableIn (off := 240) (tgt := 273) hx hb d_law_33 (by rw [hc5]; decide) (by rw [hc5]; decide) (by rw [hc5]; rfl) (by decide) ?_
      refine lv_aload_n hx hb d_law_273 rfl (lv_at hl 1 rfl) ?_
      refine lv_aload_n hx hb d_law_274 rfl (lv_at hl 0 rfl) ?_
      refine lv_iload_n hx hb d_law_275 rfl (lv_at hl 3 rfl) ?_
      refine lv_iconst (v := (1 : Int32)) hx hb d_law_276 (by decide) ?_
      refine lv_iadd hx hb d_law_277 ?_
      refine va_sld hx hb hX hbl hbA hS hi1 d_law_278 ?_
      obtain ⟨r, hc, ht⟩ := ops.2.2.2.2.2.1 N (xs (nI I + (1 : Int32)).toNatClampNeg) mv mf mi t v f u la tv tf hR
      refine dm_callVp (wr := ((awp G g Y t K v f u la) ++ (tw G gt tv tf))) B [.int (xs (nI I + (1 : Int32)).toNatClampNeg)] (c_DM_look l G g h (xs (nI I + (1 : Int32)).toNatClampNeg) mv mf mi r hc) k_472 k_473 k_474 k_1 k_475 hd_DM_look rfl ⟨by decide, by decide⟩ 50 rfl rfl hP hD hS lw_pm hl.1 (rest := []) rfl (Nat.le_of_ble_eq_true rfl) d_law_279 ⟨by show cc + 0 ≤ 600000; omega, by show ss + 0 ≤ 7302250; omega⟩ (fun ov w' H locs hq hP hD hS => ?_)
      obtain ⟨rfl, rfl⟩ := hq
      have hP : va_P G.1 dm_cl ((aw G g Y t (mw G g h mv mf mi) K v f u la) ++ (tw G gt tv tf)) H := dm_pP lw_pm.symm hP
      have hD : va_D A ((aw G g Y t (mw G g h mv mf mi) K v f u la) ++ (tw G gt tv tf)) := dm_pD lw_pm.symm hD
      refine W.eq (g2 := F0 m 282 ls [.int r]) rfl ?_
      refine lv_aload_n hx hb d_law_282 rfl (lv_at hl 2 rfl) ?_
      refine lv_aload_n hx hb d_law_283 rfl (lv_at hl 0 rfl) ?_
      refine lv_iload_n hx hb d_law_284 rfl (lv_at hl 3 rfl) ?_
      refine lv_iconst (v := (1 : Int32)) hx hb d_law_285 (by decide) ?_
      refine lv_iadd hx hb d_law_286 ?_
      refine va_sld hx hb hX hbl hbA hS hi1 d_law_287 ?_
      refine dm_callVp (wr := (aw G g Y t (mw G g h mv mf mi) K v f u la)) B [.int (xs (nI I + (1 : Int32)).toNatClampNeg)] (c_Mo_look l G gt (xs (nI I + (1 : Int32)).toNatClampNeg) tv tf r ht) k_945 k_946 k_947 k_14 k_948 hd_Mo_look rfl ⟨by decide, by decide⟩ 0 rfl rfl hP hD hS (List.Perm.refl _) hl.1 (rest := [.int r]) rfl (Nat.le_of_ble_eq_true rfl) d_law_288 ⟨by show cc + 0 ≤ 600000; omega, by show ss + 0 ≤ 7302250; omega⟩ (fun ov w' H locs hq hP hD hS => ?_)
      obtain ⟨rfl, rfl⟩ := hq
      have hP : va_P G.1 dm_cl ((aw G g Y t (mw G g h mv mf mi) K v f u la) ++ (tw G gt tv tf)) H := hP
      have hD : va_D A ((aw G g Y t (mw G g h mv mf mi) K v f u la) ++ (tw G gt tv tf)) := hD
      refine W.eq (g2 := F0 m 291 ls [.int r, .int r]) rfl ?_
      refine lv_icmp_eq (tgt := 518) hx hb d_law_291 (by decide) (fun _ => ?_) (fun h => absurd rfl h)
      refine W.widen (k := cc + 80) (n := ss + 4200) (by show cc ≤ cc + 80; omega) (by show ss ≤ ss + 4200; omega) ?_
      exact K518 (cc + 80) (ss + 4200) H locs h mv mf mi Y t K v f u la tv tf (by omega) (by omega) (ops.2.2.2.2.2.2.2.2.2.2.2.2.2.2 N (N + 2000) _ _ _ _ _ _ _ _ _ _ (by omega) hR) hY hk hP hD hS
    by_cases hc6 : (xs (nI I).toNatClampNeg &&& (15 : Int32)) = (6 : Int32)
    · refine lv_tableIn (off := 263) (tgt := 296) hx hb d_law_33 (by rw [hc6]; decide) (by rw [hc6]; decide) (by rw [hc6]; rfl) (by decide) ?_
      refine lv_aload_n hx hb d_law_296 rfl (lv_at hl 1 rfl) ?_
      refine lv_aload_n hx hb d_law_297 rfl (lv_at hl 0 rfl) ?_
      refine lv_iload_n hx hb d_law_298 rfl (lv_at hl 3 rfl) ?_
      refine lv_iconst (v := (1 : Int32)) hx hb d_law_299 (by decide) ?_
      refine lv_iadd hx hb d_law_300 ?_
      refine va_sld hx hb hX hbl hbA hS hi1 d_law_301 ?_
      refine lv_aload_n hx hb d_law_302 rfl (lv_at hl 0 rfl) ?_
      refine lv_iload_n hx hb d_law_303 rfl (lv_at hl 3 rfl) ?_
      refine lv_iconst (v := (2 : Int32)) hx hb d_law_304 (by decide) ?_
      refine lv_iadd hx hb d_law_305 ?_
      refine va_sld hx hb hX hbl hbA hS hi2 d_law_306 ?_
      obtain ⟨r, hc, ht⟩ := ops.2.2.2.2.2.2.1 N (xs (nI I + (1 : Int32)).toNatClampNeg) (xs (nI I + (2 : Int32)).toNatClampNeg) mv mf mi t v f u la tv tf hR
      refine dm_callVp (wr := ((awp G g Y t K v f u la) ++ (tw G gt tv tf))) B [.int (xs (nI I + (1 : Int32)).toNatClampNeg), .int (xs (nI I + (2 : Int32)).toNatClampNeg)] (c_DM_peek l G g h (xs (nI I + (1 : Int32)).toNatClampNeg) (xs (nI I + (2 : Int32)).toNatClampNeg) mv mf mi r hc) k_476 k_477 k_478 k_1 k_479 hd_DM_peek rfl ⟨by decide, by decide⟩ 50 rfl rfl hP hD hS lw_pm hl.1 (rest := []) rfl (Nat.le_of_ble_eq_true rfl) d_law_307 ⟨by show cc + 0 ≤ 600000; omega, by show ss + 0 ≤ 7302250; omega⟩ (fun ov w' H locs hq hP hD hS => ?_)
      obtain ⟨rfl, rfl⟩ := hq
      have hP : va_P G.1 dm_cl ((aw G g Y t (mw G g h mv mf mi) K v f u la) ++ (tw G gt tv tf)) H := dm_pP lw_pm.symm hP
      have hD : va_D A ((aw G g Y t (mw G g h mv mf mi) K v f u la) ++ (tw G gt tv tf)) := dm_pD lw_pm.symm hD
      refine W.eq (g2 := F0 m 310 ls [.int r]) rfl ?_
      refine lv_aload_n hx hb d_law_310 rfl (lv_at hl 2 rfl) ?_
      refine lv_aload_n hx hb d_law_311 rfl (lv_at hl 0 rfl) ?_
      refine lv_iload_n hx hb d_law_312 rfl (lv_at hl 3 rfl) ?_
      refine lv_iconst (v := (1 : Int32)) hx hb d_law_313 (by decide) ?_
      refine lv_iadd hx hb d_law_314 ?_
      refine va_sld hx hb hX hbl hbA hS hi1 d_law_315 ?_
      refine lv_aload_n hx hb d_law_316 rfl (lv_at hl 0 rfl) ?_
      refine lv_iload_n hx hb d_law_317 rfl (lv_at hl 3 rfl) ?_
      refine lv_iconst (v := (2 : Int32)) hx hb d_law_318 (by decide) ?_
      refine lv_iadd hx hb d_law_319 ?_
      refine va_sld hx hb hX hbl hbA hS hi2 d_law_320 ?_
      refine dm_callVp (wr := (aw G g Y t (mw G g h mv mf mi) K v f u la)) B [.int (xs (nI I + (1 : Int32)).toNatClampNeg), .int (xs (nI I + (2 : Int32)).toNatClampNeg)] (c_Mo_peek l G gt (xs (nI I + (1 : Int32)).toNatClampNeg) (xs (nI I + (2 : Int32)).toNatClampNeg) tv tf r ht) k_949 k_950 k_951 k_14 k_952 hd_Mo_peek rfl ⟨by decide, by decide⟩ 0 rfl rfl hP hD hS (List.Perm.refl _) hl.1 (rest := [.int r]) rfl (Nat.le_of_ble_eq_true rfl) d_law_321 ⟨by show cc + 0 ≤ 600000; omega, by show ss + 0 ≤ 7302250; omega⟩ (fun ov w' H locs hq hP hD hS => ?_)
      obtain ⟨rfl, rfl⟩ := hq
      have hP : va_P G.1 dm_cl ((aw G g Y t (mw G g h mv mf mi) K v f u la) ++ (tw G gt tv tf)) H := hP
      have hD : va_D A ((aw G g Y t (mw G g h mv mf mi) K v f u la) ++ (tw G gt tv tf)) := hD
      refine W.eq (g2 := F0 m 324 ls [.int r, .int r]) rfl ?_
      refine lv_icmp_eq (tgt := 518) hx hb d_law_324 (by decide) (fun _ => ?_) (fun h => absurd rfl h)
      refine W.widen (k := cc + 80) (n := ss + 4200) (by show cc ≤ cc + 80; omega) (by show ss ≤ ss + 4200; omega) ?_
      exact K518 (cc + 80) (ss + 4200) H locs h mv mf mi Y t K v f u la tv tf (by omega) (by omega) (ops.2.2.2.2.2.2.2.2.2.2.2.2.2.2 N (N + 2000) _ _ _ _ _ _ _ _ _ _ (by omega) hR) hY hk hP hD hS
    by_cases hc7 : (xs (nI I).toNatClampNeg &&& (15 : Int32)) = (7 : Int32)
    · refine lv_tableIn (off := 296) (tgt := 329) hx hb d_law_33 (by rw [hc7]; decide) (by rw [hc7]; decide) (by rw [hc7]; rfl) (by decide) ?_
      refine lv_aload_n hx hb d_law_329 rfl (lv_at hl 1 rfl) ?_
      refine lv_aload_n hx hb d_law_330 rfl (lv_at hl 0 rfl) ?_
      refine lv_iload_n hx hb d_law_331 rfl (lv_at hl 3 rfl) ?_
      refine lv_iconst (v := (1 : Int32)) hx hb d_law_332 (by decide) ?_
      refine lv_iadd hx hb d_law_333 ?_
      refine va_sld hx hb hX hbl hbA hS hi1 d_law_334 ?_
      refine lv_aload_n hx hb d_law_335 rfl (lv_at hl 0 rfl) ?_
      refine lv_iload_n hx hb d_law_336 rfl (lv_at hl 3 rfl) ?_
      refine lv_iconst (v := (2 : Int32)) hx hb d_law_337 (by decide) ?_
      refine lv_iadd hx hb d_law_338 ?_
      refine va_sld hx hb hX hbl hbA hS hi2 d_law_339 ?_
      obtain ⟨r, hc, ht⟩ := ops.2.2.2.2.2.2.2.1 N (xs (nI I + (1 : Int32)).toNatClampNeg) (xs (nI I + (2 : Int32)).toNatClampNeg) mv mf mi t v f u la tv tf hR
      refine dm_callVp (wr := ((awp G g Y t K v f u la) ++ (tw G gt tv tf))) B [.int (xs (nI I + (1 : Int32)).toNatClampNeg), .int (xs (nI I + (2 : Int32)).toNatClampNeg)] (c_DM_read l G g h (xs (nI I + (1 : Int32)).toNatClampNeg) (xs (nI I + (2 : Int32)).toNatClampNeg) mv mf mi r hc) k_480 k_481 k_482 k_1 k_483 hd_DM_read rfl ⟨by decide, by decide⟩ 50 rfl rfl hP hD hS lw_pm hl.1 (rest := []) rfl (Nat.le_of_ble_eq_true rfl) d_law_340 ⟨by show cc + 0 ≤ 600000; omega, by show ss + 0 ≤ 7302250; omega⟩ (fun ov w' H locs hq hP hD hS => ?_)
      obtain ⟨rfl, rfl⟩ := hq
      have hP : va_P G.1 dm_cl ((aw G g Y t (mw G g h mv mf mi) K v f u la) ++ (tw G gt tv tf)) H := dm_pP lw_pm.symm hP
      have hD : va_D A ((aw G g Y t (mw G g h mv mf mi) K v f u la) ++ (tw G gt tv tf)) := dm_pD lw_pm.symm hD
      refine W.eq (g2 := F0 m 343 ls [.int r]) rfl ?_
      refine lv_aload_n hx hb d_law_343 rfl (lv_at hl 2 rfl) ?_
      refine lv_aload_n hx hb d_law_344 rfl (lv_at hl 0 rfl) ?_
      refine lv_iload_n hx hb d_law_345 rfl (lv_at hl 3 rfl) ?_
      refine lv_iconst (v := (1 : Int32)) hx hb d_law_346 (by decide) ?_
      refine lv_iadd hx hb d_law_347 ?_
      refine va_sld hx hb hX hbl hbA hS hi1 d_law_348 ?_
      refine lv_aload_n hx hb d_law_349 rfl (lv_at hl 0 rfl) ?_
      refine lv_iload_n hx hb d_law_350 rfl (lv_at hl 3 rfl) ?_
      refine lv_iconst (v := (2 : Int32)) hx hb d_law_351 (by decide) ?_
      refine lv_iadd hx hb d_law_352 ?_
      refine va_sld hx hb hX hbl hbA hS hi2 d_law_353 ?_
      refine dm_callVp (wr := (aw G g Y t (mw G g h mv mf mi) K v f u la)) B [.int (xs (nI I + (1 : Int32)).toNatClampNeg), .int (xs (nI I + (2 : Int32)).toNatClampNeg)] (c_Mo_read2 l G gt (xs (nI I + (1 : Int32)).toNatClampNeg) (xs (nI I + (2 : Int32)).toNatClampNeg) tv tf r ht) k_953 k_954 k_955 k_14 k_956 hd_Mo_read2 rfl ⟨by decide, by decide⟩ 0 rfl rfl hP hD hS (List.Perm.refl _) hl.1 (rest := [.int r]) rfl (Nat.le_of_ble_eq_true rfl) d_law_354 ⟨by show cc + 0 ≤ 600000; omega, by show ss + 0 ≤ 7302250; omega⟩ (fun ov w' H locs hq hP hD hS => ?_)
      obtain ⟨rfl, rfl⟩ := hq
      have hP : va_P G.1 dm_cl ((aw G g Y t (mw G g h mv mf mi) K v f u la) ++ (tw G gt tv tf)) H := hP
      have hD : va_D A ((aw G g Y t (mw G g h mv mf mi) K v f u la) ++ (tw G gt tv tf)) := hD
      refine W.eq (g2 := F0 m 357 ls [.int r, .int r]) rfl ?_
      refine lv_icmp_eq (tgt := 518) hx hb d_law_357 (by decide) (fun _ => ?_) (fun h => absurd rfl h)
      refine W.widen (k := cc + 80) (n := ss + 4200) (by show cc ≤ cc + 80; omega) (by show ss ≤ ss + 4200; omega) ?_
      exact K518 (cc + 80) (ss + 4200) H locs h mv mf mi Y t K v f u la tv tf (by omega) (by omega) (ops.2.2.2.2.2.2.2.2.2.2.2.2.2.2 N (N + 2000) _ _ _ _ _ _ _ _ _ _ (by omega) hR) hY hk hP hD hS
    by_cases hc8 : (xs (nI I).toNatClampNeg &&& (15 : Int32)) = (8 : Int32)
    · refine lv_tableIn (off := 329) (tgt := 362) hx hb d_law_33 (by rw [hc8]; decide) (by rw [hc8]; decide) (by rw [hc8]; rfl) (by decide) ?_
      refine lv_aload_n hx hb d_law_362 rfl (lv_at hl 1 rfl) ?_
      refine lv_aload_n hx hb d_law_363 rfl (lv_at hl 0 rfl) ?_
      refine lv_iload_n hx hb d_law_364 rfl (lv_at hl 3 rfl) ?_
      refine lv_iconst (v := (1 : Int32)) hx hb d_law_365 (by decide) ?_
      refine lv_iadd hx hb d_law_366 ?_
      refine va_sld hx hb hX hbl hbA hS hi1 d_law_367 ?_
      obtain ⟨r, hc, ht⟩ := ops.2.2.2.2.2.2.2.2.1 N (xs (nI I + (1 : Int32)).toNatClampNeg) mv mf mi t v f u la tv tf hR
      refine dm_callVp (wr := ((awp G g Y t K v f u la) ++ (tw G gt tv tf))) B [.int (xs (nI I + (1 : Int32)).toNatClampNeg)] (c_DM_punched l G g h (xs (nI I + (1 : Int32)).toNatClampNeg) mv mf mi r hc) k_484 k_485 k_486 k_1 k_487 hd_DM_punched rfl ⟨by decide, by decide⟩ 50 rfl rfl hP hD hS lw_pm hl.1 (rest := []) rfl (Nat.le_of_ble_eq_true rfl) d_law_368 ⟨by show cc + 0 ≤ 600000; omega, by show ss + 0 ≤ 7302250; omega⟩ (fun ov w' H locs hq hP hD hS => ?_)
      obtain ⟨rfl, rfl⟩ := hq
      have hP : va_P G.1 dm_cl ((aw G g Y t (mw G g h mv mf mi) K v f u la) ++ (tw G gt tv tf)) H := dm_pP lw_pm.symm hP
      have hD : va_D A ((aw G g Y t (mw G g h mv mf mi) K v f u la) ++ (tw G gt tv tf)) := dm_pD lw_pm.symm hD
      refine W.eq (g2 := F0 m 371 ls [.int r]) rfl ?_
      refine lv_aload_n hx hb d_law_371 rfl (lv_at hl 2 rfl) ?_
      refine lv_aload_n hx hb d_law_372 rfl (lv_at hl 0 rfl) ?_
      refine lv_iload_n hx hb d_law_373 rfl (lv_at hl 3 rfl) ?_
      refine lv_iconst (v := (1 : Int32)) hx hb d_law_374 (by decide) ?_
      refine lv_iadd hx hb d_law_375 ?_
      refine va_sld hx hb hX hbl hbA hS hi1 d_law_376 ?_
      refine dm_callVp (wr := (aw G g Y t (mw G g h mv mf mi) K v f u la)) B [.int (xs (nI I + (1 : Int32)).toNatClampNeg)] (c_Mo_punched l G gt (xs (nI I + (1 : Int32)).toNatClampNeg) tv tf r ht) k_957 k_958 k_959 k_14 k_960 hd_Mo_punched rfl ⟨by decide, by decide⟩ 0 rfl rfl hP hD hS (List.Perm.refl _) hl.1 (rest := [.int r]) rfl (Nat.le_of_ble_eq_true rfl) d_law_377 ⟨by show cc + 0 ≤ 600000; omega, by show ss + 0 ≤ 7302250; omega⟩ (fun ov w' H locs hq hP hD hS => ?_)
      obtain ⟨rfl, rfl⟩ := hq
      have hP : va_P G.1 dm_cl ((aw G g Y t (mw G g h mv mf mi) K v f u la) ++ (tw G gt tv tf)) H := hP
      have hD : va_D A ((aw G g Y t (mw G g h mv mf mi) K v f u la) ++ (tw G gt tv tf)) := hD
      refine W.eq (g2 := F0 m 380 ls [.int r, .int r]) rfl ?_
      refine lv_icmp_eq (tgt := 518) hx hb d_law_380 (by decide) (fun _ => ?_) (fun h => absurd rfl h)
      refine W.widen (k := cc + 80) (n := ss + 4200) (by show cc ≤ cc + 80; omega) (by show ss ≤ ss + 4200; omega) ?_
      exact K518 (cc + 80) (ss + 4200) H locs h mv mf mi Y t K v f u la tv tf (by omega) (by omega) (ops.2.2.2.2.2.2.2.2.2.2.2.2.2.2 N (N + 2000) _ _ _ _ _ _ _ _ _ _ (by omega) hR) hY hk hP hD hS
    by_cases hc9 : (xs (nI I).toNatClampNeg &&& (15 : Int32)) = (9 : Int32)
    · refine lv_tableIn (off := 352) (tgt := 385) hx hb d_law_33 (by rw [hc9]; decide) (by rw [hc9]; decide) (by rw [hc9]; rfl) (by decide) ?_
      refine lv_aload_n hx hb d_law_385 rfl (lv_at hl 1 rfl) ?_
      refine lv_aload_n hx hb d_law_386 rfl (lv_at hl 0 rfl) ?_
      refine lv_iload_n hx hb d_law_387 rfl (lv_at hl 3 rfl) ?_
      refine lv_iconst (v := (1 : Int32)) hx hb d_law_388 (by decide) ?_
      refine lv_iadd hx hb d_law_389 ?_
      refine va_sld hx hb hX hbl hbA hS hi1 d_law_390 ?_
      refine lv_aload_n hx hb d_law_391 rfl (lv_at hl 0 rfl) ?_
      refine lv_iload_n hx hb d_law_392 rfl (lv_at hl 3 rfl) ?_
      refine lv_iconst (v := (2 : Int32)) hx hb d_law_393 (by decide) ?_
      refine lv_iadd hx hb d_law_394 ?_
      refine va_sld hx hb hX hbl hbA hS hi2 d_law_395 ?_
      refine lv_aload_n hx hb d_law_396 rfl (lv_at hl 0 rfl) ?_
      refine lv_iload_n hx hb d_law_397 rfl (lv_at hl 3 rfl) ?_
      refine lv_iconst (v := (3 : Int32)) hx hb d_law_398 (by decide) ?_
      refine lv_iadd hx hb d_law_399 ?_
      refine va_sld hx hb hX hbl hbA hS hi3 d_law_400 ?_
      refine lv_aload_n hx hb d_law_401 rfl (lv_at hl 0 rfl) ?_
      refine lv_iload_n hx hb d_law_402 rfl (lv_at hl 3 rfl) ?_
      refine lv_iconst (v := (4 : Int32)) hx hb d_law_403 (by decide) ?_
      refine lv_iadd hx hb d_law_404 ?_
      refine va_sld hx hb hX hbl hbA hS hi4 d_law_405 ?_
      refine lv_aload_n hx hb d_law_406 rfl (lv_at hl 0 rfl) ?_
      refine lv_iload_n hx hb d_law_407 rfl (lv_at hl 3 rfl) ?_
      refine lv_iconst (v := (5 : Int32)) hx hb d_law_408 (by decide) ?_
      refine lv_iadd hx hb d_law_409 ?_
      refine va_sld hx hb hX hbl hbA hS hi5 d_law_410 ?_
      obtain ⟨r, t1, v1, tv1, tf1, hc, ht, hR⟩ := ops.2.2.2.2.2.2.2.2.2.1 N (xs (nI I + (1 : Int32)).toNatClampNeg) (xs (nI I + (2 : Int32)).toNatClampNeg) (xs (nI I + (3 : Int32)).toNatClampNeg) (xs (nI I + (4 : Int32)).toNatClampNeg) (xs (nI I + (5 : Int32)).toNatClampNeg) mv mf mi t v f u la tv tf hR
      refine dm_callVp (wr := (tw G gt tv tf)) B [.int (xs (nI I + (1 : Int32)).toNatClampNeg), .int (xs (nI I + (2 : Int32)).toNatClampNeg), .int (xs (nI I + (3 : Int32)).toNatClampNeg), .int (xs (nI I + (4 : Int32)).toNatClampNeg), .int (xs (nI I + (5 : Int32)).toNatClampNeg)] (c_DM_statement l G g Y t h mv mf mi K (xs (nI I + (1 : Int32)).toNatClampNeg) (xs (nI I + (2 : Int32)).toNatClampNeg) (xs (nI I + (3 : Int32)).toNatClampNeg) (xs (nI I + (4 : Int32)).toNatClampNeg) (xs (nI I + (5 : Int32)).toNatClampNeg) v f u la (r, t1, v1) hY hk hc) k_488 k_489 k_490 k_1 k_491 hd_DM_statement rfl ⟨by decide, by decide⟩ (((awp G g Y t K v f u la)).length + 50) (aw_tl rfl) rfl hP hD hS List.perm_append_comm hl.1 (rest := []) rfl (Nat.le_of_ble_eq_true rfl) d_law_411 ⟨by show cc + 2 ≤ 600000; omega, by show ss + 105 ≤ 7302250; omega⟩ (fun ov w' H locs hq hP hD hS => ?_)
      obtain ⟨Y1, hY, hk, rfl, rfl⟩ := hq
      have hP : va_P G.1 dm_cl ((aw G g Y1 t1 (mw G g h mv mf mi) K v1 f u la) ++ (tw G gt tv tf)) H := dm_pP List.perm_append_comm hP
      have hD : va_D A ((aw G g Y1 t1 (mw G g h mv mf mi) K v1 f u la) ++ (tw G gt tv tf)) := dm_pD List.perm_append_comm hD
      refine W.eq (g2 := F0 m 414 ls [.int r]) rfl ?_
      refine lv_aload_n hx hb d_law_414 rfl (lv_at hl 2 rfl) ?_
      refine lv_aload_n hx hb d_law_415 rfl (lv_at hl 0 rfl) ?_
      refine lv_iload_n hx hb d_law_416 rfl (lv_at hl 3 rfl) ?_
      refine lv_iconst (v := (1 : Int32)) hx hb d_law_417 (by decide) ?_
      refine lv_iadd hx hb d_law_418 ?_
      refine va_sld hx hb hX hbl hbA hS hi1 d_law_419 ?_
      refine lv_aload_n hx hb d_law_420 rfl (lv_at hl 0 rfl) ?_
      refine lv_iload_n hx hb d_law_421 rfl (lv_at hl 3 rfl) ?_
      refine lv_iconst (v := (2 : Int32)) hx hb d_law_422 (by decide) ?_
      refine lv_iadd hx hb d_law_423 ?_
      refine va_sld hx hb hX hbl hbA hS hi2 d_law_424 ?_
      refine lv_aload_n hx hb d_law_425 rfl (lv_at hl 0 rfl) ?_
      refine lv_iload_n hx hb d_law_426 rfl (lv_at hl 3 rfl) ?_
      refine lv_iconst (v := (3 : Int32)) hx hb d_law_427 (by decide) ?_
      refine lv_iadd hx hb d_law_428 ?_
      refine va_sld hx hb hX hbl hbA hS hi3 d_law_429 ?_
      refine lv_aload_n hx hb d_law_430 rfl (lv_at hl 0 rfl) ?_
      refine lv_iload_n hx hb d_law_431 rfl (lv_at hl 3 rfl) ?_
      refine lv_iconst (v := (4 : Int32)) hx hb d_law_432 (by decide) ?_
      refine lv_iadd hx hb d_law_433 ?_
      refine va_sld hx hb hX hbl hbA hS hi4 d_law_434 ?_
      refine lv_aload_n hx hb d_law_435 rfl (lv_at hl 0 rfl) ?_
      refine lv_iload_n hx hb d_law_436 rfl (lv_at hl 3 rfl) ?_
      refine lv_iconst (v := (5 : Int32)) hx hb d_law_437 (by decide) ?_
      refine lv_iadd hx hb d_law_438 ?_
      refine va_sld hx hb hX hbl hbA hS hi5 d_law_439 ?_
      refine dm_callVp (wr := (aw G g Y1 t1 (mw G g h mv mf mi) K v1 f u la)) B [.int (xs (nI I + (1 : Int32)).toNatClampNeg), .int (xs (nI I + (2 : Int32)).toNatClampNeg), .int (xs (nI I + (3 : Int32)).toNatClampNeg), .int (xs (nI I + (4 : Int32)).toNatClampNeg), .int (xs (nI I + (5 : Int32)).toNatClampNeg)] (c_Mo_statement l G gt (xs (nI I + (1 : Int32)).toNatClampNeg) (xs (nI I + (2 : Int32)).toNatClampNeg) (xs (nI I + (3 : Int32)).toNatClampNeg) (xs (nI I + (4 : Int32)).toNatClampNeg) (xs (nI I + (5 : Int32)).toNatClampNeg) tv tf (r, tv1, tf1) ht) k_961 k_962 k_963 k_14 k_964 hd_Mo_statement rfl ⟨by decide, by decide⟩ 0 rfl rfl hP hD hS (List.Perm.refl _) hl.1 (rest := [.int r]) rfl (Nat.le_of_ble_eq_true rfl) d_law_440 ⟨by show cc + 2 + 0 ≤ 600000; omega, by show ss + 105 + 0 ≤ 7302250; omega⟩ (fun ov w' H locs hq hP hD hS => ?_)
      obtain ⟨rfl, rfl⟩ := hq
      have hP : va_P G.1 dm_cl ((aw G g Y1 t1 (mw G g h mv mf mi) K v1 f u la) ++ (tw G gt tv1 tf1)) H := hP
      have hD : va_D A ((aw G g Y1 t1 (mw G g h mv mf mi) K v1 f u la) ++ (tw G gt tv1 tf1)) := hD
      refine W.eq (g2 := F0 m 443 ls [.int r, .int r]) rfl ?_
      refine lv_icmp_eq (tgt := 518) hx hb d_law_443 (by decide) (fun _ => ?_) (fun h => absurd rfl h)
      refine W.widen (k := cc + 80) (n := ss + 4200) (by show cc + 2 ≤ cc + 80; omega) (by show ss + 105 ≤ ss + 4200; omega) ?_
      exact K518 (cc + 80) (ss + 4200) H locs h mv mf mi Y1 t1 K v1 f u la tv1 tf1 (by omega) (by omega) (ops.2.2.2.2.2.2.2.2.2.2.2.2.2.2 N (N + 2000) _ _ _ _ _ _ _ _ _ _ (by omega) hR) hY hk hP hD hS
    by_cases hc10 : (xs (nI I).toNatClampNeg &&& (15 : Int32)) = (10 : Int32)
    · refine lv_tableIn (off := 415) (tgt := 448) hx hb d_law_33 (by rw [hc10]; decide) (by rw [hc10]; decide) (by rw [hc10]; rfl) (by decide) ?_
      refine lv_aload_n hx hb d_law_448 rfl (lv_at hl 1 rfl) ?_
      obtain ⟨tv1, tf1, ht, hR⟩ := ops.2.2.2.2.2.2.2.2.2.2.1 N mv mf mi t v f u la tv tf hR
      refine dm_callVp (wr := (tw G gt tv tf)) B [] (c_DM_clear l G g Y t h mv mf mi K v f u la hY) k_582 k_583 k_584 k_1 k_585 hd_DM_clear rfl ⟨by decide, by decide⟩ (((awp G g Y t K v f u la)).length + 50) (aw_tl rfl) rfl hP hD hS List.perm_append_comm hl.1 (rest := []) rfl (Nat.le_of_ble_eq_true rfl) d_law_449 ⟨by show cc + 0 ≤ 600000; omega, by show ss + 0 ≤ 7302250; omega⟩ (fun ov w' H locs hq hP hD hS => ?_)
      obtain ⟨Y1, hY, rfl, rfl⟩ := hq
      have hP : va_P G.1 dm_cl ((aw G g Y1 t (mw G g h mv mf mi) K (va_up v 21 0) f u la) ++ (tw G gt tv tf)) H := dm_pP List.perm_append_comm hP
      have hD : va_D A ((aw G g Y1 t (mw G g h mv mf mi) K (va_up v 21 0) f u la) ++ (tw G gt tv tf)) := dm_pD List.perm_append_comm hD
      refine W.eq (g2 := F0 m 452 ls []) rfl ?_
      refine lv_aload_n hx hb d_law_452 rfl (lv_at hl 2 rfl) ?_
      refine dm_callVp (wr := (aw G g Y1 t (mw G g h mv mf mi) K (va_up v 21 0) f u la)) B [] (c_Mo_clear l G gt tv tf (tv1, tf1) ht) k_968 k_969 k_970 k_14 k_971 hd_Mo_clear rfl ⟨by decide, by decide⟩ 0 rfl rfl hP hD hS (List.Perm.refl _) hl.1 (rest := []) rfl (Nat.le_of_ble_eq_true rfl) d_law_453 ⟨by show cc + 0 ≤ 600000; omega, by show ss + 0 ≤ 7302250; omega⟩ (fun ov w' H locs hq hP hD hS => ?_)
      obtain ⟨rfl, rfl⟩ := hq
      have hP : va_P G.1 dm_cl ((aw G g Y1 t (mw G g h mv mf mi) K (va_up v 21 0) f u la) ++ (tw G gt tv1 tf1)) H := hP
      have hD : va_D A ((aw G g Y1 t (mw G g h mv mf mi) K (va_up v 21 0) f u la) ++ (tw G gt tv1 tf1)) := hD
      refine W.eq (g2 := F0 m 456 ls []) rfl ?_
      refine lv_goto (tgt := 518) hx hb d_law_456 (by decide) ?_
      refine W.widen (k := cc + 80) (n := ss + 4200) (by show cc ≤ cc + 80; omega) (by show ss ≤ ss + 4200; omega) ?_
      exact K518 (cc + 80) (ss + 4200) H locs h mv mf mi Y1 t K (va_up v 21 0) f u la tv1 tf1 (by omega) (by omega) (ops.2.2.2.2.2.2.2.2.2.2.2.2.2.2 N (N + 2000) _ _ _ _ _ _ _ _ _ _ (by omega) hR) hY hk hP hD hS
    by_cases hc11 : (xs (nI I).toNatClampNeg &&& (15 : Int32)) = (11 : Int32)
    · refine lv_tableIn (off := 426) (tgt := 459) hx hb d_law_33 (by rw [hc11]; decide) (by rw [hc11]; decide) (by rw [hc11]; rfl) (by decide) ?_
      refine lv_aload_n hx hb d_law_459 rfl (lv_at hl 1 rfl) ?_
      obtain ⟨r, mf1, v1, f1, u1, la1, tv1, tf1, hc, ht, hR⟩ := ops.2.2.2.2.2.2.2.2.2.2.2.1 N mv mf mi t v f u la tv tf hR
      refine dm_callVp (wr := (tw G gt tv tf)) B [] (c_DM_assemble l G g Y t h mv mf mi K v f u la (r, mf1, v1, f1, u1, la1) hY hk hc) k_590 k_591 k_592 k_1 k_593 hd_DM_assemble rfl ⟨by decide, by decide⟩ (((awp G g Y t K v f u la)).length + 50) (aw_tl rfl) rfl hP hD hS List.perm_append_comm hl.1 (rest := []) rfl (Nat.le_of_ble_eq_true rfl) d_law_460 ⟨by show cc + 80 ≤ 600000; omega, by show ss + 4200 ≤ 7302250; omega⟩ (fun ov w' H locs hq hP hD hS => ?_)
      obtain ⟨K1, hY, hk, rfl, rfl⟩ := hq
      have hP : va_P G.1 dm_cl ((aw G g Y t (mw G g h mv mf1 mi) K1 v1 f1 u1 la1) ++ (tw G gt tv tf)) H := dm_pP List.perm_append_comm hP
      have hD : va_D A ((aw G g Y t (mw G g h mv mf1 mi) K1 v1 f1 u1 la1) ++ (tw G gt tv tf)) := dm_pD List.perm_append_comm hD
      refine W.eq (g2 := F0 m 463 ls [.int r]) rfl ?_
      refine lv_aload_n hx hb d_law_463 rfl (lv_at hl 2 rfl) ?_
      refine dm_callVp (wr := (aw G g Y t (mw G g h mv mf1 mi) K1 v1 f1 u1 la1)) B [] (c_Mo_assemble l G gt  tv tf (r, tv1, tf1) ht) k_972 k_973 k_974 k_14 k_975 hd_Mo_assemble rfl ⟨by decide, by decide⟩ 0 rfl rfl hP hD hS (List.Perm.refl _) hl.1 (rest := [.int r]) rfl (Nat.le_of_ble_eq_true rfl) d_law_464 ⟨by show cc + 80 + 0 ≤ 600000; omega, by show ss + 4200 + 0 ≤ 7302250; omega⟩ (fun ov w' H locs hq hP hD hS => ?_)
      obtain ⟨rfl, rfl⟩ := hq
      have hP : va_P G.1 dm_cl ((aw G g Y t (mw G g h mv mf1 mi) K1 v1 f1 u1 la1) ++ (tw G gt tv1 tf1)) H := hP
      have hD : va_D A ((aw G g Y t (mw G g h mv mf1 mi) K1 v1 f1 u1 la1) ++ (tw G gt tv1 tf1)) := hD
      refine W.eq (g2 := F0 m 467 ls [.int r, .int r]) rfl ?_
      refine lv_icmp_eq (tgt := 518) hx hb d_law_467 (by decide) (fun _ => ?_) (fun h => absurd rfl h)
      refine W.widen (k := cc + 80) (n := ss + 4200) (by show cc + 80 ≤ cc + 80; omega) (by show ss + 4200 ≤ ss + 4200; omega) ?_
      exact K518 (cc + 80) (ss + 4200) H locs h mv mf1 mi Y t K1 v1 f1 u1 la1 tv1 tf1 (by omega) (by omega) (ops.2.2.2.2.2.2.2.2.2.2.2.2.2.2 N (N + 2000) _ _ _ _ _ _ _ _ _ _ (by omega) hR) hY hk hP hD hS
    by_cases hc12 : (xs (nI I).toNatClampNeg &&& (15 : Int32)) = (12 : Int32)
    · refine lv_tableIn (off := 439) (tgt := 472) hx hb d_law_33 (by rw [hc12]; decide) (by rw [hc12]; decide) (by rw [hc12]; rfl) (by decide) ?_
      refine lv_aload_n hx hb d_law_472 rfl (lv_at hl 1 rfl) ?_
      refine lv_aload_n hx hb d_law_473 rfl (lv_at hl 0 rfl) ?_
      refine lv_iload_n hx hb d_law_474 rfl (lv_at hl 3 rfl) ?_
      refine lv_iconst (v := (1 : Int32)) hx hb d_law_475 (by decide) ?_
      refine lv_iadd hx hb d_law_476 ?_
      refine va_sld hx hb hX hbl hbA hS hi1 d_law_477 ?_
      obtain ⟨r, hc, ht⟩ := ops.2.2.2.2.2.2.2.2.2.2.2.2.1 N (xs (nI I + (1 : Int32)).toNatClampNeg) mv mf mi t v f u la tv tf hR
      refine dm_callVp (wr := (tw G gt tv tf)) B [.int (xs (nI I + (1 : Int32)).toNatClampNeg)] (c_DM_placed l G g Y t h mv mf mi K (xs (nI I + (1 : Int32)).toNatClampNeg) v f u la r hY hk hc) k_711 k_712 k_713 k_1 k_714 hd_DM_placed rfl ⟨by decide, by decide⟩ (((awp G g Y t K v f u la)).length + 50) (aw_tl rfl) rfl hP hD hS List.perm_append_comm hl.1 (rest := []) rfl (Nat.le_of_ble_eq_true rfl) d_law_478 ⟨by show cc + 0 ≤ 600000; omega, by show ss + 0 ≤ 7302250; omega⟩ (fun ov w' H locs hq hP hD hS => ?_)
      obtain ⟨rfl, rfl⟩ := hq
      have hP : va_P G.1 dm_cl ((aw G g Y t (mw G g h mv mf mi) K v f u la) ++ (tw G gt tv tf)) H := dm_pP List.perm_append_comm hP
      have hD : va_D A ((aw G g Y t (mw G g h mv mf mi) K v f u la) ++ (tw G gt tv tf)) := dm_pD List.perm_append_comm hD
      refine W.eq (g2 := F0 m 481 ls [.int r]) rfl ?_
      refine lv_aload_n hx hb d_law_481 rfl (lv_at hl 2 rfl) ?_
      refine lv_aload_n hx hb d_law_482 rfl (lv_at hl 0 rfl) ?_
      refine lv_iload_n hx hb d_law_483 rfl (lv_at hl 3 rfl) ?_
      refine lv_iconst (v := (1 : Int32)) hx hb d_law_484 (by decide) ?_
      refine lv_iadd hx hb d_law_485 ?_
      refine va_sld hx hb hX hbl hbA hS hi1 d_law_486 ?_
      refine dm_callVp (wr := (aw G g Y t (mw G g h mv mf mi) K v f u la)) B [.int (xs (nI I + (1 : Int32)).toNatClampNeg)] (c_Mo_placed l G gt (xs (nI I + (1 : Int32)).toNatClampNeg) tv tf r ht) k_1009 k_1010 k_1011 k_14 k_1012 hd_Mo_placed rfl ⟨by decide, by decide⟩ 0 rfl rfl hP hD hS (List.Perm.refl _) hl.1 (rest := [.int r]) rfl (Nat.le_of_ble_eq_true rfl) d_law_487 ⟨by show cc + 0 ≤ 600000; omega, by show ss + 0 ≤ 7302250; omega⟩ (fun ov w' H locs hq hP hD hS => ?_)
      obtain ⟨rfl, rfl⟩ := hq
      have hP : va_P G.1 dm_cl ((aw G g Y t (mw G g h mv mf mi) K v f u la) ++ (tw G gt tv tf)) H := hP
      have hD : va_D A ((aw G g Y t (mw G g h mv mf mi) K v f u la) ++ (tw G gt tv tf)) := hD
      refine W.eq (g2 := F0 m 490 ls [.int r, .int r]) rfl ?_
      refine lv_icmp_eq (tgt := 518) hx hb d_law_490 (by decide) (fun _ => ?_) (fun h => absurd rfl h)
      refine W.widen (k := cc + 80) (n := ss + 4200) (by show cc ≤ cc + 80; omega) (by show ss ≤ ss + 4200; omega) ?_
      exact K518 (cc + 80) (ss + 4200) H locs h mv mf mi Y t K v f u la tv tf (by omega) (by omega) (ops.2.2.2.2.2.2.2.2.2.2.2.2.2.2 N (N + 2000) _ _ _ _ _ _ _ _ _ _ (by omega) hR) hY hk hP hD hS
    by_cases hc13 : (xs (nI I).toNatClampNeg &&& (15 : Int32)) = (13 : Int32)
    · refine lv_tableIn (off := 462) (tgt := 495) hx hb d_law_33 (by rw [hc13]; decide) (by rw [hc13]; decide) (by rw [hc13]; rfl) (by decide) ?_
      refine lv_aload_n hx hb d_law_495 rfl (lv_at hl 1 rfl) ?_
      refine lv_aload_n hx hb d_law_496 rfl (lv_at hl 0 rfl) ?_
      refine lv_iload_n hx hb d_law_497 rfl (lv_at hl 3 rfl) ?_
      refine lv_iconst (v := (1 : Int32)) hx hb d_law_498 (by decide) ?_
      refine lv_iadd hx hb d_law_499 ?_
      refine va_sld hx hb hX hbl hbA hS hi1 d_law_500 ?_
      obtain ⟨r, hc, ht⟩ := ops.2.2.2.2.2.2.2.2.2.2.2.2.2.1 N (xs (nI I + (1 : Int32)).toNatClampNeg) mv mf mi t v f u la tv tf hR
      refine dm_callVp (wr := (tw G gt tv tf)) B [.int (xs (nI I + (1 : Int32)).toNatClampNeg)] (c_DM_variable l G g Y t h mv mf mi K (xs (nI I + (1 : Int32)).toNatClampNeg) v f u la r hY hk hc) k_715 k_716 k_717 k_1 k_718 hd_DM_variable rfl ⟨by decide, by decide⟩ (((awp G g Y t K v f u la)).length + 50) (aw_tl rfl) rfl hP hD hS List.perm_append_comm hl.1 (rest := []) rfl (Nat.le_of_ble_eq_true rfl) d_law_501 ⟨by show cc + 0 ≤ 600000; omega, by show ss + 0 ≤ 7302250; omega⟩ (fun ov w' H locs hq hP hD hS => ?_)
      obtain ⟨rfl, rfl⟩ := hq
      have hP : va_P G.1 dm_cl ((aw G g Y t (mw G g h mv mf mi) K v f u la) ++ (tw G gt tv tf)) H := dm_pP List.perm_append_comm hP
      have hD : va_D A ((aw G g Y t (mw G g h mv mf mi) K v f u la) ++ (tw G gt tv tf)) := dm_pD List.perm_append_comm hD
      refine W.eq (g2 := F0 m 504 ls [.int r]) rfl ?_
      refine lv_aload_n hx hb d_law_504 rfl (lv_at hl 2 rfl) ?_
      refine lv_aload_n hx hb d_law_505 rfl (lv_at hl 0 rfl) ?_
      refine lv_iload_n hx hb d_law_506 rfl (lv_at hl 3 rfl) ?_
      refine lv_iconst (v := (1 : Int32)) hx hb d_law_507 (by decide) ?_
      refine lv_iadd hx hb d_law_508 ?_
      refine va_sld hx hb hX hbl hbA hS hi1 d_law_509 ?_
      refine dm_callVp (wr := (aw G g Y t (mw G g h mv mf mi) K v f u la)) B [.int (xs (nI I + (1 : Int32)).toNatClampNeg)] (c_Mo_variable l G gt (xs (nI I + (1 : Int32)).toNatClampNeg) tv tf r ht) k_1013 k_1014 k_1015 k_14 k_1016 hd_Mo_variable rfl ⟨by decide, by decide⟩ 0 rfl rfl hP hD hS (List.Perm.refl _) hl.1 (rest := [.int r]) rfl (Nat.le_of_ble_eq_true rfl) d_law_510 ⟨by show cc + 0 ≤ 600000; omega, by show ss + 0 ≤ 7302250; omega⟩ (fun ov w' H locs hq hP hD hS => ?_)
      obtain ⟨rfl, rfl⟩ := hq
      have hP : va_P G.1 dm_cl ((aw G g Y t (mw G g h mv mf mi) K v f u la) ++ (tw G gt tv tf)) H := hP
      have hD : va_D A ((aw G g Y t (mw G g h mv mf mi) K v f u la) ++ (tw G gt tv tf)) := hD
      refine W.eq (g2 := F0 m 513 ls [.int r, .int r]) rfl ?_
      refine lv_icmp_eq (tgt := 518) hx hb d_law_513 (by decide) (fun _ => ?_) (fun h => absurd rfl h)
      refine W.widen (k := cc + 80) (n := ss + 4200) (by show cc ≤ cc + 80; omega) (by show ss ≤ ss + 4200; omega) ?_
      exact K518 (cc + 80) (ss + 4200) H locs h mv mf mi Y t K v f u la tv tf (by omega) (by omega) (ops.2.2.2.2.2.2.2.2.2.2.2.2.2.2 N (N + 2000) _ _ _ _ _ _ _ _ _ _ (by omega) hR) hY hk hP hD hS
    have e0 := lv_neT (a := 0) hc0 (by decide)
    have e1 := lv_neT (a := 1) hc1 (by decide)
    have e2 := lv_neT (a := 2) hc2 (by decide)
    have e3 := lv_neT (a := 3) hc3 (by decide)
    have e4 := lv_neT (a := 4) hc4 (by decide)
    have e5 := lv_neT (a := 5) hc5 (by decide)
    have e6 := lv_neT (a := 6) hc6 (by decide)
    have e7 := lv_neT (a := 7) hc7 (by decide)
    have e8 := lv_neT (a := 8) hc8 (by decide)
    have e9 := lv_neT (a := 9) hc9 (by decide)
    have e10 := lv_neT (a := 10) hc10 (by decide)
    have e11 := lv_neT (a := 11) hc11 (by decide)
    have e12 := lv_neT (a := 12) hc12 (by decide)
    have e13 := lv_neT (a := 13) hc13 (by decide)
    refine lv_tableOut (tgt := 518) hx hb d_law_33 (by omega) (by decide) ?_
    refine W.widen (k := cc + 80) (n := ss + 4200) (by show cc ≤ cc + 80; omega) (by show ss ≤ ss + 4200; omega) ?_
    exact K518 (cc + 80) (ss + 4200) H locs h mv mf mi Y t K v f u la tv tf (by omega) (by omega) (ops.2.2.2.2.2.2.2.2.2.2.2.2.2.2 N (N + 2000) _ _ _ _ _ _ _ _ _ _ (by omega) hR) hY hk hP hD hS
