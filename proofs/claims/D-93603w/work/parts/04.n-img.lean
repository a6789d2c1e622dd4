set_option maxRecDepth 100000
/-! ShellBeach$Image -/
def RX19 : String := "ShellBeach$Image"
def TX19 : u_T := fun k => match k with
  | 0 => ("ShellBeach$Image", "shellsWere", "I", true)
  | 1 => ("ShellBeach$Image", "crabsWere", "I", true)
  | 2 => ("ShellBeach$Image", "tickWas", "I", true)
  | 3 => ("ShellBeach$Image", "moveWas", "I", true)
  | 4 => ("ShellBeach$Image", "growWas", "I", true)
  | 5 => ("ShellBeach$Image", "exchangedWere", "[I", true)
  | 6 => ("ShellBeach$Image", "shellRow", "[I", true)
  | 7 => ("ShellBeach$Image", "crabRow", "[I", true)
  | 8 => ("ShellBeach$Image", "habitsWere", "[LShellBeach$Habit;", true)
  | _ => ("ShellBeach$Image", "this$0", "LShellBeach;", true)
def tyX19 : Nat → FieldType := fun k => match k with
  | 0 => .int
  | 1 => .int
  | 2 => .int
  | 3 => .int
  | 4 => .int
  | 5 => .array .int
  | 6 => .array .int
  | 7 => .array .int
  | 8 => .array (.object "ShellBeach$Habit")
  | _ => .object "ShellBeach"
abbrev wsX190 : List Cond := u_ws RX19 TX19 10
theorem nmX19 : ∀ a, a < 10 → ∀ b, b < 10 → a ≠ b → (TX19 a).2.1 ≠ (TX19 b).2.1 := by decide +kernel
theorem tyX19_ok : ∀ k, k < 10 → parseFieldDescriptor (TX19 k).2.2.1 = some (tyX19 k) := by decide +kernel
abbrev cX19_init : ByteArray := prog_10_method_1_code
def yX19_init : MethodName := ⟨RX19, "<init>", "(LShellBeach;)V"⟩
theorem dX19_init_0 : decode cX19_init 0 = .ok (.aload_n 0, 1) := by decide +kernel
theorem dX19_init_1 : decode cX19_init 1 = .ok (.aload_n 1, 1) := by decide +kernel
theorem dX19_init_2 : decode cX19_init 2 = .ok (.putfield 3, 3) := by decide +kernel
theorem dX19_init_5 : decode cX19_init 5 = .ok (.aload_n 0, 1) := by decide +kernel
theorem dX19_init_6 : decode cX19_init 6 = .ok (.invokespecial 9, 3) := by decide +kernel
theorem dX19_init_9 : decode cX19_init 9 = .ok (.aload_n 0, 1) := by decide +kernel
theorem dX19_init_10 : decode cX19_init 10 = .ok (.aload_n 0, 1) := by decide +kernel
theorem dX19_init_11 : decode cX19_init 11 = .ok (.getfield 3, 3) := by decide +kernel
theorem dX19_init_14 : decode cX19_init 14 = .ok (.getfield 15, 3) := by decide +kernel
theorem dX19_init_17 : decode cX19_init 17 = .ok (.invokevirtual 19, 3) := by decide +kernel
theorem dX19_init_20 : decode cX19_init 20 = .ok (.putfield 25, 3) := by decide +kernel
theorem dX19_init_23 : decode cX19_init 23 = .ok (.aload_n 0, 1) := by decide +kernel
theorem dX19_init_24 : decode cX19_init 24 = .ok (.aload_n 0, 1) := by decide +kernel
theorem dX19_init_25 : decode cX19_init 25 = .ok (.getfield 3, 3) := by decide +kernel
theorem dX19_init_28 : decode cX19_init 28 = .ok (.getfield 29, 3) := by decide +kernel
theorem dX19_init_31 : decode cX19_init 31 = .ok (.invokevirtual 19, 3) := by decide +kernel
theorem dX19_init_34 : decode cX19_init 34 = .ok (.putfield 32, 3) := by decide +kernel
theorem dX19_init_37 : decode cX19_init 37 = .ok (.aload_n 0, 1) := by decide +kernel
theorem dX19_init_38 : decode cX19_init 38 = .ok (.aload_n 0, 1) := by decide +kernel
theorem dX19_init_39 : decode cX19_init 39 = .ok (.getfield 3, 3) := by decide +kernel
theorem dX19_init_42 : decode cX19_init 42 = .ok (.getfield 35, 3) := by decide +kernel
theorem dX19_init_45 : decode cX19_init 45 = .ok (.putfield 38, 3) := by decide +kernel
theorem dX19_init_48 : decode cX19_init 48 = .ok (.aload_n 0, 1) := by decide +kernel
theorem dX19_init_49 : decode cX19_init 49 = .ok (.aload_n 0, 1) := by decide +kernel
theorem dX19_init_50 : decode cX19_init 50 = .ok (.getfield 3, 3) := by decide +kernel
theorem dX19_init_53 : decode cX19_init 53 = .ok (.getfield 41, 3) := by decide +kernel
theorem dX19_init_56 : decode cX19_init 56 = .ok (.putfield 44, 3) := by decide +kernel
theorem dX19_init_59 : decode cX19_init 59 = .ok (.aload_n 0, 1) := by decide +kernel
theorem dX19_init_60 : decode cX19_init 60 = .ok (.aload_n 0, 1) := by decide +kernel
theorem dX19_init_61 : decode cX19_init 61 = .ok (.getfield 3, 3) := by decide +kernel
theorem dX19_init_64 : decode cX19_init 64 = .ok (.getfield 47, 3) := by decide +kernel
theorem dX19_init_67 : decode cX19_init 67 = .ok (.putfield 50, 3) := by decide +kernel
theorem dX19_init_70 : decode cX19_init 70 = .ok (.aload_n 0, 1) := by decide +kernel
theorem dX19_init_71 : decode cX19_init 71 = .ok (.aload_n 0, 1) := by decide +kernel
theorem dX19_init_72 : decode cX19_init 72 = .ok (.getfield 3, 3) := by decide +kernel
theorem dX19_init_75 : decode cX19_init 75 = .ok (.getfield 53, 3) := by decide +kernel
theorem dX19_init_78 : decode cX19_init 78 = .ok (.invokevirtual 57, 3) := by decide +kernel
theorem dX19_init_81 : decode cX19_init 81 = .ok (.checkcast 58, 3) := by decide +kernel
theorem dX19_init_84 : decode cX19_init 84 = .ok (.putfield 62, 3) := by decide +kernel
theorem dX19_init_87 : decode cX19_init 87 = .ok (.aload_n 0, 1) := by decide +kernel
theorem dX19_init_88 : decode cX19_init 88 = .ok (.iconst 3, 1) := by decide +kernel
theorem dX19_init_89 : decode cX19_init 89 = .ok (.aload_n 0, 1) := by decide +kernel
theorem dX19_init_90 : decode cX19_init 90 = .ok (.getfield 3, 3) := by decide +kernel
theorem dX19_init_93 : decode cX19_init 93 = .ok (.getfield 15, 3) := by decide +kernel
theorem dX19_init_96 : decode cX19_init 96 = .ok (.invokevirtual 19, 3) := by decide +kernel
theorem dX19_init_99 : decode cX19_init 99 = .ok (.imul, 1) := by decide +kernel
theorem dX19_init_100 : decode cX19_init 100 = .ok (.newarray .int, 2) := by decide +kernel
theorem dX19_init_102 : decode cX19_init 102 = .ok (.putfield 65, 3) := by decide +kernel
theorem dX19_init_105 : decode cX19_init 105 = .ok (.aload_n 0, 1) := by decide +kernel
theorem dX19_init_106 : decode cX19_init 106 = .ok (.bipush 7, 2) := by decide +kernel
theorem dX19_init_108 : decode cX19_init 108 = .ok (.aload_n 0, 1) := by decide +kernel
theorem dX19_init_109 : decode cX19_init 109 = .ok (.getfield 3, 3) := by decide +kernel
theorem dX19_init_112 : decode cX19_init 112 = .ok (.getfield 29, 3) := by decide +kernel
theorem dX19_init_115 : decode cX19_init 115 = .ok (.invokevirtual 19, 3) := by decide +kernel
theorem dX19_init_118 : decode cX19_init 118 = .ok (.imul, 1) := by decide +kernel
theorem dX19_init_119 : decode cX19_init 119 = .ok (.newarray .int, 2) := by decide +kernel
theorem dX19_init_121 : decode cX19_init 121 = .ok (.putfield 68, 3) := by decide +kernel
theorem dX19_init_124 : decode cX19_init 124 = .ok (.aload_n 0, 1) := by decide +kernel
theorem dX19_init_125 : decode cX19_init 125 = .ok (.aload_n 0, 1) := by decide +kernel
theorem dX19_init_126 : decode cX19_init 126 = .ok (.getfield 3, 3) := by decide +kernel
theorem dX19_init_129 : decode cX19_init 129 = .ok (.getfield 29, 3) := by decide +kernel
theorem dX19_init_132 : decode cX19_init 132 = .ok (.invokevirtual 19, 3) := by decide +kernel
theorem dX19_init_135 : decode cX19_init 135 = .ok (.anewarray 71, 3) := by decide +kernel
theorem dX19_init_138 : decode cX19_init 138 = .ok (.putfield 73, 3) := by decide +kernel
theorem dX19_init_141 : decode cX19_init 141 = .ok (.iconst 0, 1) := by decide +kernel
theorem dX19_init_142 : decode cX19_init 142 = .ok (.istore_n 2, 1) := by decide +kernel
theorem dX19_init_143 : decode cX19_init 143 = .ok (.iload_n 2, 1) := by decide +kernel
theorem dX19_init_144 : decode cX19_init 144 = .ok (.aload_n 0, 1) := by decide +kernel
theorem dX19_init_145 : decode cX19_init 145 = .ok (.getfield 25, 3) := by decide +kernel
theorem dX19_init_148 : decode cX19_init 148 = .ok (.if_icmp .ge 75, 3) := by decide +kernel
theorem dX19_init_151 : decode cX19_init 151 = .ok (.aload_n 1, 1) := by decide +kernel
theorem dX19_init_152 : decode cX19_init 152 = .ok (.getfield 15, 3) := by decide +kernel
theorem dX19_init_155 : decode cX19_init 155 = .ok (.iload_n 2, 1) := by decide +kernel
theorem dX19_init_156 : decode cX19_init 156 = .ok (.invokevirtual 77, 3) := by decide +kernel
theorem dX19_init_159 : decode cX19_init 159 = .ok (.checkcast 81, 3) := by decide +kernel
theorem dX19_init_162 : decode cX19_init 162 = .ok (.astore_n 3, 1) := by decide +kernel
theorem dX19_init_163 : decode cX19_init 163 = .ok (.aload_n 0, 1) := by decide +kernel
theorem dX19_init_164 : decode cX19_init 164 = .ok (.getfield 65, 3) := by decide +kernel
theorem dX19_init_167 : decode cX19_init 167 = .ok (.iconst 3, 1) := by decide +kernel
theorem dX19_init_168 : decode cX19_init 168 = .ok (.iload_n 2, 1) := by decide +kernel
theorem dX19_init_169 : decode cX19_init 169 = .ok (.imul, 1) := by decide +kernel
theorem dX19_init_170 : decode cX19_init 170 = .ok (.aload_n 3, 1) := by decide +kernel
theorem dX19_init_171 : decode cX19_init 171 = .ok (.getfield 83, 3) := by decide +kernel
theorem dX19_init_174 : decode cX19_init 174 = .ok (.iastore, 1) := by decide +kernel
theorem dX19_init_175 : decode cX19_init 175 = .ok (.aload_n 0, 1) := by decide +kernel
theorem dX19_init_176 : decode cX19_init 176 = .ok (.getfield 65, 3) := by decide +kernel
theorem dX19_init_179 : decode cX19_init 179 = .ok (.iconst 3, 1) := by decide +kernel
theorem dX19_init_180 : decode cX19_init 180 = .ok (.iload_n 2, 1) := by decide +kernel
theorem dX19_init_181 : decode cX19_init 181 = .ok (.imul, 1) := by decide +kernel
theorem dX19_init_182 : decode cX19_init 182 = .ok (.iconst 1, 1) := by decide +kernel
theorem dX19_init_183 : decode cX19_init 183 = .ok (.iadd, 1) := by decide +kernel
theorem dX19_init_184 : decode cX19_init 184 = .ok (.aload_n 3, 1) := by decide +kernel
theorem dX19_init_185 : decode cX19_init 185 = .ok (.getfield 86, 3) := by decide +kernel
theorem dX19_init_188 : decode cX19_init 188 = .ok (.iastore, 1) := by decide +kernel
theorem dX19_init_189 : decode cX19_init 189 = .ok (.aload_n 0, 1) := by decide +kernel
theorem dX19_init_190 : decode cX19_init 190 = .ok (.getfield 65, 3) := by decide +kernel
theorem dX19_init_193 : decode cX19_init 193 = .ok (.iconst 3, 1) := by decide +kernel
theorem dX19_init_194 : decode cX19_init 194 = .ok (.iload_n 2, 1) := by decide +kernel
theorem dX19_init_195 : decode cX19_init 195 = .ok (.imul, 1) := by decide +kernel
theorem dX19_init_196 : decode cX19_init 196 = .ok (.iconst 2, 1) := by decide +kernel
theorem dX19_init_197 : decode cX19_init 197 = .ok (.iadd, 1) := by decide +kernel
theorem dX19_init_198 : decode cX19_init 198 = .ok (.aload_n 3, 1) := by decide +kernel
theorem dX19_init_199 : decode cX19_init 199 = .ok (.getfield 89, 3) := by decide +kernel
theorem dX19_init_202 : decode cX19_init 202 = .ok (.ifnonnull 7, 3) := by decide +kernel
theorem dX19_init_205 : decode cX19_init 205 = .ok (.iconst (-1), 1) := by decide +kernel
theorem dX19_init_206 : decode cX19_init 206 = .ok (.goto 10, 3) := by decide +kernel
theorem dX19_init_209 : decode cX19_init 209 = .ok (.aload_n 3, 1) := by decide +kernel
theorem dX19_init_210 : decode cX19_init 210 = .ok (.getfield 89, 3) := by decide +kernel
theorem dX19_init_213 : decode cX19_init 213 = .ok (.getfield 93, 3) := by decide +kernel
theorem dX19_init_216 : decode cX19_init 216 = .ok (.iastore, 1) := by decide +kernel
theorem dX19_init_217 : decode cX19_init 217 = .ok (.iinc 2 1, 3) := by decide +kernel
theorem dX19_init_220 : decode cX19_init 220 = .ok (.goto (-77), 3) := by decide +kernel
theorem dX19_init_223 : decode cX19_init 223 = .ok (.iconst 0, 1) := by decide +kernel
theorem dX19_init_224 : decode cX19_init 224 = .ok (.istore_n 2, 1) := by decide +kernel
theorem dX19_init_225 : decode cX19_init 225 = .ok (.iload_n 2, 1) := by decide +kernel
theorem dX19_init_226 : decode cX19_init 226 = .ok (.aload_n 0, 1) := by decide +kernel
theorem dX19_init_227 : decode cX19_init 227 = .ok (.getfield 32, 3) := by decide +kernel
theorem dX19_init_230 : decode cX19_init 230 = .ok (.if_icmp .ge 197, 3) := by decide +kernel
theorem dX19_init_233 : decode cX19_init 233 = .ok (.aload_n 1, 1) := by decide +kernel
theorem dX19_init_234 : decode cX19_init 234 = .ok (.getfield 29, 3) := by decide +kernel
theorem dX19_init_237 : decode cX19_init 237 = .ok (.iload_n 2, 1) := by decide +kernel
theorem dX19_init_238 : decode cX19_init 238 = .ok (.invokevirtual 77, 3) := by decide +kernel
theorem dX19_init_241 : decode cX19_init 241 = .ok (.checkcast 94, 3) := by decide +kernel
theorem dX19_init_244 : decode cX19_init 244 = .ok (.astore_n 3, 1) := by decide +kernel
theorem dX19_init_245 : decode cX19_init 245 = .ok (.aload_n 0, 1) := by decide +kernel
theorem dX19_init_246 : decode cX19_init 246 = .ok (.getfield 68, 3) := by decide +kernel
theorem dX19_init_249 : decode cX19_init 249 = .ok (.bipush 7, 2) := by decide +kernel
theorem dX19_init_251 : decode cX19_init 251 = .ok (.iload_n 2, 1) := by decide +kernel
theorem dX19_init_252 : decode cX19_init 252 = .ok (.imul, 1) := by decide +kernel
theorem dX19_init_253 : decode cX19_init 253 = .ok (.aload_n 3, 1) := by decide +kernel
theorem dX19_init_254 : decode cX19_init 254 = .ok (.getfield 98, 3) := by decide +kernel
theorem dX19_init_257 : decode cX19_init 257 = .ok (.iastore, 1) := by decide +kernel
theorem dX19_init_258 : decode cX19_init 258 = .ok (.aload_n 0, 1) := by decide +kernel
theorem dX19_init_259 : decode cX19_init 259 = .ok (.getfield 68, 3) := by decide +kernel
theorem dX19_init_262 : decode cX19_init 262 = .ok (.bipush 7, 2) := by decide +kernel
theorem dX19_init_264 : decode cX19_init 264 = .ok (.iload_n 2, 1) := by decide +kernel
theorem dX19_init_265 : decode cX19_init 265 = .ok (.imul, 1) := by decide +kernel
theorem dX19_init_266 : decode cX19_init 266 = .ok (.iconst 1, 1) := by decide +kernel
theorem dX19_init_267 : decode cX19_init 267 = .ok (.iadd, 1) := by decide +kernel
theorem dX19_init_268 : decode cX19_init 268 = .ok (.aload_n 3, 1) := by decide +kernel
theorem dX19_init_269 : decode cX19_init 269 = .ok (.getfield 99, 3) := by decide +kernel
theorem dX19_init_272 : decode cX19_init 272 = .ok (.iastore, 1) := by decide +kernel
theorem dX19_init_273 : decode cX19_init 273 = .ok (.aload_n 0, 1) := by decide +kernel
theorem dX19_init_274 : decode cX19_init 274 = .ok (.getfield 68, 3) := by decide +kernel
theorem dX19_init_277 : decode cX19_init 277 = .ok (.bipush 7, 2) := by decide +kernel
theorem dX19_init_279 : decode cX19_init 279 = .ok (.iload_n 2, 1) := by decide +kernel
theorem dX19_init_280 : decode cX19_init 280 = .ok (.imul, 1) := by decide +kernel
theorem dX19_init_281 : decode cX19_init 281 = .ok (.iconst 2, 1) := by decide +kernel
theorem dX19_init_282 : decode cX19_init 282 = .ok (.iadd, 1) := by decide +kernel
theorem dX19_init_283 : decode cX19_init 283 = .ok (.aload_n 3, 1) := by decide +kernel
theorem dX19_init_284 : decode cX19_init 284 = .ok (.getfield 101, 3) := by decide +kernel
theorem dX19_init_287 : decode cX19_init 287 = .ok (.iastore, 1) := by decide +kernel
theorem dX19_init_288 : decode cX19_init 288 = .ok (.aload_n 0, 1) := by decide +kernel
theorem dX19_init_289 : decode cX19_init 289 = .ok (.getfield 68, 3) := by decide +kernel
theorem dX19_init_292 : decode cX19_init 292 = .ok (.bipush 7, 2) := by decide +kernel
theorem dX19_init_294 : decode cX19_init 294 = .ok (.iload_n 2, 1) := by decide +kernel
theorem dX19_init_295 : decode cX19_init 295 = .ok (.imul, 1) := by decide +kernel
theorem dX19_init_296 : decode cX19_init 296 = .ok (.iconst 3, 1) := by decide +kernel
theorem dX19_init_297 : decode cX19_init 297 = .ok (.iadd, 1) := by decide +kernel
theorem dX19_init_298 : decode cX19_init 298 = .ok (.aload_n 3, 1) := by decide +kernel
theorem dX19_init_299 : decode cX19_init 299 = .ok (.getfield 104, 3) := by decide +kernel
theorem dX19_init_302 : decode cX19_init 302 = .ok (.iastore, 1) := by decide +kernel
theorem dX19_init_303 : decode cX19_init 303 = .ok (.aload_n 0, 1) := by decide +kernel
theorem dX19_init_304 : decode cX19_init 304 = .ok (.getfield 68, 3) := by decide +kernel
theorem dX19_init_307 : decode cX19_init 307 = .ok (.bipush 7, 2) := by decide +kernel
theorem dX19_init_309 : decode cX19_init 309 = .ok (.iload_n 2, 1) := by decide +kernel
theorem dX19_init_310 : decode cX19_init 310 = .ok (.imul, 1) := by decide +kernel
theorem dX19_init_311 : decode cX19_init 311 = .ok (.iconst 4, 1) := by decide +kernel
theorem dX19_init_312 : decode cX19_init 312 = .ok (.iadd, 1) := by decide +kernel
theorem dX19_init_313 : decode cX19_init 313 = .ok (.aload_n 3, 1) := by decide +kernel
theorem dX19_init_314 : decode cX19_init 314 = .ok (.getfield 107, 3) := by decide +kernel
theorem dX19_init_317 : decode cX19_init 317 = .ok (.ifnonnull 7, 3) := by decide +kernel
theorem dX19_init_320 : decode cX19_init 320 = .ok (.iconst (-1), 1) := by decide +kernel
theorem dX19_init_321 : decode cX19_init 321 = .ok (.goto 10, 3) := by decide +kernel
theorem dX19_init_324 : decode cX19_init 324 = .ok (.aload_n 3, 1) := by decide +kernel
theorem dX19_init_325 : decode cX19_init 325 = .ok (.getfield 107, 3) := by decide +kernel
theorem dX19_init_328 : decode cX19_init 328 = .ok (.getfield 93, 3) := by decide +kernel
theorem dX19_init_331 : decode cX19_init 331 = .ok (.iastore, 1) := by decide +kernel
theorem dX19_init_332 : decode cX19_init 332 = .ok (.aload_n 0, 1) := by decide +kernel
theorem dX19_init_333 : decode cX19_init 333 = .ok (.getfield 68, 3) := by decide +kernel
theorem dX19_init_336 : decode cX19_init 336 = .ok (.bipush 7, 2) := by decide +kernel
theorem dX19_init_338 : decode cX19_init 338 = .ok (.iload_n 2, 1) := by decide +kernel
theorem dX19_init_339 : decode cX19_init 339 = .ok (.imul, 1) := by decide +kernel
theorem dX19_init_340 : decode cX19_init 340 = .ok (.iconst 5, 1) := by decide +kernel
theorem dX19_init_341 : decode cX19_init 341 = .ok (.iadd, 1) := by decide +kernel
theorem dX19_init_342 : decode cX19_init 342 = .ok (.aload_n 3, 1) := by decide +kernel
theorem dX19_init_343 : decode cX19_init 343 = .ok (.getfield 110, 3) := by decide +kernel
theorem dX19_init_346 : decode cX19_init 346 = .ok (.ifnonnull 7, 3) := by decide +kernel
theorem dX19_init_349 : decode cX19_init 349 = .ok (.iconst (-1), 1) := by decide +kernel
theorem dX19_init_350 : decode cX19_init 350 = .ok (.goto 10, 3) := by decide +kernel
theorem dX19_init_353 : decode cX19_init 353 = .ok (.aload_n 3, 1) := by decide +kernel
theorem dX19_init_354 : decode cX19_init 354 = .ok (.getfield 110, 3) := by decide +kernel
theorem dX19_init_357 : decode cX19_init 357 = .ok (.getfield 114, 3) := by decide +kernel
theorem dX19_init_360 : decode cX19_init 360 = .ok (.iastore, 1) := by decide +kernel
theorem dX19_init_361 : decode cX19_init 361 = .ok (.aload_n 0, 1) := by decide +kernel
theorem dX19_init_362 : decode cX19_init 362 = .ok (.getfield 68, 3) := by decide +kernel
theorem dX19_init_365 : decode cX19_init 365 = .ok (.bipush 7, 2) := by decide +kernel
theorem dX19_init_367 : decode cX19_init 367 = .ok (.iload_n 2, 1) := by decide +kernel
theorem dX19_init_368 : decode cX19_init 368 = .ok (.imul, 1) := by decide +kernel
theorem dX19_init_369 : decode cX19_init 369 = .ok (.bipush 6, 2) := by decide +kernel
theorem dX19_init_371 : decode cX19_init 371 = .ok (.iadd, 1) := by decide +kernel
theorem dX19_init_372 : decode cX19_init 372 = .ok (.aload_n 3, 1) := by decide +kernel
theorem dX19_init_373 : decode cX19_init 373 = .ok (.getfield 115, 3) := by decide +kernel
theorem dX19_init_376 : decode cX19_init 376 = .ok (.ifCond .eq 7, 3) := by decide +kernel
theorem dX19_init_379 : decode cX19_init 379 = .ok (.iconst 1, 1) := by decide +kernel
theorem dX19_init_380 : decode cX19_init 380 = .ok (.goto 4, 3) := by decide +kernel
theorem dX19_init_383 : decode cX19_init 383 = .ok (.iconst 0, 1) := by decide +kernel
theorem dX19_init_384 : decode cX19_init 384 = .ok (.aload_n 3, 1) := by decide +kernel
theorem dX19_init_385 : decode cX19_init 385 = .ok (.getfield 119, 3) := by decide +kernel
theorem dX19_init_388 : decode cX19_init 388 = .ok (.ifCond .eq 7, 3) := by decide +kernel
theorem dX19_init_391 : decode cX19_init 391 = .ok (.iconst 2, 1) := by decide +kernel
theorem dX19_init_392 : decode cX19_init 392 = .ok (.goto 4, 3) := by decide +kernel
theorem dX19_init_395 : decode cX19_init 395 = .ok (.iconst 0, 1) := by decide +kernel
theorem dX19_init_396 : decode cX19_init 396 = .ok (.iadd, 1) := by decide +kernel
theorem dX19_init_397 : decode cX19_init 397 = .ok (.aload_n 3, 1) := by decide +kernel
theorem dX19_init_398 : decode cX19_init 398 = .ok (.getfield 122, 3) := by decide +kernel
theorem dX19_init_401 : decode cX19_init 401 = .ok (.ifCond .eq 7, 3) := by decide +kernel
theorem dX19_init_404 : decode cX19_init 404 = .ok (.iconst 4, 1) := by decide +kernel
theorem dX19_init_405 : decode cX19_init 405 = .ok (.goto 4, 3) := by decide +kernel
theorem dX19_init_408 : decode cX19_init 408 = .ok (.iconst 0, 1) := by decide +kernel
theorem dX19_init_409 : decode cX19_init 409 = .ok (.iadd, 1) := by decide +kernel
theorem dX19_init_410 : decode cX19_init 410 = .ok (.iastore, 1) := by decide +kernel
theorem dX19_init_411 : decode cX19_init 411 = .ok (.aload_n 0, 1) := by decide +kernel
theorem dX19_init_412 : decode cX19_init 412 = .ok (.getfield 73, 3) := by decide +kernel
theorem dX19_init_415 : decode cX19_init 415 = .ok (.iload_n 2, 1) := by decide +kernel
theorem dX19_init_416 : decode cX19_init 416 = .ok (.aload_n 3, 1) := by decide +kernel
theorem dX19_init_417 : decode cX19_init 417 = .ok (.getfield 125, 3) := by decide +kernel
theorem dX19_init_420 : decode cX19_init 420 = .ok (.aastore, 1) := by decide +kernel
theorem dX19_init_421 : decode cX19_init 421 = .ok (.iinc 2 1, 3) := by decide +kernel
theorem dX19_init_424 : decode cX19_init 424 = .ok (.goto (-199), 3) := by decide +kernel
theorem dX19_init_427 : decode cX19_init 427 = .ok (.return_, 1) := by decide +kernel
abbrev cX19_putBack : ByteArray := prog_10_method_2_code
def yX19_putBack : MethodName := ⟨RX19, "putBack", "()V"⟩
theorem dX19_putBack_0 : decode cX19_putBack 0 = .ok (.aload_n 0, 1) := by decide +kernel
theorem dX19_putBack_1 : decode cX19_putBack 1 = .ok (.getfield 3, 3) := by decide +kernel
theorem dX19_putBack_4 : decode cX19_putBack 4 = .ok (.getfield 29, 3) := by decide +kernel
theorem dX19_putBack_7 : decode cX19_putBack 7 = .ok (.invokevirtual 19, 3) := by decide +kernel
theorem dX19_putBack_10 : decode cX19_putBack 10 = .ok (.aload_n 0, 1) := by decide +kernel
theorem dX19_putBack_11 : decode cX19_putBack 11 = .ok (.getfield 32, 3) := by decide +kernel
theorem dX19_putBack_14 : decode cX19_putBack 14 = .ok (.if_icmp .le 29, 3) := by decide +kernel
theorem dX19_putBack_17 : decode cX19_putBack 17 = .ok (.aload_n 0, 1) := by decide +kernel
theorem dX19_putBack_18 : decode cX19_putBack 18 = .ok (.getfield 3, 3) := by decide +kernel
theorem dX19_putBack_21 : decode cX19_putBack 21 = .ok (.getfield 29, 3) := by decide +kernel
theorem dX19_putBack_24 : decode cX19_putBack 24 = .ok (.aload_n 0, 1) := by decide +kernel
theorem dX19_putBack_25 : decode cX19_putBack 25 = .ok (.getfield 3, 3) := by decide +kernel
theorem dX19_putBack_28 : decode cX19_putBack 28 = .ok (.getfield 29, 3) := by decide +kernel
theorem dX19_putBack_31 : decode cX19_putBack 31 = .ok (.invokevirtual 19, 3) := by decide +kernel
theorem dX19_putBack_34 : decode cX19_putBack 34 = .ok (.iconst 1, 1) := by decide +kernel
theorem dX19_putBack_35 : decode cX19_putBack 35 = .ok (.isub, 1) := by decide +kernel
theorem dX19_putBack_36 : decode cX19_putBack 36 = .ok (.invokevirtual 129, 3) := by decide +kernel
theorem dX19_putBack_39 : decode cX19_putBack 39 = .ok (.pop, 1) := by decide +kernel
theorem dX19_putBack_40 : decode cX19_putBack 40 = .ok (.goto (-40), 3) := by decide +kernel
theorem dX19_putBack_43 : decode cX19_putBack 43 = .ok (.aload_n 0, 1) := by decide +kernel
theorem dX19_putBack_44 : decode cX19_putBack 44 = .ok (.getfield 3, 3) := by decide +kernel
theorem dX19_putBack_47 : decode cX19_putBack 47 = .ok (.getfield 15, 3) := by decide +kernel
theorem dX19_putBack_50 : decode cX19_putBack 50 = .ok (.invokevirtual 19, 3) := by decide +kernel
theorem dX19_putBack_53 : decode cX19_putBack 53 = .ok (.aload_n 0, 1) := by decide +kernel
theorem dX19_putBack_54 : decode cX19_putBack 54 = .ok (.getfield 25, 3) := by decide +kernel
theorem dX19_putBack_57 : decode cX19_putBack 57 = .ok (.if_icmp .le 29, 3) := by decide +kernel
theorem dX19_putBack_60 : decode cX19_putBack 60 = .ok (.aload_n 0, 1) := by decide +kernel
theorem dX19_putBack_61 : decode cX19_putBack 61 = .ok (.getfield 3, 3) := by decide +kernel
theorem dX19_putBack_64 : decode cX19_putBack 64 = .ok (.getfield 15, 3) := by decide +kernel
theorem dX19_putBack_67 : decode cX19_putBack 67 = .ok (.aload_n 0, 1) := by decide +kernel
theorem dX19_putBack_68 : decode cX19_putBack 68 = .ok (.getfield 3, 3) := by decide +kernel
theorem dX19_putBack_71 : decode cX19_putBack 71 = .ok (.getfield 15, 3) := by decide +kernel
theorem dX19_putBack_74 : decode cX19_putBack 74 = .ok (.invokevirtual 19, 3) := by decide +kernel
theorem dX19_putBack_77 : decode cX19_putBack 77 = .ok (.iconst 1, 1) := by decide +kernel
theorem dX19_putBack_78 : decode cX19_putBack 78 = .ok (.isub, 1) := by decide +kernel
theorem dX19_putBack_79 : decode cX19_putBack 79 = .ok (.invokevirtual 129, 3) := by decide +kernel
theorem dX19_putBack_82 : decode cX19_putBack 82 = .ok (.pop, 1) := by decide +kernel
theorem dX19_putBack_83 : decode cX19_putBack 83 = .ok (.goto (-40), 3) := by decide +kernel
theorem dX19_putBack_86 : decode cX19_putBack 86 = .ok (.iconst 0, 1) := by decide +kernel
theorem dX19_putBack_87 : decode cX19_putBack 87 = .ok (.istore_n 1, 1) := by decide +kernel
theorem dX19_putBack_88 : decode cX19_putBack 88 = .ok (.iload_n 1, 1) := by decide +kernel
theorem dX19_putBack_89 : decode cX19_putBack 89 = .ok (.aload_n 0, 1) := by decide +kernel
theorem dX19_putBack_90 : decode cX19_putBack 90 = .ok (.getfield 25, 3) := by decide +kernel
theorem dX19_putBack_93 : decode cX19_putBack 93 = .ok (.if_icmp .ge 78, 3) := by decide +kernel
theorem dX19_putBack_96 : decode cX19_putBack 96 = .ok (.aload_n 0, 1) := by decide +kernel
theorem dX19_putBack_97 : decode cX19_putBack 97 = .ok (.getfield 3, 3) := by decide +kernel
theorem dX19_putBack_100 : decode cX19_putBack 100 = .ok (.getfield 15, 3) := by decide +kernel
theorem dX19_putBack_103 : decode cX19_putBack 103 = .ok (.iload_n 1, 1) := by decide +kernel
theorem dX19_putBack_104 : decode cX19_putBack 104 = .ok (.invokevirtual 77, 3) := by decide +kernel
theorem dX19_putBack_107 : decode cX19_putBack 107 = .ok (.checkcast 81, 3) := by decide +kernel
theorem dX19_putBack_110 : decode cX19_putBack 110 = .ok (.aload_n 0, 1) := by decide +kernel
theorem dX19_putBack_111 : decode cX19_putBack 111 = .ok (.getfield 65, 3) := by decide +kernel
theorem dX19_putBack_114 : decode cX19_putBack 114 = .ok (.iconst 3, 1) := by decide +kernel
theorem dX19_putBack_115 : decode cX19_putBack 115 = .ok (.iload_n 1, 1) := by decide +kernel
theorem dX19_putBack_116 : decode cX19_putBack 116 = .ok (.imul, 1) := by decide +kernel
theorem dX19_putBack_117 : decode cX19_putBack 117 = .ok (.iaload, 1) := by decide +kernel
theorem dX19_putBack_118 : decode cX19_putBack 118 = .ok (.putfield 83, 3) := by decide +kernel
theorem dX19_putBack_121 : decode cX19_putBack 121 = .ok (.aload_n 0, 1) := by decide +kernel
theorem dX19_putBack_122 : decode cX19_putBack 122 = .ok (.getfield 3, 3) := by decide +kernel
theorem dX19_putBack_125 : decode cX19_putBack 125 = .ok (.getfield 15, 3) := by decide +kernel
theorem dX19_putBack_128 : decode cX19_putBack 128 = .ok (.iload_n 1, 1) := by decide +kernel
theorem dX19_putBack_129 : decode cX19_putBack 129 = .ok (.invokevirtual 77, 3) := by decide +kernel
theorem dX19_putBack_132 : decode cX19_putBack 132 = .ok (.checkcast 81, 3) := by decide +kernel
theorem dX19_putBack_135 : decode cX19_putBack 135 = .ok (.aload_n 0, 1) := by decide +kernel
theorem dX19_putBack_136 : decode cX19_putBack 136 = .ok (.getfield 65, 3) := by decide +kernel
theorem dX19_putBack_139 : decode cX19_putBack 139 = .ok (.iconst 3, 1) := by decide +kernel
theorem dX19_putBack_140 : decode cX19_putBack 140 = .ok (.iload_n 1, 1) := by decide +kernel
theorem dX19_putBack_141 : decode cX19_putBack 141 = .ok (.imul, 1) := by decide +kernel
theorem dX19_putBack_142 : decode cX19_putBack 142 = .ok (.iconst 1, 1) := by decide +kernel
theorem dX19_putBack_143 : decode cX19_putBack 143 = .ok (.iadd, 1) := by decide +kernel
theorem dX19_putBack_144 : decode cX19_putBack 144 = .ok (.iaload, 1) := by decide +kernel
theorem dX19_putBack_145 : decode cX19_putBack 145 = .ok (.aload_n 0, 1) := by decide +kernel
theorem dX19_putBack_146 : decode cX19_putBack 146 = .ok (.getfield 3, 3) := by decide +kernel
theorem dX19_putBack_149 : decode cX19_putBack 149 = .ok (.aload_n 0, 1) := by decide +kernel
theorem dX19_putBack_150 : decode cX19_putBack 150 = .ok (.getfield 65, 3) := by decide +kernel
theorem dX19_putBack_153 : decode cX19_putBack 153 = .ok (.iconst 3, 1) := by decide +kernel
theorem dX19_putBack_154 : decode cX19_putBack 154 = .ok (.iload_n 1, 1) := by decide +kernel
theorem dX19_putBack_155 : decode cX19_putBack 155 = .ok (.imul, 1) := by decide +kernel
theorem dX19_putBack_156 : decode cX19_putBack 156 = .ok (.iconst 2, 1) := by decide +kernel
theorem dX19_putBack_157 : decode cX19_putBack 157 = .ok (.iadd, 1) := by decide +kernel
theorem dX19_putBack_158 : decode cX19_putBack 158 = .ok (.iaload, 1) := by decide +kernel
theorem dX19_putBack_159 : decode cX19_putBack 159 = .ok (.invokevirtual 132, 3) := by decide +kernel
theorem dX19_putBack_162 : decode cX19_putBack 162 = .ok (.invokevirtual 136, 3) := by decide +kernel
theorem dX19_putBack_165 : decode cX19_putBack 165 = .ok (.iinc 1 1, 3) := by decide +kernel
theorem dX19_putBack_168 : decode cX19_putBack 168 = .ok (.goto (-80), 3) := by decide +kernel
theorem dX19_putBack_171 : decode cX19_putBack 171 = .ok (.iconst 0, 1) := by decide +kernel
theorem dX19_putBack_172 : decode cX19_putBack 172 = .ok (.istore_n 1, 1) := by decide +kernel
theorem dX19_putBack_173 : decode cX19_putBack 173 = .ok (.iload_n 1, 1) := by decide +kernel
theorem dX19_putBack_174 : decode cX19_putBack 174 = .ok (.aload_n 0, 1) := by decide +kernel
theorem dX19_putBack_175 : decode cX19_putBack 175 = .ok (.getfield 32, 3) := by decide +kernel
theorem dX19_putBack_178 : decode cX19_putBack 178 = .ok (.if_icmp .ge 217, 3) := by decide +kernel
theorem dX19_putBack_181 : decode cX19_putBack 181 = .ok (.aload_n 0, 1) := by decide +kernel
theorem dX19_putBack_182 : decode cX19_putBack 182 = .ok (.getfield 3, 3) := by decide +kernel
theorem dX19_putBack_185 : decode cX19_putBack 185 = .ok (.getfield 29, 3) := by decide +kernel
theorem dX19_putBack_188 : decode cX19_putBack 188 = .ok (.iload_n 1, 1) := by decide +kernel
theorem dX19_putBack_189 : decode cX19_putBack 189 = .ok (.invokevirtual 77, 3) := by decide +kernel
theorem dX19_putBack_192 : decode cX19_putBack 192 = .ok (.checkcast 94, 3) := by decide +kernel
theorem dX19_putBack_195 : decode cX19_putBack 195 = .ok (.astore_n 2, 1) := by decide +kernel
theorem dX19_putBack_196 : decode cX19_putBack 196 = .ok (.aload_n 2, 1) := by decide +kernel
theorem dX19_putBack_197 : decode cX19_putBack 197 = .ok (.aload_n 0, 1) := by decide +kernel
theorem dX19_putBack_198 : decode cX19_putBack 198 = .ok (.getfield 68, 3) := by decide +kernel
theorem dX19_putBack_201 : decode cX19_putBack 201 = .ok (.bipush 7, 2) := by decide +kernel
theorem dX19_putBack_203 : decode cX19_putBack 203 = .ok (.iload_n 1, 1) := by decide +kernel
theorem dX19_putBack_204 : decode cX19_putBack 204 = .ok (.imul, 1) := by decide +kernel
theorem dX19_putBack_205 : decode cX19_putBack 205 = .ok (.iaload, 1) := by decide +kernel
theorem dX19_putBack_206 : decode cX19_putBack 206 = .ok (.putfield 98, 3) := by decide +kernel
theorem dX19_putBack_209 : decode cX19_putBack 209 = .ok (.aload_n 2, 1) := by decide +kernel
theorem dX19_putBack_210 : decode cX19_putBack 210 = .ok (.aload_n 0, 1) := by decide +kernel
theorem dX19_putBack_211 : decode cX19_putBack 211 = .ok (.getfield 68, 3) := by decide +kernel
theorem dX19_putBack_214 : decode cX19_putBack 214 = .ok (.bipush 7, 2) := by decide +kernel
theorem dX19_putBack_216 : decode cX19_putBack 216 = .ok (.iload_n 1, 1) := by decide +kernel
theorem dX19_putBack_217 : decode cX19_putBack 217 = .ok (.imul, 1) := by decide +kernel
theorem dX19_putBack_218 : decode cX19_putBack 218 = .ok (.iconst 1, 1) := by decide +kernel
theorem dX19_putBack_219 : decode cX19_putBack 219 = .ok (.iadd, 1) := by decide +kernel
theorem dX19_putBack_220 : decode cX19_putBack 220 = .ok (.iaload, 1) := by decide +kernel
theorem dX19_putBack_221 : decode cX19_putBack 221 = .ok (.putfield 99, 3) := by decide +kernel
theorem dX19_putBack_224 : decode cX19_putBack 224 = .ok (.aload_n 2, 1) := by decide +kernel
theorem dX19_putBack_225 : decode cX19_putBack 225 = .ok (.aload_n 0, 1) := by decide +kernel
theorem dX19_putBack_226 : decode cX19_putBack 226 = .ok (.getfield 68, 3) := by decide +kernel
theorem dX19_putBack_229 : decode cX19_putBack 229 = .ok (.bipush 7, 2) := by decide +kernel
theorem dX19_putBack_231 : decode cX19_putBack 231 = .ok (.iload_n 1, 1) := by decide +kernel
theorem dX19_putBack_232 : decode cX19_putBack 232 = .ok (.imul, 1) := by decide +kernel
theorem dX19_putBack_233 : decode cX19_putBack 233 = .ok (.iconst 2, 1) := by decide +kernel
theorem dX19_putBack_234 : decode cX19_putBack 234 = .ok (.iadd, 1) := by decide +kernel
theorem dX19_putBack_235 : decode cX19_putBack 235 = .ok (.iaload, 1) := by decide +kernel
theorem dX19_putBack_236 : decode cX19_putBack 236 = .ok (.putfield 101, 3) := by decide +kernel
theorem dX19_putBack_239 : decode cX19_putBack 239 = .ok (.aload_n 2, 1) := by decide +kernel
theorem dX19_putBack_240 : decode cX19_putBack 240 = .ok (.aload_n 0, 1) := by decide +kernel
theorem dX19_putBack_241 : decode cX19_putBack 241 = .ok (.getfield 68, 3) := by decide +kernel
theorem dX19_putBack_244 : decode cX19_putBack 244 = .ok (.bipush 7, 2) := by decide +kernel
theorem dX19_putBack_246 : decode cX19_putBack 246 = .ok (.iload_n 1, 1) := by decide +kernel
theorem dX19_putBack_247 : decode cX19_putBack 247 = .ok (.imul, 1) := by decide +kernel
theorem dX19_putBack_248 : decode cX19_putBack 248 = .ok (.iconst 3, 1) := by decide +kernel
theorem dX19_putBack_249 : decode cX19_putBack 249 = .ok (.iadd, 1) := by decide +kernel
theorem dX19_putBack_250 : decode cX19_putBack 250 = .ok (.iaload, 1) := by decide +kernel
theorem dX19_putBack_251 : decode cX19_putBack 251 = .ok (.putfield 104, 3) := by decide +kernel
theorem dX19_putBack_254 : decode cX19_putBack 254 = .ok (.aload_n 2, 1) := by decide +kernel
theorem dX19_putBack_255 : decode cX19_putBack 255 = .ok (.aload_n 0, 1) := by decide +kernel
theorem dX19_putBack_256 : decode cX19_putBack 256 = .ok (.getfield 3, 3) := by decide +kernel
theorem dX19_putBack_259 : decode cX19_putBack 259 = .ok (.aload_n 0, 1) := by decide +kernel
theorem dX19_putBack_260 : decode cX19_putBack 260 = .ok (.getfield 68, 3) := by decide +kernel
theorem dX19_putBack_263 : decode cX19_putBack 263 = .ok (.bipush 7, 2) := by decide +kernel
theorem dX19_putBack_265 : decode cX19_putBack 265 = .ok (.iload_n 1, 1) := by decide +kernel
theorem dX19_putBack_266 : decode cX19_putBack 266 = .ok (.imul, 1) := by decide +kernel
theorem dX19_putBack_267 : decode cX19_putBack 267 = .ok (.iconst 4, 1) := by decide +kernel
theorem dX19_putBack_268 : decode cX19_putBack 268 = .ok (.iadd, 1) := by decide +kernel
theorem dX19_putBack_269 : decode cX19_putBack 269 = .ok (.iaload, 1) := by decide +kernel
theorem dX19_putBack_270 : decode cX19_putBack 270 = .ok (.invokevirtual 132, 3) := by decide +kernel
theorem dX19_putBack_273 : decode cX19_putBack 273 = .ok (.putfield 107, 3) := by decide +kernel
theorem dX19_putBack_276 : decode cX19_putBack 276 = .ok (.aload_n 2, 1) := by decide +kernel
theorem dX19_putBack_277 : decode cX19_putBack 277 = .ok (.aload_n 0, 1) := by decide +kernel
theorem dX19_putBack_278 : decode cX19_putBack 278 = .ok (.getfield 3, 3) := by decide +kernel
theorem dX19_putBack_281 : decode cX19_putBack 281 = .ok (.aload_n 0, 1) := by decide +kernel
theorem dX19_putBack_282 : decode cX19_putBack 282 = .ok (.getfield 68, 3) := by decide +kernel
theorem dX19_putBack_285 : decode cX19_putBack 285 = .ok (.bipush 7, 2) := by decide +kernel
theorem dX19_putBack_287 : decode cX19_putBack 287 = .ok (.iload_n 1, 1) := by decide +kernel
theorem dX19_putBack_288 : decode cX19_putBack 288 = .ok (.imul, 1) := by decide +kernel
theorem dX19_putBack_289 : decode cX19_putBack 289 = .ok (.iconst 5, 1) := by decide +kernel
theorem dX19_putBack_290 : decode cX19_putBack 290 = .ok (.iadd, 1) := by decide +kernel
theorem dX19_putBack_291 : decode cX19_putBack 291 = .ok (.iaload, 1) := by decide +kernel
theorem dX19_putBack_292 : decode cX19_putBack 292 = .ok (.invokevirtual 140, 3) := by decide +kernel
theorem dX19_putBack_295 : decode cX19_putBack 295 = .ok (.putfield 110, 3) := by decide +kernel
theorem dX19_putBack_298 : decode cX19_putBack 298 = .ok (.aload_n 2, 1) := by decide +kernel
theorem dX19_putBack_299 : decode cX19_putBack 299 = .ok (.aload_n 0, 1) := by decide +kernel
theorem dX19_putBack_300 : decode cX19_putBack 300 = .ok (.getfield 68, 3) := by decide +kernel
theorem dX19_putBack_303 : decode cX19_putBack 303 = .ok (.bipush 7, 2) := by decide +kernel
theorem dX19_putBack_305 : decode cX19_putBack 305 = .ok (.iload_n 1, 1) := by decide +kernel
theorem dX19_putBack_306 : decode cX19_putBack 306 = .ok (.imul, 1) := by decide +kernel
theorem dX19_putBack_307 : decode cX19_putBack 307 = .ok (.bipush 6, 2) := by decide +kernel
theorem dX19_putBack_309 : decode cX19_putBack 309 = .ok (.iadd, 1) := by decide +kernel
theorem dX19_putBack_310 : decode cX19_putBack 310 = .ok (.iaload, 1) := by decide +kernel
theorem dX19_putBack_311 : decode cX19_putBack 311 = .ok (.iconst 1, 1) := by decide +kernel
theorem dX19_putBack_312 : decode cX19_putBack 312 = .ok (.iand, 1) := by decide +kernel
theorem dX19_putBack_313 : decode cX19_putBack 313 = .ok (.iconst 1, 1) := by decide +kernel
theorem dX19_putBack_314 : decode cX19_putBack 314 = .ok (.if_icmp .ne 7, 3) := by decide +kernel
theorem dX19_putBack_317 : decode cX19_putBack 317 = .ok (.iconst 1, 1) := by decide +kernel
theorem dX19_putBack_318 : decode cX19_putBack 318 = .ok (.goto 4, 3) := by decide +kernel
theorem dX19_putBack_321 : decode cX19_putBack 321 = .ok (.iconst 0, 1) := by decide +kernel
theorem dX19_putBack_322 : decode cX19_putBack 322 = .ok (.putfield 115, 3) := by decide +kernel
theorem dX19_putBack_325 : decode cX19_putBack 325 = .ok (.aload_n 2, 1) := by decide +kernel
theorem dX19_putBack_326 : decode cX19_putBack 326 = .ok (.aload_n 0, 1) := by decide +kernel
theorem dX19_putBack_327 : decode cX19_putBack 327 = .ok (.getfield 68, 3) := by decide +kernel
theorem dX19_putBack_330 : decode cX19_putBack 330 = .ok (.bipush 7, 2) := by decide +kernel
theorem dX19_putBack_332 : decode cX19_putBack 332 = .ok (.iload_n 1, 1) := by decide +kernel
theorem dX19_putBack_333 : decode cX19_putBack 333 = .ok (.imul, 1) := by decide +kernel
theorem dX19_putBack_334 : decode cX19_putBack 334 = .ok (.bipush 6, 2) := by decide +kernel
theorem dX19_putBack_336 : decode cX19_putBack 336 = .ok (.iadd, 1) := by decide +kernel
theorem dX19_putBack_337 : decode cX19_putBack 337 = .ok (.iaload, 1) := by decide +kernel
theorem dX19_putBack_338 : decode cX19_putBack 338 = .ok (.iconst 2, 1) := by decide +kernel
theorem dX19_putBack_339 : decode cX19_putBack 339 = .ok (.iand, 1) := by decide +kernel
theorem dX19_putBack_340 : decode cX19_putBack 340 = .ok (.iconst 2, 1) := by decide +kernel
theorem dX19_putBack_341 : decode cX19_putBack 341 = .ok (.if_icmp .ne 7, 3) := by decide +kernel
theorem dX19_putBack_344 : decode cX19_putBack 344 = .ok (.iconst 1, 1) := by decide +kernel
theorem dX19_putBack_345 : decode cX19_putBack 345 = .ok (.goto 4, 3) := by decide +kernel
theorem dX19_putBack_348 : decode cX19_putBack 348 = .ok (.iconst 0, 1) := by decide +kernel
theorem dX19_putBack_349 : decode cX19_putBack 349 = .ok (.putfield 119, 3) := by decide +kernel
theorem dX19_putBack_352 : decode cX19_putBack 352 = .ok (.aload_n 2, 1) := by decide +kernel
theorem dX19_putBack_353 : decode cX19_putBack 353 = .ok (.aload_n 0, 1) := by decide +kernel
theorem dX19_putBack_354 : decode cX19_putBack 354 = .ok (.getfield 68, 3) := by decide +kernel
theorem dX19_putBack_357 : decode cX19_putBack 357 = .ok (.bipush 7, 2) := by decide +kernel
theorem dX19_putBack_359 : decode cX19_putBack 359 = .ok (.iload_n 1, 1) := by decide +kernel
theorem dX19_putBack_360 : decode cX19_putBack 360 = .ok (.imul, 1) := by decide +kernel
theorem dX19_putBack_361 : decode cX19_putBack 361 = .ok (.bipush 6, 2) := by decide +kernel
theorem dX19_putBack_363 : decode cX19_putBack 363 = .ok (.iadd, 1) := by decide +kernel
theorem dX19_putBack_364 : decode cX19_putBack 364 = .ok (.iaload, 1) := by decide +kernel
theorem dX19_putBack_365 : decode cX19_putBack 365 = .ok (.iconst 4, 1) := by decide +kernel
theorem dX19_putBack_366 : decode cX19_putBack 366 = .ok (.iand, 1) := by decide +kernel
theorem dX19_putBack_367 : decode cX19_putBack 367 = .ok (.iconst 4, 1) := by decide +kernel
theorem dX19_putBack_368 : decode cX19_putBack 368 = .ok (.if_icmp .ne 7, 3) := by decide +kernel
theorem dX19_putBack_371 : decode cX19_putBack 371 = .ok (.iconst 1, 1) := by decide +kernel
theorem dX19_putBack_372 : decode cX19_putBack 372 = .ok (.goto 4, 3) := by decide +kernel
theorem dX19_putBack_375 : decode cX19_putBack 375 = .ok (.iconst 0, 1) := by decide +kernel
theorem dX19_putBack_376 : decode cX19_putBack 376 = .ok (.putfield 122, 3) := by decide +kernel
theorem dX19_putBack_379 : decode cX19_putBack 379 = .ok (.aload_n 2, 1) := by decide +kernel
theorem dX19_putBack_380 : decode cX19_putBack 380 = .ok (.aload_n 0, 1) := by decide +kernel
theorem dX19_putBack_381 : decode cX19_putBack 381 = .ok (.getfield 73, 3) := by decide +kernel
theorem dX19_putBack_384 : decode cX19_putBack 384 = .ok (.iload_n 1, 1) := by decide +kernel
theorem dX19_putBack_385 : decode cX19_putBack 385 = .ok (.aaload, 1) := by decide +kernel
theorem dX19_putBack_386 : decode cX19_putBack 386 = .ok (.putfield 125, 3) := by decide +kernel
theorem dX19_putBack_389 : decode cX19_putBack 389 = .ok (.iinc 1 1, 3) := by decide +kernel
theorem dX19_putBack_392 : decode cX19_putBack 392 = .ok (.goto (-219), 3) := by decide +kernel
theorem dX19_putBack_395 : decode cX19_putBack 395 = .ok (.aload_n 0, 1) := by decide +kernel
theorem dX19_putBack_396 : decode cX19_putBack 396 = .ok (.getfield 62, 3) := by decide +kernel
theorem dX19_putBack_399 : decode cX19_putBack 399 = .ok (.iconst 0, 1) := by decide +kernel
theorem dX19_putBack_400 : decode cX19_putBack 400 = .ok (.aload_n 0, 1) := by decide +kernel
theorem dX19_putBack_401 : decode cX19_putBack 401 = .ok (.getfield 3, 3) := by decide +kernel
theorem dX19_putBack_404 : decode cX19_putBack 404 = .ok (.getfield 53, 3) := by decide +kernel
theorem dX19_putBack_407 : decode cX19_putBack 407 = .ok (.iconst 0, 1) := by decide +kernel
theorem dX19_putBack_408 : decode cX19_putBack 408 = .ok (.aload_n 0, 1) := by decide +kernel
theorem dX19_putBack_409 : decode cX19_putBack 409 = .ok (.getfield 3, 3) := by decide +kernel
theorem dX19_putBack_412 : decode cX19_putBack 412 = .ok (.getfield 53, 3) := by decide +kernel
theorem dX19_putBack_415 : decode cX19_putBack 415 = .ok (.arraylength, 1) := by decide +kernel
theorem dX19_putBack_416 : decode cX19_putBack 416 = .ok (.invokestatic 144, 3) := by decide +kernel
theorem dX19_putBack_419 : decode cX19_putBack 419 = .ok (.aload_n 0, 1) := by decide +kernel
theorem dX19_putBack_420 : decode cX19_putBack 420 = .ok (.getfield 3, 3) := by decide +kernel
theorem dX19_putBack_423 : decode cX19_putBack 423 = .ok (.aload_n 0, 1) := by decide +kernel
theorem dX19_putBack_424 : decode cX19_putBack 424 = .ok (.getfield 38, 3) := by decide +kernel
theorem dX19_putBack_427 : decode cX19_putBack 427 = .ok (.putfield 35, 3) := by decide +kernel
theorem dX19_putBack_430 : decode cX19_putBack 430 = .ok (.aload_n 0, 1) := by decide +kernel
theorem dX19_putBack_431 : decode cX19_putBack 431 = .ok (.getfield 3, 3) := by decide +kernel
theorem dX19_putBack_434 : decode cX19_putBack 434 = .ok (.aload_n 0, 1) := by decide +kernel
theorem dX19_putBack_435 : decode cX19_putBack 435 = .ok (.getfield 44, 3) := by decide +kernel
theorem dX19_putBack_438 : decode cX19_putBack 438 = .ok (.putfield 41, 3) := by decide +kernel
theorem dX19_putBack_441 : decode cX19_putBack 441 = .ok (.aload_n 0, 1) := by decide +kernel
theorem dX19_putBack_442 : decode cX19_putBack 442 = .ok (.getfield 3, 3) := by decide +kernel
theorem dX19_putBack_445 : decode cX19_putBack 445 = .ok (.aload_n 0, 1) := by decide +kernel
theorem dX19_putBack_446 : decode cX19_putBack 446 = .ok (.getfield 50, 3) := by decide +kernel
theorem dX19_putBack_449 : decode cX19_putBack 449 = .ok (.putfield 47, 3) := by decide +kernel
theorem dX19_putBack_452 : decode cX19_putBack 452 = .ok (.return_, 1) := by decide +kernel
theorem q120 : (Jvm.Cond.initialized "ShellBeach$Image") ∈ lw_all := lw_g (lw_at lw_m1 35 rfl) rfl
theorem q208 : (Jvm.Cond.fieldLinkNest "ShellBeach$Image" (15 : Nat) "ShellBeach" "shells" "Ljava/util/ArrayList;" "ShellBeach") ∈ lw_tbl := lw_at lw_m1 123 rfl
theorem q213 : (Jvm.Cond.fieldLinkNest "ShellBeach$Image" (29 : Nat) "ShellBeach" "crabs" "Ljava/util/ArrayList;" "ShellBeach") ∈ lw_tbl := lw_at lw_m1 128 rfl
theorem q216 : (Jvm.Cond.fieldLinkNest "ShellBeach$Image" (35 : Nat) "ShellBeach" "tick" "I" "ShellBeach") ∈ lw_tbl := lw_at lw_m1 131 rfl
theorem q218 : (Jvm.Cond.fieldLinkNest "ShellBeach$Image" (41 : Nat) "ShellBeach" "move" "I" "ShellBeach") ∈ lw_tbl := lw_at lw_m1 133 rfl
theorem q221 : (Jvm.Cond.fieldLinkNest "ShellBeach$Image" (47 : Nat) "ShellBeach" "grow" "I" "ShellBeach") ∈ lw_tbl := lw_at lw_m1 136 rfl
theorem q223 : (Jvm.Cond.fieldLinkNest "ShellBeach$Image" (53 : Nat) "ShellBeach" "exchanged" "[I" "ShellBeach") ∈ lw_tbl := lw_at lw_m1 138 rfl
theorem q324 : (Jvm.Cond.fieldLinkNest "ShellBeach$Image" (114 : Nat) "ShellBeach$Shell" "number" "I" "ShellBeach") ∈ lw_tbl := lw_at lw_m1 239 rfl
theorem q333 : (Jvm.Cond.fieldLinkNest "ShellBeach$Image" (83 : Nat) "ShellBeach$Shell" "cell" "I" "ShellBeach") ∈ lw_tbl := lw_at lw_m2 8 rfl
theorem q335 : (Jvm.Cond.fieldLinkNest "ShellBeach$Image" (86 : Nat) "ShellBeach$Shell" "state" "I" "ShellBeach") ∈ lw_tbl := lw_at lw_m2 10 rfl
theorem q339 : (Jvm.Cond.fieldLinkNest "ShellBeach$Image" (89 : Nat) "ShellBeach$Shell" "of" "LShellBeach$Crab;" "ShellBeach") ∈ lw_tbl := lw_at lw_m2 14 rfl
theorem q398 : (Jvm.Cond.selects "ShellBeach$Image" ({ cls := "java/lang/Object", name := "getClass", desc := "()Ljava/lang/Class;" } : Jvm.MethodName) ({ cls := "java/lang/Object", name := "getClass", desc := "()Ljava/lang/Class;" } : Jvm.MethodName)) ∈ lw_all := lw_g (lw_at lw_m2 73 rfl) rfl
theorem q547 : (Jvm.Cond.fieldLinkNest "ShellBeach$Image" (93 : Nat) "ShellBeach$Crab" "number" "I" "ShellBeach") ∈ lw_tbl := lw_at lw_m2 222 rfl
theorem q552 : (Jvm.Cond.fieldLinkNest "ShellBeach$Image" (98 : Nat) "ShellBeach$Crab" "cell" "I" "ShellBeach") ∈ lw_tbl := lw_at lw_m2 227 rfl
theorem q555 : (Jvm.Cond.fieldLinkNest "ShellBeach$Image" (99 : Nat) "ShellBeach$Crab" "size" "I" "ShellBeach") ∈ lw_tbl := lw_at lw_m2 230 rfl
theorem q558 : (Jvm.Cond.fieldLinkNest "ShellBeach$Image" (101 : Nat) "ShellBeach$Crab" "left" "I" "ShellBeach") ∈ lw_tbl := lw_at lw_m2 233 rfl
theorem q561 : (Jvm.Cond.fieldLinkNest "ShellBeach$Image" (104 : Nat) "ShellBeach$Crab" "knocks" "I" "ShellBeach") ∈ lw_tbl := lw_at lw_m2 236 rfl
theorem q564 : (Jvm.Cond.fieldLinkNest "ShellBeach$Image" (115 : Nat) "ShellBeach$Crab" "isDead" "Z" "ShellBeach") ∈ lw_tbl := lw_at lw_m2 239 rfl
theorem q567 : (Jvm.Cond.fieldLinkNest "ShellBeach$Image" (119 : Nat) "ShellBeach$Crab" "waits" "Z" "ShellBeach") ∈ lw_tbl := lw_at lw_m3 2 rfl
theorem q570 : (Jvm.Cond.fieldLinkNest "ShellBeach$Image" (122 : Nat) "ShellBeach$Crab" "hasKnocked" "Z" "ShellBeach") ∈ lw_tbl := lw_at lw_m3 5 rfl
theorem q573 : (Jvm.Cond.fieldLinkNest "ShellBeach$Image" (110 : Nat) "ShellBeach$Crab" "shell" "LShellBeach$Shell;" "ShellBeach") ∈ lw_tbl := lw_at lw_m3 8 rfl
theorem q576 : (Jvm.Cond.fieldLinkNest "ShellBeach$Image" (107 : Nat) "ShellBeach$Crab" "at" "LShellBeach$Crab;" "ShellBeach") ∈ lw_tbl := lw_at lw_m3 11 rfl
theorem q579 : (Jvm.Cond.fieldLinkNest "ShellBeach$Image" (125 : Nat) "ShellBeach$Crab" "habit" "LShellBeach$Habit;" "ShellBeach") ∈ lw_tbl := lw_at lw_m3 14 rfl
theorem q1136 : (Jvm.Cond.instantiable "ShellBeach$Image" (10 : Nat)) ∈ lw_all := lw_g (lw_at lw_m5 91 rfl) rfl
theorem q1138 : (Jvm.Cond.instanceMethod ({ cls := "ShellBeach$Image", name := "<init>", desc := "(LShellBeach;)V" } : Jvm.MethodName)) ∈ lw_all := lw_g (lw_at lw_m5 93 rfl) rfl
theorem q1139 : (Jvm.Cond.code ({ cls := "ShellBeach$Image", name := "<init>", desc := "(LShellBeach;)V" } : Jvm.MethodName) prog_10_method_1_code (4 : Nat) (Option.none : Option Jvm.ClassFile.FieldType)) ∈ lw_all := lw_g (lw_at lw_m5 94 rfl) rfl
theorem q1140 : (Jvm.Cond.methodLink "ShellBeach$Image" (9 : Nat) ({ cls := "java/lang/Object", name := "<init>", desc := "()V" } : Jvm.MethodName)) ∈ lw_all := lw_g (lw_at lw_m5 95 rfl) rfl
theorem q1141 : (Jvm.Cond.methodLink "ShellBeach$Image" (19 : Nat) ({ cls := "java/util/ArrayList", name := "size", desc := "()I" } : Jvm.MethodName)) ∈ lw_all := lw_g (lw_at lw_m5 96 rfl) rfl
theorem q1142 : (Jvm.Cond.methodLink "ShellBeach$Image" (57 : Nat) ({ cls := "[I", name := "clone", desc := "()Ljava/lang/Object;" } : Jvm.MethodName)) ∈ lw_all := lw_g (lw_at lw_m5 97 rfl) rfl
theorem q1148 : (Jvm.Cond.classLink "ShellBeach$Image" (58 : Nat) "[I") ∈ lw_all := lw_g (lw_at lw_m5 103 rfl) rfl
theorem q1149 : (Jvm.Cond.classLink "ShellBeach$Image" (71 : Nat) "ShellBeach$Habit") ∈ lw_all := lw_g (lw_at lw_m5 104 rfl) rfl
theorem q1151 : (Jvm.Cond.methodLink "ShellBeach$Image" (77 : Nat) ({ cls := "java/util/ArrayList", name := "get", desc := "(I)Ljava/lang/Object;" } : Jvm.MethodName)) ∈ lw_all := lw_g (lw_at lw_m5 106 rfl) rfl
theorem q1152 : (Jvm.Cond.classLink "ShellBeach$Image" (81 : Nat) "ShellBeach$Shell") ∈ lw_all := lw_g (lw_at lw_m5 107 rfl) rfl
theorem q1153 : (Jvm.Cond.classLink "ShellBeach$Image" (94 : Nat) "ShellBeach$Crab") ∈ lw_all := lw_g (lw_at lw_m5 108 rfl) rfl
theorem q1154 : (Jvm.Cond.fieldLink "ShellBeach$Image" (25 : Nat) "ShellBeach$Image" "shellsWere" "I") ∈ lw_all := lw_g (lw_at lw_m5 109 rfl) rfl
theorem q1155 : (Jvm.Cond.fieldLink "ShellBeach$Image" (32 : Nat) "ShellBeach$Image" "crabsWere" "I") ∈ lw_all := lw_g (lw_at lw_m5 110 rfl) rfl
theorem q1156 : (Jvm.Cond.fieldLink "ShellBeach$Image" (38 : Nat) "ShellBeach$Image" "tickWas" "I") ∈ lw_all := lw_g (lw_at lw_m5 111 rfl) rfl
theorem q1157 : (Jvm.Cond.fieldLink "ShellBeach$Image" (44 : Nat) "ShellBeach$Image" "moveWas" "I") ∈ lw_all := lw_g (lw_at lw_m5 112 rfl) rfl
theorem q1158 : (Jvm.Cond.fieldLink "ShellBeach$Image" (50 : Nat) "ShellBeach$Image" "growWas" "I") ∈ lw_all := lw_g (lw_at lw_m5 113 rfl) rfl
theorem q1159 : (Jvm.Cond.fieldLink "ShellBeach$Image" (62 : Nat) "ShellBeach$Image" "exchangedWere" "[I") ∈ lw_all := lw_g (lw_at lw_m5 114 rfl) rfl
theorem q1160 : (Jvm.Cond.fieldLink "ShellBeach$Image" (65 : Nat) "ShellBeach$Image" "shellRow" "[I") ∈ lw_all := lw_g (lw_at lw_m5 115 rfl) rfl
theorem q1161 : (Jvm.Cond.fieldLink "ShellBeach$Image" (68 : Nat) "ShellBeach$Image" "crabRow" "[I") ∈ lw_all := lw_g (lw_at lw_m5 116 rfl) rfl
theorem q1162 : (Jvm.Cond.fieldLink "ShellBeach$Image" (73 : Nat) "ShellBeach$Image" "habitsWere" "[LShellBeach$Habit;") ∈ lw_all := lw_g (lw_at lw_m5 117 rfl) rfl
theorem q1163 : (Jvm.Cond.fieldLink "ShellBeach$Image" (3 : Nat) "ShellBeach$Image" "this$0" "LShellBeach;") ∈ lw_all := lw_g (lw_at lw_m5 118 rfl) rfl
theorem q1164 : (Jvm.Cond.laysFinal "ShellBeach$Image" "ShellBeach$Image" "shellsWere" "I") ∈ lw_all := lw_g (lw_at lw_m5 119 rfl) rfl
theorem q1165 : (Jvm.Cond.soleField "ShellBeach$Image" "shellsWere") ∈ lw_all := lw_g (lw_at lw_m5 120 rfl) rfl
theorem q1166 : (Jvm.Cond.laysFinal "ShellBeach$Image" "ShellBeach$Image" "crabsWere" "I") ∈ lw_all := lw_g (lw_at lw_m5 121 rfl) rfl
theorem q1167 : (Jvm.Cond.soleField "ShellBeach$Image" "crabsWere") ∈ lw_all := lw_g (lw_at lw_m5 122 rfl) rfl
theorem q1168 : (Jvm.Cond.laysFinal "ShellBeach$Image" "ShellBeach$Image" "tickWas" "I") ∈ lw_all := lw_g (lw_at lw_m5 123 rfl) rfl
theorem q1169 : (Jvm.Cond.soleField "ShellBeach$Image" "tickWas") ∈ lw_all := lw_g (lw_at lw_m5 124 rfl) rfl
theorem q1170 : (Jvm.Cond.laysFinal "ShellBeach$Image" "ShellBeach$Image" "moveWas" "I") ∈ lw_all := lw_g (lw_at lw_m5 125 rfl) rfl
theorem q1171 : (Jvm.Cond.soleField "ShellBeach$Image" "moveWas") ∈ lw_all := lw_g (lw_at lw_m5 126 rfl) rfl
theorem q1172 : (Jvm.Cond.laysFinal "ShellBeach$Image" "ShellBeach$Image" "growWas" "I") ∈ lw_all := lw_g (lw_at lw_m5 127 rfl) rfl
theorem q1173 : (Jvm.Cond.soleField "ShellBeach$Image" "growWas") ∈ lw_all := lw_g (lw_at lw_m5 128 rfl) rfl
theorem q1174 : (Jvm.Cond.laysFinal "ShellBeach$Image" "ShellBeach$Image" "exchangedWere" "[I") ∈ lw_all := lw_g (lw_at lw_m5 129 rfl) rfl
theorem q1175 : (Jvm.Cond.soleField "ShellBeach$Image" "exchangedWere") ∈ lw_all := lw_g (lw_at lw_m5 130 rfl) rfl
theorem q1176 : (Jvm.Cond.laysFinal "ShellBeach$Image" "ShellBeach$Image" "shellRow" "[I") ∈ lw_all := lw_g (lw_at lw_m5 131 rfl) rfl
theorem q1177 : (Jvm.Cond.soleField "ShellBeach$Image" "shellRow") ∈ lw_all := lw_g (lw_at lw_m5 132 rfl) rfl
theorem q1178 : (Jvm.Cond.laysFinal "ShellBeach$Image" "ShellBeach$Image" "crabRow" "[I") ∈ lw_all := lw_g (lw_at lw_m5 133 rfl) rfl
theorem q1179 : (Jvm.Cond.soleField "ShellBeach$Image" "crabRow") ∈ lw_all := lw_g (lw_at lw_m5 134 rfl) rfl
theorem q1180 : (Jvm.Cond.laysFinal "ShellBeach$Image" "ShellBeach$Image" "habitsWere" "[LShellBeach$Habit;") ∈ lw_all := lw_g (lw_at lw_m5 135 rfl) rfl
theorem q1181 : (Jvm.Cond.soleField "ShellBeach$Image" "habitsWere") ∈ lw_all := lw_g (lw_at lw_m5 136 rfl) rfl
theorem q1182 : (Jvm.Cond.laysFinal "ShellBeach$Image" "ShellBeach$Image" "this$0" "LShellBeach;") ∈ lw_all := lw_g (lw_at lw_m5 137 rfl) rfl
theorem q1183 : (Jvm.Cond.soleField "ShellBeach$Image" "this$0") ∈ lw_all := lw_g (lw_at lw_m5 138 rfl) rfl
theorem q1184 : (Jvm.Cond.superclass "ShellBeach$Image" "java/lang/Object") ∈ lw_all := lw_g (lw_at lw_m5 139 rfl) rfl
theorem q1191 : (Jvm.Cond.instanceMethod ({ cls := "ShellBeach$Image", name := "putBack", desc := "()V" } : Jvm.MethodName)) ∈ lw_all := lw_g (lw_at lw_m5 146 rfl) rfl
theorem q1192 : (Jvm.Cond.selects "ShellBeach$Image" ({ cls := "ShellBeach$Image", name := "putBack", desc := "()V" } : Jvm.MethodName) ({ cls := "ShellBeach$Image", name := "putBack", desc := "()V" } : Jvm.MethodName)) ∈ lw_all := lw_g (lw_at lw_m5 147 rfl) rfl
theorem q1193 : (Jvm.Cond.code ({ cls := "ShellBeach$Image", name := "putBack", desc := "()V" } : Jvm.MethodName) prog_10_method_2_code (3 : Nat) (Option.none : Option Jvm.ClassFile.FieldType)) ∈ lw_all := lw_g (lw_at lw_m5 148 rfl) rfl
theorem q1194 : (Jvm.Cond.methodLink "ShellBeach$Image" (129 : Nat) ({ cls := "java/util/ArrayList", name := "remove", desc := "(I)Ljava/lang/Object;" } : Jvm.MethodName)) ∈ lw_all := lw_g (lw_at lw_m5 149 rfl) rfl
theorem q1203 : (Jvm.Cond.methodLinkNest "ShellBeach$Image" (132 : Nat) ({ cls := "ShellBeach", name := "crabAt", desc := "(I)LShellBeach$Crab;" } : Jvm.MethodName) "ShellBeach") ∈ lw_tbl := lw_at lw_m5 158 rfl
theorem q1204 : (Jvm.Cond.methodLink "ShellBeach$Image" (136 : Nat) ({ cls := "ShellBeach$Shell", name := "become", desc := "(ILShellBeach$Crab;)V" } : Jvm.MethodName)) ∈ lw_all := lw_g (lw_at lw_m5 159 rfl) rfl
theorem q1205 : (Jvm.Cond.methodLinkNest "ShellBeach$Image" (140 : Nat) ({ cls := "ShellBeach", name := "shellAt", desc := "(I)LShellBeach$Shell;" } : Jvm.MethodName) "ShellBeach") ∈ lw_tbl := lw_at lw_m5 160 rfl
theorem q1206 : (Jvm.Cond.methodLink "ShellBeach$Image" (144 : Nat) ({ cls := "java/lang/System", name := "arraycopy", desc := "(Ljava/lang/Object;ILjava/lang/Object;II)V" } : Jvm.MethodName)) ∈ lw_all := lw_g (lw_at lw_m5 161 rfl) rfl
theorem q1892 : (Jvm.Cond.castable "ShellBeach$Image" "java/lang/Object") ∈ lw_tbl := lw_at lw_m8 127 rfl
theorem in_X19 : ∀ w ∈ wsX190, w ∈ lw_all := lw_in wsX190 [1164, 1166, 1168, 1170, 1172, 1174, 1176, 1178, 1180, 1182] (by decide +kernel) (by decide +kernel)
