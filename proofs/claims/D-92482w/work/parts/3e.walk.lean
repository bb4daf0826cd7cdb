set_option maxRecDepth 100000
/-! PalaceOfRoomsModel.nextToken -/
theorem dX10_nextToken_0 : decode cX10_nextToken 0 = .ok (.aload_n 0, 1) := by decide +kernel
theorem dX10_nextToken_1 : decode cX10_nextToken 1 = .ok (.getfield 146, 3) := by decide +kernel
theorem dX10_nextToken_4 : decode cX10_nextToken 4 = .ok (.aload_n 0, 1) := by decide +kernel
theorem dX10_nextToken_5 : decode cX10_nextToken 5 = .ok (.getfield 141, 3) := by decide +kernel
theorem dX10_nextToken_8 : decode cX10_nextToken 8 = .ok (.if_icmp .ge 30, 3) := by decide +kernel
theorem dX10_nextToken_11 : decode cX10_nextToken 11 = .ok (.aload_n 0, 1) := by decide +kernel
theorem dX10_nextToken_12 : decode cX10_nextToken 12 = .ok (.getfield 62, 3) := by decide +kernel
theorem dX10_nextToken_15 : decode cX10_nextToken 15 = .ok (.aload_n 0, 1) := by decide +kernel
theorem dX10_nextToken_16 : decode cX10_nextToken 16 = .ok (.getfield 146, 3) := by decide +kernel
theorem dX10_nextToken_19 : decode cX10_nextToken 19 = .ok (.iaload, 1) := by decide +kernel
theorem dX10_nextToken_20 : decode cX10_nextToken 20 = .ok (.bipush 32, 2) := by decide +kernel
theorem dX10_nextToken_22 : decode cX10_nextToken 22 = .ok (.if_icmp .ne 16, 3) := by decide +kernel
theorem dX10_nextToken_25 : decode cX10_nextToken 25 = .ok (.aload_n 0, 1) := by decide +kernel
theorem dX10_nextToken_26 : decode cX10_nextToken 26 = .ok (.dup, 1) := by decide +kernel
theorem dX10_nextToken_27 : decode cX10_nextToken 27 = .ok (.getfield 146, 3) := by decide +kernel
theorem dX10_nextToken_30 : decode cX10_nextToken 30 = .ok (.iconst 1, 1) := by decide +kernel
theorem dX10_nextToken_31 : decode cX10_nextToken 31 = .ok (.iadd, 1) := by decide +kernel
theorem dX10_nextToken_32 : decode cX10_nextToken 32 = .ok (.putfield 146, 3) := by decide +kernel
theorem dX10_nextToken_35 : decode cX10_nextToken 35 = .ok (.goto (-35), 3) := by decide +kernel
theorem dX10_nextToken_38 : decode cX10_nextToken 38 = .ok (.aload_n 0, 1) := by decide +kernel
theorem dX10_nextToken_39 : decode cX10_nextToken 39 = .ok (.aload_n 0, 1) := by decide +kernel
theorem dX10_nextToken_40 : decode cX10_nextToken 40 = .ok (.getfield 146, 3) := by decide +kernel
theorem dX10_nextToken_43 : decode cX10_nextToken 43 = .ok (.putfield 149, 3) := by decide +kernel
theorem dX10_nextToken_46 : decode cX10_nextToken 46 = .ok (.aload_n 0, 1) := by decide +kernel
theorem dX10_nextToken_47 : decode cX10_nextToken 47 = .ok (.iconst 0, 1) := by decide +kernel
theorem dX10_nextToken_48 : decode cX10_nextToken 48 = .ok (.putfield 152, 3) := by decide +kernel
theorem dX10_nextToken_51 : decode cX10_nextToken 51 = .ok (.aload_n 0, 1) := by decide +kernel
theorem dX10_nextToken_52 : decode cX10_nextToken 52 = .ok (.iconst 0, 1) := by decide +kernel
theorem dX10_nextToken_53 : decode cX10_nextToken 53 = .ok (.putfield 155, 3) := by decide +kernel
theorem dX10_nextToken_56 : decode cX10_nextToken 56 = .ok (.aload_n 0, 1) := by decide +kernel
theorem dX10_nextToken_57 : decode cX10_nextToken 57 = .ok (.getfield 146, 3) := by decide +kernel
theorem dX10_nextToken_60 : decode cX10_nextToken 60 = .ok (.aload_n 0, 1) := by decide +kernel
theorem dX10_nextToken_61 : decode cX10_nextToken 61 = .ok (.getfield 141, 3) := by decide +kernel
theorem dX10_nextToken_64 : decode cX10_nextToken 64 = .ok (.if_icmp .ne 13, 3) := by decide +kernel
theorem dX10_nextToken_67 : decode cX10_nextToken 67 = .ok (.aload_n 0, 1) := by decide +kernel
theorem dX10_nextToken_68 : decode cX10_nextToken 68 = .ok (.ldc2_w 158, 3) := by decide +kernel
theorem dX10_nextToken_71 : decode cX10_nextToken 71 = .ok (.putfield 160, 3) := by decide +kernel
theorem dX10_nextToken_74 : decode cX10_nextToken 74 = .ok (.goto 320, 3) := by decide +kernel
theorem dX10_nextToken_77 : decode cX10_nextToken 77 = .ok (.aload_n 0, 1) := by decide +kernel
theorem dX10_nextToken_78 : decode cX10_nextToken 78 = .ok (.getfield 62, 3) := by decide +kernel
theorem dX10_nextToken_81 : decode cX10_nextToken 81 = .ok (.aload_n 0, 1) := by decide +kernel
theorem dX10_nextToken_82 : decode cX10_nextToken 82 = .ok (.getfield 146, 3) := by decide +kernel
theorem dX10_nextToken_85 : decode cX10_nextToken 85 = .ok (.iaload, 1) := by decide +kernel
theorem dX10_nextToken_86 : decode cX10_nextToken 86 = .ok (.bipush 97, 2) := by decide +kernel
theorem dX10_nextToken_88 : decode cX10_nextToken 88 = .ok (.bipush 122, 2) := by decide +kernel
theorem dX10_nextToken_90 : decode cX10_nextToken 90 = .ok (.invokestatic 93, 3) := by decide +kernel
theorem dX10_nextToken_93 : decode cX10_nextToken 93 = .ok (.ifCond .eq 129, 3) := by decide +kernel
theorem dX10_nextToken_96 : decode cX10_nextToken 96 = .ok (.aload_n 0, 1) := by decide +kernel
theorem dX10_nextToken_97 : decode cX10_nextToken 97 = .ok (.lconst 0, 1) := by decide +kernel
theorem dX10_nextToken_98 : decode cX10_nextToken 98 = .ok (.putfield 160, 3) := by decide +kernel
theorem dX10_nextToken_101 : decode cX10_nextToken 101 = .ok (.aload_n 0, 1) := by decide +kernel
theorem dX10_nextToken_102 : decode cX10_nextToken 102 = .ok (.getfield 146, 3) := by decide +kernel
theorem dX10_nextToken_105 : decode cX10_nextToken 105 = .ok (.aload_n 0, 1) := by decide +kernel
theorem dX10_nextToken_106 : decode cX10_nextToken 106 = .ok (.getfield 141, 3) := by decide +kernel
theorem dX10_nextToken_109 : decode cX10_nextToken 109 = .ok (.if_icmp .ge 82, 3) := by decide +kernel
theorem dX10_nextToken_112 : decode cX10_nextToken 112 = .ok (.aload_n 0, 1) := by decide +kernel
theorem dX10_nextToken_113 : decode cX10_nextToken 113 = .ok (.getfield 62, 3) := by decide +kernel
theorem dX10_nextToken_116 : decode cX10_nextToken 116 = .ok (.aload_n 0, 1) := by decide +kernel
theorem dX10_nextToken_117 : decode cX10_nextToken 117 = .ok (.getfield 146, 3) := by decide +kernel
theorem dX10_nextToken_120 : decode cX10_nextToken 120 = .ok (.iaload, 1) := by decide +kernel
theorem dX10_nextToken_121 : decode cX10_nextToken 121 = .ok (.bipush 97, 2) := by decide +kernel
theorem dX10_nextToken_123 : decode cX10_nextToken 123 = .ok (.bipush 122, 2) := by decide +kernel
theorem dX10_nextToken_125 : decode cX10_nextToken 125 = .ok (.invokestatic 93, 3) := by decide +kernel
theorem dX10_nextToken_128 : decode cX10_nextToken 128 = .ok (.ifCond .eq 63, 3) := by decide +kernel
theorem dX10_nextToken_131 : decode cX10_nextToken 131 = .ok (.aload_n 0, 1) := by decide +kernel
theorem dX10_nextToken_132 : decode cX10_nextToken 132 = .ok (.aload_n 0, 1) := by decide +kernel
theorem dX10_nextToken_133 : decode cX10_nextToken 133 = .ok (.getfield 146, 3) := by decide +kernel
theorem dX10_nextToken_136 : decode cX10_nextToken 136 = .ok (.aload_n 0, 1) := by decide +kernel
theorem dX10_nextToken_137 : decode cX10_nextToken 137 = .ok (.getfield 149, 3) := by decide +kernel
theorem dX10_nextToken_140 : decode cX10_nextToken 140 = .ok (.isub, 1) := by decide +kernel
theorem dX10_nextToken_141 : decode cX10_nextToken 141 = .ok (.bipush 9, 2) := by decide +kernel
theorem dX10_nextToken_143 : decode cX10_nextToken 143 = .ok (.if_icmp .ge 29, 3) := by decide +kernel
theorem dX10_nextToken_146 : decode cX10_nextToken 146 = .ok (.ldc2_w 164, 3) := by decide +kernel
theorem dX10_nextToken_149 : decode cX10_nextToken 149 = .ok (.aload_n 0, 1) := by decide +kernel
theorem dX10_nextToken_150 : decode cX10_nextToken 150 = .ok (.getfield 160, 3) := by decide +kernel
theorem dX10_nextToken_153 : decode cX10_nextToken 153 = .ok (.lmul, 1) := by decide +kernel
theorem dX10_nextToken_154 : decode cX10_nextToken 154 = .ok (.aload_n 0, 1) := by decide +kernel
theorem dX10_nextToken_155 : decode cX10_nextToken 155 = .ok (.getfield 62, 3) := by decide +kernel
theorem dX10_nextToken_158 : decode cX10_nextToken 158 = .ok (.aload_n 0, 1) := by decide +kernel
theorem dX10_nextToken_159 : decode cX10_nextToken 159 = .ok (.getfield 146, 3) := by decide +kernel
theorem dX10_nextToken_162 : decode cX10_nextToken 162 = .ok (.iaload, 1) := by decide +kernel
theorem dX10_nextToken_163 : decode cX10_nextToken 163 = .ok (.i2l, 1) := by decide +kernel
theorem dX10_nextToken_164 : decode cX10_nextToken 164 = .ok (.ladd, 1) := by decide +kernel
theorem dX10_nextToken_165 : decode cX10_nextToken 165 = .ok (.ldc2_w 166, 3) := by decide +kernel
theorem dX10_nextToken_168 : decode cX10_nextToken 168 = .ok (.lsub, 1) := by decide +kernel
theorem dX10_nextToken_169 : decode cX10_nextToken 169 = .ok (.goto 6, 3) := by decide +kernel
theorem dX10_nextToken_172 : decode cX10_nextToken 172 = .ok (.ldc2_w 168, 3) := by decide +kernel
theorem dX10_nextToken_175 : decode cX10_nextToken 175 = .ok (.putfield 160, 3) := by decide +kernel
theorem dX10_nextToken_178 : decode cX10_nextToken 178 = .ok (.aload_n 0, 1) := by decide +kernel
theorem dX10_nextToken_179 : decode cX10_nextToken 179 = .ok (.dup, 1) := by decide +kernel
theorem dX10_nextToken_180 : decode cX10_nextToken 180 = .ok (.getfield 146, 3) := by decide +kernel
theorem dX10_nextToken_183 : decode cX10_nextToken 183 = .ok (.iconst 1, 1) := by decide +kernel
theorem dX10_nextToken_184 : decode cX10_nextToken 184 = .ok (.iadd, 1) := by decide +kernel
theorem dX10_nextToken_185 : decode cX10_nextToken 185 = .ok (.putfield 146, 3) := by decide +kernel
theorem dX10_nextToken_188 : decode cX10_nextToken 188 = .ok (.goto (-87), 3) := by decide +kernel
theorem dX10_nextToken_191 : decode cX10_nextToken 191 = .ok (.aload_n 0, 1) := by decide +kernel
theorem dX10_nextToken_192 : decode cX10_nextToken 192 = .ok (.aload_n 0, 1) := by decide +kernel
theorem dX10_nextToken_193 : decode cX10_nextToken 193 = .ok (.getfield 146, 3) := by decide +kernel
theorem dX10_nextToken_196 : decode cX10_nextToken 196 = .ok (.aload_n 0, 1) := by decide +kernel
theorem dX10_nextToken_197 : decode cX10_nextToken 197 = .ok (.getfield 149, 3) := by decide +kernel
theorem dX10_nextToken_200 : decode cX10_nextToken 200 = .ok (.isub, 1) := by decide +kernel
theorem dX10_nextToken_201 : decode cX10_nextToken 201 = .ok (.bipush 9, 2) := by decide +kernel
theorem dX10_nextToken_203 : decode cX10_nextToken 203 = .ok (.if_icmp .le 9, 3) := by decide +kernel
theorem dX10_nextToken_206 : decode cX10_nextToken 206 = .ok (.ldc2_w 168, 3) := by decide +kernel
theorem dX10_nextToken_209 : decode cX10_nextToken 209 = .ok (.goto 7, 3) := by decide +kernel
theorem dX10_nextToken_212 : decode cX10_nextToken 212 = .ok (.aload_n 0, 1) := by decide +kernel
theorem dX10_nextToken_213 : decode cX10_nextToken 213 = .ok (.getfield 160, 3) := by decide +kernel
theorem dX10_nextToken_216 : decode cX10_nextToken 216 = .ok (.putfield 160, 3) := by decide +kernel
theorem dX10_nextToken_219 : decode cX10_nextToken 219 = .ok (.goto 175, 3) := by decide +kernel
theorem dX10_nextToken_222 : decode cX10_nextToken 222 = .ok (.aload_n 0, 1) := by decide +kernel
theorem dX10_nextToken_223 : decode cX10_nextToken 223 = .ok (.getfield 62, 3) := by decide +kernel
theorem dX10_nextToken_226 : decode cX10_nextToken 226 = .ok (.aload_n 0, 1) := by decide +kernel
theorem dX10_nextToken_227 : decode cX10_nextToken 227 = .ok (.getfield 146, 3) := by decide +kernel
theorem dX10_nextToken_230 : decode cX10_nextToken 230 = .ok (.iaload, 1) := by decide +kernel
theorem dX10_nextToken_231 : decode cX10_nextToken 231 = .ok (.bipush 48, 2) := by decide +kernel
theorem dX10_nextToken_233 : decode cX10_nextToken 233 = .ok (.bipush 57, 2) := by decide +kernel
theorem dX10_nextToken_235 : decode cX10_nextToken 235 = .ok (.invokestatic 93, 3) := by decide +kernel
theorem dX10_nextToken_238 : decode cX10_nextToken 238 = .ok (.ifCond .eq 119, 3) := by decide +kernel
theorem dX10_nextToken_241 : decode cX10_nextToken 241 = .ok (.aload_n 0, 1) := by decide +kernel
theorem dX10_nextToken_242 : decode cX10_nextToken 242 = .ok (.getfield 146, 3) := by decide +kernel
theorem dX10_nextToken_245 : decode cX10_nextToken 245 = .ok (.aload_n 0, 1) := by decide +kernel
theorem dX10_nextToken_246 : decode cX10_nextToken 246 = .ok (.getfield 141, 3) := by decide +kernel
theorem dX10_nextToken_249 : decode cX10_nextToken 249 = .ok (.if_icmp .ge 84, 3) := by decide +kernel
theorem dX10_nextToken_252 : decode cX10_nextToken 252 = .ok (.aload_n 0, 1) := by decide +kernel
theorem dX10_nextToken_253 : decode cX10_nextToken 253 = .ok (.getfield 62, 3) := by decide +kernel
theorem dX10_nextToken_256 : decode cX10_nextToken 256 = .ok (.aload_n 0, 1) := by decide +kernel
theorem dX10_nextToken_257 : decode cX10_nextToken 257 = .ok (.getfield 146, 3) := by decide +kernel
theorem dX10_nextToken_260 : decode cX10_nextToken 260 = .ok (.iaload, 1) := by decide +kernel
theorem dX10_nextToken_261 : decode cX10_nextToken 261 = .ok (.bipush 48, 2) := by decide +kernel
theorem dX10_nextToken_263 : decode cX10_nextToken 263 = .ok (.bipush 57, 2) := by decide +kernel
theorem dX10_nextToken_265 : decode cX10_nextToken 265 = .ok (.invokestatic 93, 3) := by decide +kernel
theorem dX10_nextToken_268 : decode cX10_nextToken 268 = .ok (.ifCond .eq 65, 3) := by decide +kernel
theorem dX10_nextToken_271 : decode cX10_nextToken 271 = .ok (.aload_n 0, 1) := by decide +kernel
theorem dX10_nextToken_272 : decode cX10_nextToken 272 = .ok (.aload_n 0, 1) := by decide +kernel
theorem dX10_nextToken_273 : decode cX10_nextToken 273 = .ok (.getfield 152, 3) := by decide +kernel
theorem dX10_nextToken_276 : decode cX10_nextToken 276 = .ok (.iconst 2, 1) := by decide +kernel
theorem dX10_nextToken_277 : decode cX10_nextToken 277 = .ok (.if_icmp .ge 26, 3) := by decide +kernel
theorem dX10_nextToken_280 : decode cX10_nextToken 280 = .ok (.bipush 10, 2) := by decide +kernel
theorem dX10_nextToken_282 : decode cX10_nextToken 282 = .ok (.aload_n 0, 1) := by decide +kernel
theorem dX10_nextToken_283 : decode cX10_nextToken 283 = .ok (.getfield 155, 3) := by decide +kernel
theorem dX10_nextToken_286 : decode cX10_nextToken 286 = .ok (.imul, 1) := by decide +kernel
theorem dX10_nextToken_287 : decode cX10_nextToken 287 = .ok (.aload_n 0, 1) := by decide +kernel
theorem dX10_nextToken_288 : decode cX10_nextToken 288 = .ok (.getfield 62, 3) := by decide +kernel
theorem dX10_nextToken_291 : decode cX10_nextToken 291 = .ok (.aload_n 0, 1) := by decide +kernel
theorem dX10_nextToken_292 : decode cX10_nextToken 292 = .ok (.getfield 146, 3) := by decide +kernel
theorem dX10_nextToken_295 : decode cX10_nextToken 295 = .ok (.iaload, 1) := by decide +kernel
theorem dX10_nextToken_296 : decode cX10_nextToken 296 = .ok (.iadd, 1) := by decide +kernel
theorem dX10_nextToken_297 : decode cX10_nextToken 297 = .ok (.bipush 48, 2) := by decide +kernel
theorem dX10_nextToken_299 : decode cX10_nextToken 299 = .ok (.isub, 1) := by decide +kernel
theorem dX10_nextToken_300 : decode cX10_nextToken 300 = .ok (.goto 7, 3) := by decide +kernel
theorem dX10_nextToken_303 : decode cX10_nextToken 303 = .ok (.aload_n 0, 1) := by decide +kernel
theorem dX10_nextToken_304 : decode cX10_nextToken 304 = .ok (.getfield 155, 3) := by decide +kernel
theorem dX10_nextToken_307 : decode cX10_nextToken 307 = .ok (.putfield 155, 3) := by decide +kernel
theorem dX10_nextToken_310 : decode cX10_nextToken 310 = .ok (.aload_n 0, 1) := by decide +kernel
theorem dX10_nextToken_311 : decode cX10_nextToken 311 = .ok (.dup, 1) := by decide +kernel
theorem dX10_nextToken_312 : decode cX10_nextToken 312 = .ok (.getfield 152, 3) := by decide +kernel
theorem dX10_nextToken_315 : decode cX10_nextToken 315 = .ok (.iconst 1, 1) := by decide +kernel
theorem dX10_nextToken_316 : decode cX10_nextToken 316 = .ok (.iadd, 1) := by decide +kernel
theorem dX10_nextToken_317 : decode cX10_nextToken 317 = .ok (.putfield 152, 3) := by decide +kernel
theorem dX10_nextToken_320 : decode cX10_nextToken 320 = .ok (.aload_n 0, 1) := by decide +kernel
theorem dX10_nextToken_321 : decode cX10_nextToken 321 = .ok (.dup, 1) := by decide +kernel
theorem dX10_nextToken_322 : decode cX10_nextToken 322 = .ok (.getfield 146, 3) := by decide +kernel
theorem dX10_nextToken_325 : decode cX10_nextToken 325 = .ok (.iconst 1, 1) := by decide +kernel
theorem dX10_nextToken_326 : decode cX10_nextToken 326 = .ok (.iadd, 1) := by decide +kernel
theorem dX10_nextToken_327 : decode cX10_nextToken 327 = .ok (.putfield 146, 3) := by decide +kernel
theorem dX10_nextToken_330 : decode cX10_nextToken 330 = .ok (.goto (-89), 3) := by decide +kernel
theorem dX10_nextToken_333 : decode cX10_nextToken 333 = .ok (.aload_n 0, 1) := by decide +kernel
theorem dX10_nextToken_334 : decode cX10_nextToken 334 = .ok (.aload_n 0, 1) := by decide +kernel
theorem dX10_nextToken_335 : decode cX10_nextToken 335 = .ok (.getfield 152, 3) := by decide +kernel
theorem dX10_nextToken_338 : decode cX10_nextToken 338 = .ok (.iconst 2, 1) := by decide +kernel
theorem dX10_nextToken_339 : decode cX10_nextToken 339 = .ok (.if_icmp .le 9, 3) := by decide +kernel
theorem dX10_nextToken_342 : decode cX10_nextToken 342 = .ok (.ldc2_w 168, 3) := by decide +kernel
theorem dX10_nextToken_345 : decode cX10_nextToken 345 = .ok (.goto 6, 3) := by decide +kernel
theorem dX10_nextToken_348 : decode cX10_nextToken 348 = .ok (.ldc2_w 170, 3) := by decide +kernel
theorem dX10_nextToken_351 : decode cX10_nextToken 351 = .ok (.putfield 160, 3) := by decide +kernel
theorem dX10_nextToken_354 : decode cX10_nextToken 354 = .ok (.goto 40, 3) := by decide +kernel
theorem dX10_nextToken_357 : decode cX10_nextToken 357 = .ok (.aload_n 0, 1) := by decide +kernel
theorem dX10_nextToken_358 : decode cX10_nextToken 358 = .ok (.aload_n 0, 1) := by decide +kernel
theorem dX10_nextToken_359 : decode cX10_nextToken 359 = .ok (.getfield 62, 3) := by decide +kernel
theorem dX10_nextToken_362 : decode cX10_nextToken 362 = .ok (.aload_n 0, 1) := by decide +kernel
theorem dX10_nextToken_363 : decode cX10_nextToken 363 = .ok (.getfield 146, 3) := by decide +kernel
theorem dX10_nextToken_366 : decode cX10_nextToken 366 = .ok (.iaload, 1) := by decide +kernel
theorem dX10_nextToken_367 : decode cX10_nextToken 367 = .ok (.bipush 59, 2) := by decide +kernel
theorem dX10_nextToken_369 : decode cX10_nextToken 369 = .ok (.if_icmp .ne 9, 3) := by decide +kernel
theorem dX10_nextToken_372 : decode cX10_nextToken 372 = .ok (.ldc2_w 172, 3) := by decide +kernel
theorem dX10_nextToken_375 : decode cX10_nextToken 375 = .ok (.goto 6, 3) := by decide +kernel
theorem dX10_nextToken_378 : decode cX10_nextToken 378 = .ok (.ldc2_w 168, 3) := by decide +kernel
theorem dX10_nextToken_381 : decode cX10_nextToken 381 = .ok (.putfield 160, 3) := by decide +kernel
theorem dX10_nextToken_384 : decode cX10_nextToken 384 = .ok (.aload_n 0, 1) := by decide +kernel
theorem dX10_nextToken_385 : decode cX10_nextToken 385 = .ok (.dup, 1) := by decide +kernel
theorem dX10_nextToken_386 : decode cX10_nextToken 386 = .ok (.getfield 146, 3) := by decide +kernel
theorem dX10_nextToken_389 : decode cX10_nextToken 389 = .ok (.iconst 1, 1) := by decide +kernel
theorem dX10_nextToken_390 : decode cX10_nextToken 390 = .ok (.iadd, 1) := by decide +kernel
theorem dX10_nextToken_391 : decode cX10_nextToken 391 = .ok (.putfield 146, 3) := by decide +kernel
theorem dX10_nextToken_394 : decode cX10_nextToken 394 = .ok (.return_, 1) := by decide +kernel
theorem yd_X10_nextToken : yX10_nextToken.cls ≠ "java/lang/invoke/MethodHandle" ∧ yX10_nextToken.cls ≠ "java/lang/invoke/VarHandle" ∧ (parseMethodDescriptor yX10_nextToken.desc).map (fun d => d.parameters.length) = some 0 := by decide +kernel
theorem fl_X10_152_10 : FLk RX10 152 10 24 "I" := ⟨RX10, TX10, 39, "PalaceOfRoomsModel", rfl, by decide, (fun q => by have h1 := q.1; have h2 := q.2; omega), rfl, in_X10, Or.inl q1003, Or.inl rfl⟩
theorem fp_X10_160_10 : FPk RX10 160 10 23 "J" false := ⟨RX10, TX10, 39, "PalaceOfRoomsModel", tyX10, rfl, by decide, (fun q => by have h1 := q.1; have h2 := q.2; omega), rfl, in_X10, tyX10_ok, (fun a ha b hb h => Or.inl (nmX10 a ha b hb h)), rfl, (fun q => by cases q), (Or.inl q1002), Or.inl rfl⟩
theorem fp_X10_155_10 : FPk RX10 155 10 25 "I" false := ⟨RX10, TX10, 39, "PalaceOfRoomsModel", tyX10, rfl, by decide, (fun q => by have h1 := q.1; have h2 := q.2; omega), rfl, in_X10, tyX10_ok, (fun a ha b hb h => Or.inl (nmX10 a ha b hb h)), rfl, (fun q => by cases q), (Or.inl q1004), Or.inl rfl⟩
theorem fp_X10_152_10 : FPk RX10 152 10 24 "I" false := ⟨RX10, TX10, 39, "PalaceOfRoomsModel", tyX10, rfl, by decide, (fun q => by have h1 := q.1; have h2 := q.2; omega), rfl, in_X10, tyX10_ok, (fun a ha b hb h => Or.inl (nmX10 a ha b hb h)), rfl, (fun q => by cases q), (Or.inl q1003), Or.inl rfl⟩
theorem fl_X10_146_10 : FLk RX10 146 10 21 "I" := ⟨RX10, TX10, 39, "PalaceOfRoomsModel", rfl, by decide, (fun q => by have h1 := q.1; have h2 := q.2; omega), rfl, in_X10, Or.inl q1000, Or.inl rfl⟩
theorem fp_X10_146_10 : FPk RX10 146 10 21 "I" false := ⟨RX10, TX10, 39, "PalaceOfRoomsModel", tyX10, rfl, by decide, (fun q => by have h1 := q.1; have h2 := q.2; omega), rfl, in_X10, tyX10_ok, (fun a ha b hb h => Or.inl (nmX10 a ha b hb h)), rfl, (fun q => by cases q), (Or.inl q1000), Or.inl rfl⟩
theorem fl_X10_155_10 : FLk RX10 155 10 25 "I" := ⟨RX10, TX10, 39, "PalaceOfRoomsModel", rfl, by decide, (fun q => by have h1 := q.1; have h2 := q.2; omega), rfl, in_X10, Or.inl q1004, Or.inl rfl⟩
theorem fl_X10_149_10 : FLk RX10 149 10 22 "I" := ⟨RX10, TX10, 39, "PalaceOfRoomsModel", rfl, by decide, (fun q => by have h1 := q.1; have h2 := q.2; omega), rfl, in_X10, Or.inl q1001, Or.inl rfl⟩
theorem fl_X10_160_10 : FLk RX10 160 10 23 "J" := ⟨RX10, TX10, 39, "PalaceOfRoomsModel", rfl, by decide, (fun q => by have h1 := q.1; have h2 := q.2; omega), rfl, in_X10, Or.inl q1002, Or.inl rfl⟩
theorem fp_X10_149_10 : FPk RX10 149 10 22 "I" false := ⟨RX10, TX10, 39, "PalaceOfRoomsModel", tyX10, rfl, by decide, (fun q => by have h1 := q.1; have h2 := q.2; omega), rfl, in_X10, tyX10_ok, (fun a ha b hb h => Or.inl (nmX10 a ha b hb h)), rfl, (fun q => by cases q), (Or.inl q1001), Or.inl rfl⟩
abbrev rm_X10_nextToken : Room := { frames := 1, cells := 0, slots := 0, locals := 22 }
set_option maxHeartbeats 4000000 in
theorem w_X10_nextToken_333 {p : Program} {l : Launch} {e : Env} {s : State} {m : MethodId} {args : Array Value} {below : List Frame} {meth : Method} {c : Code} {g : Gl} (X : FX g p m c s args meth cX10_nextToken 1 RX10 none "nextToken") {r : Hp} {σ : Hp} {x0 : Nat}  {H : Heap} {locs : List Loc} {ls : Array Slot} (h : F_X10_nextToken_333 σ x0 = some r) (hV : HV g σ H) (hF : FR g locs) (hl : lv_has ls 1 [(0, .ref x0)]) : W p l e rm_X10_nextToken s m args below meth c H locs 0 0 (MQ below (Qv g r) args s 0 0 (frN g)) (F0 m 333 ls []) := by
  unfold F_X10_nextToken_333 at h
  refine lv_aload_n X.1 X.2.1 dX10_nextToken_333 rfl (lv_at hl 0 rfl) ?_
  refine lv_aload_n X.1 X.2.1 dX10_nextToken_334 rfl (lv_at hl 0 rfl) ?_
  refine r_gI X hV fl_X10_152_10 dX10_nextToken_335 h (fun v1 h => ?_)
  refine lv_iconst (v := 2) X.1 X.2.1 dX10_nextToken_338 (by decide) ?_
  refine r_le (tgt := 348) X.1 X.2.1 dX10_nextToken_339 (by decide) h (fun h => ?_) (fun h => ?_)
  · refine lv_ldc2 (v := (-1)) X.1 X.2.1 X.2.2.2.1 (X.2.2.2.2.1 _ q1218) dX10_nextToken_348 ?_
    refine r_pL X hV hF fp_X10_160_10 (fun q => by cases q) dX10_nextToken_351 h (fun s1 H locs hV hF h => ?_)
    refine lv_goto (tgt := 394) X.1 X.2.1 dX10_nextToken_354 (by decide) ?_
    exact r_vret X hV hF h dX10_nextToken_394
  · refine lv_ldc2 (v := (-4)) X.1 X.2.1 X.2.2.2.1 (X.2.2.2.2.1 _ q1217) dX10_nextToken_342 ?_
    refine lv_goto (tgt := 351) X.1 X.2.1 dX10_nextToken_345 (by decide) ?_
    refine r_pL X hV hF fp_X10_160_10 (fun q => by cases q) dX10_nextToken_351 h (fun s2 H locs hV hF h => ?_)
    refine lv_goto (tgt := 394) X.1 X.2.1 dX10_nextToken_354 (by decide) ?_
    exact r_vret X hV hF h dX10_nextToken_394
set_option maxHeartbeats 4000000 in
theorem w_X10_nextToken_307 {p : Program} {l : Launch} {e : Env} {s : State} {m : MethodId} {args : Array Value} {below : List Frame} {meth : Method} {c : Code} {g : Gl} (X : FX g p m c s args meth cX10_nextToken 1 RX10 none "nextToken") {r : Hp} {rec241 : Hp → Option (Hp)} {σ : Hp} {x0 : Nat} {y0 : Int32} {y1 : Nat} (hr241 : ∀ (st : Hp), rec241 st = some r → ∀ (H : Heap) (locs : List Loc) (ls : Array Slot), HV g st H → FR g locs → lv_has ls 1 [(0, .ref x0)] → W p l e rm_X10_nextToken s m args below meth c H locs 0 0 (MQ below (Qv g r) args s 0 0 (frN g)) (F0 m 241 ls [])) {H : Heap} {locs : List Loc} {ls : Array Slot} (h : F_X10_nextToken_307 rec241 σ x0 y0 y1 = some r) (hV : HV g σ H) (hF : FR g locs) (hl : lv_has ls 1 [(0, .ref x0)]) : W p l e rm_X10_nextToken s m args below meth c H locs 0 0 (MQ below (Qv g r) args s 0 0 (frN g)) (F0 m 307 ls [.int y0, .ref y1]) := by
  unfold F_X10_nextToken_307 at h
  refine r_pI X hV hF fp_X10_155_10 (fun q => by cases q) dX10_nextToken_307 h (fun s1 H locs hV hF h => ?_)
  refine lv_aload_n X.1 X.2.1 dX10_nextToken_310 rfl (lv_at hl 0 rfl) ?_
  refine lv_dup X.1 X.2.1 dX10_nextToken_311 rfl ?_
  refine r_gI X hV fl_X10_152_10 dX10_nextToken_312 h (fun v1 h => ?_)
  refine lv_iconst (v := 1) X.1 X.2.1 dX10_nextToken_315 (by decide) ?_
  refine lv_iadd X.1 X.2.1 dX10_nextToken_316 ?_
  refine r_pI X hV hF fp_X10_152_10 (fun q => by cases q) dX10_nextToken_317 h (fun s2 H locs hV hF h => ?_)
  refine lv_aload_n X.1 X.2.1 dX10_nextToken_320 rfl (lv_at hl 0 rfl) ?_
  refine lv_dup X.1 X.2.1 dX10_nextToken_321 rfl ?_
  refine r_gI X hV fl_X10_146_10 dX10_nextToken_322 h (fun v2 h => ?_)
  refine lv_iconst (v := 1) X.1 X.2.1 dX10_nextToken_325 (by decide) ?_
  refine lv_iadd X.1 X.2.1 dX10_nextToken_326 ?_
  refine r_pI X hV hF fp_X10_146_10 (fun q => by cases q) dX10_nextToken_327 h (fun s3 H locs hV hF h => ?_)
  refine lv_goto (tgt := 241) X.1 X.2.1 dX10_nextToken_330 (by decide) ?_
  exact hr241 s3 h _ _ _ hV hF (lv_sub hl [0] rfl)
set_option maxHeartbeats 4000000 in
theorem w_X10_nextToken_241_b {p : Program} {l : Launch} {e : Env} {s : State} {m : MethodId} {args : Array Value} {below : List Frame} {meth : Method} {c : Code} {g : Gl} (X : FX g p m c s args meth cX10_nextToken 1 RX10 none "nextToken") {r : Hp} {rec241 : Hp → Option (Hp)} {x0 : Nat} {σ : Hp} (hr241 : ∀ (st : Hp), rec241 st = some r → ∀ (H : Heap) (locs : List Loc) (ls : Array Slot), HV g st H → FR g locs → lv_has ls 1 [(0, .ref x0)] → W p l e rm_X10_nextToken s m args below meth c H locs 0 0 (MQ below (Qv g r) args s 0 0 (frN g)) (F0 m 241 ls [])) {H : Heap} {locs : List Loc} {ls : Array Slot} (h : B_X10_nextToken_241 x0 rec241 σ = some r) (hV : HV g σ H) (hF : FR g locs) (hl : lv_has ls 1 [(0, .ref x0)]) : W p l e rm_X10_nextToken s m args below meth c H locs 0 0 (MQ below (Qv g r) args s 0 0 (frN g)) (F0 m 241 ls []) := by
  unfold B_X10_nextToken_241 at h
  refine lv_aload_n X.1 X.2.1 dX10_nextToken_241 rfl (lv_at hl 0 rfl) ?_
  refine r_gI X hV fl_X10_146_10 dX10_nextToken_242 h (fun v1 h => ?_)
  refine lv_aload_n X.1 X.2.1 dX10_nextToken_245 rfl (lv_at hl 0 rfl) ?_
  refine r_gI X hV fl_X10_141_10 dX10_nextToken_246 h (fun v2 h => ?_)
  refine r_ge (tgt := 333) X.1 X.2.1 dX10_nextToken_249 (by decide) h (fun h => ?_) (fun h => ?_)
  · exact w_X10_nextToken_333 X  h hV hF (lv_sub hl [0] rfl)
  · refine lv_aload_n X.1 X.2.1 dX10_nextToken_252 rfl (lv_at hl 0 rfl) ?_
    refine r_gR X hV fl_X10_62_10 (by decide) dX10_nextToken_253 h (fun v3 h => ?_)
    refine lv_aload_n X.1 X.2.1 dX10_nextToken_256 rfl (lv_at hl 0 rfl) ?_
    refine r_gI X hV fl_X10_146_10 dX10_nextToken_257 h (fun v4 h => ?_)
    refine r_ia X hV dX10_nextToken_260 h (fun v5 h => ?_)
    refine lv_bipush (v := 48) X.1 X.2.1 dX10_nextToken_261 (by decide) ?_
    refine lv_bipush (v := 57) X.1 X.2.1 dX10_nextToken_263 (by decide) ?_
    obtain ⟨v6, s1, hc, h⟩ := b2_inv h
    refine r_ci (va_runS (As := [.int v5, .int 48, .int 57]) (rest := []) (cfX X) (c_X10_in l hc) (va_cwS 3 X.2.2.2.2.1 (lw_S q1104 q1105 q59 q1106) rfl rfl rfl yd_X10_in ⟨Nat.le_of_ble_eq_true rfl, Nat.le_of_ble_eq_true rfl⟩) (preS X hV) rfl rfl hl.1 rfl (lv_room (Nat.le_of_ble_eq_true rfl)) dX10_nextToken_265 ⟨(Nat.le_of_ble_eq_true rfl), (Nat.le_of_ble_eq_true rfl)⟩) hF (fun H locs hV hF => ?_)
    refine r_ifeq (tgt := 333) X.1 X.2.1 dX10_nextToken_268 (by decide) h (fun h => ?_) (fun h => ?_)
    · exact w_X10_nextToken_333 X  h hV hF (lv_sub hl [0] rfl)
    · refine lv_aload_n X.1 X.2.1 dX10_nextToken_271 rfl (lv_at hl 0 rfl) ?_
      refine lv_aload_n X.1 X.2.1 dX10_nextToken_272 rfl (lv_at hl 0 rfl) ?_
      refine r_gI X hV fl_X10_152_10 dX10_nextToken_273 h (fun v7 h => ?_)
      refine lv_iconst (v := 2) X.1 X.2.1 dX10_nextToken_276 (by decide) ?_
      refine r_ge (tgt := 303) X.1 X.2.1 dX10_nextToken_277 (by decide) h (fun h => ?_) (fun h => ?_)
      · refine lv_aload_n X.1 X.2.1 dX10_nextToken_303 rfl (lv_at hl 0 rfl) ?_
        refine r_gI X hV fl_X10_155_10 dX10_nextToken_304 h (fun v8 h => ?_)
        exact w_X10_nextToken_307 X hr241 h hV hF (lv_sub hl [0] rfl)
      · refine lv_bipush (v := 10) X.1 X.2.1 dX10_nextToken_280 (by decide) ?_
        refine lv_aload_n X.1 X.2.1 dX10_nextToken_282 rfl (lv_at hl 0 rfl) ?_
        refine r_gI X hV fl_X10_155_10 dX10_nextToken_283 h (fun v9 h => ?_)
        refine lv_imul X.1 X.2.1 dX10_nextToken_286 ?_
        refine lv_aload_n X.1 X.2.1 dX10_nextToken_287 rfl (lv_at hl 0 rfl) ?_
        refine r_gR X hV fl_X10_62_10 (by decide) dX10_nextToken_288 h (fun v10 h => ?_)
        refine lv_aload_n X.1 X.2.1 dX10_nextToken_291 rfl (lv_at hl 0 rfl) ?_
        refine r_gI X hV fl_X10_146_10 dX10_nextToken_292 h (fun v11 h => ?_)
        refine r_ia X hV dX10_nextToken_295 h (fun v12 h => ?_)
        refine lv_iadd X.1 X.2.1 dX10_nextToken_296 ?_
        refine lv_bipush (v := 48) X.1 X.2.1 dX10_nextToken_297 (by decide) ?_
        refine lv_isub X.1 X.2.1 dX10_nextToken_299 ?_
        refine lv_goto (tgt := 307) X.1 X.2.1 dX10_nextToken_300 (by decide) ?_
        exact w_X10_nextToken_307 X hr241 h hV hF (lv_sub hl [0] rfl)
set_option maxHeartbeats 4000000 in
theorem w_X10_nextToken_241 {p : Program} {l : Launch} {e : Env} {s : State} {m : MethodId} {args : Array Value} {below : List Frame} {meth : Method} {c : Code} {g : Gl} (X : FX g p m c s args meth cX10_nextToken 1 RX10 none "nextToken") {r : Hp} {x0 : Nat}  : ∀ (n : Nat) (st : Hp), L_X10_nextToken_241 x0 n st = some r → ∀ (H : Heap) (locs : List Loc) (ls : Array Slot), HV g st H → FR g locs → lv_has ls 1 [(0, .ref x0)] → W p l e rm_X10_nextToken s m args below meth c H locs 0 0 (MQ below (Qv g r) args s 0 0 (frN g)) (F0 m 241 ls []) := by
  intro n
  induction n with
  | zero =>
    intro st h
    rw [L_X10_nextToken_241_0] at h
    cases h
  | succ n ih =>
    intro st h H locs ls hV hF hl
    rw [L_X10_nextToken_241_s] at h
    exact w_X10_nextToken_241_b X  ih h hV hF hl
set_option maxHeartbeats 4000000 in
theorem w_X10_nextToken_191 {p : Program} {l : Launch} {e : Env} {s : State} {m : MethodId} {args : Array Value} {below : List Frame} {meth : Method} {c : Code} {g : Gl} (X : FX g p m c s args meth cX10_nextToken 1 RX10 none "nextToken") {r : Hp} {σ : Hp} {x0 : Nat}  {H : Heap} {locs : List Loc} {ls : Array Slot} (h : F_X10_nextToken_191 σ x0 = some r) (hV : HV g σ H) (hF : FR g locs) (hl : lv_has ls 1 [(0, .ref x0)]) : W p l e rm_X10_nextToken s m args below meth c H locs 0 0 (MQ below (Qv g r) args s 0 0 (frN g)) (F0 m 191 ls []) := by
  unfold F_X10_nextToken_191 at h
  refine lv_aload_n X.1 X.2.1 dX10_nextToken_191 rfl (lv_at hl 0 rfl) ?_
  refine lv_aload_n X.1 X.2.1 dX10_nextToken_192 rfl (lv_at hl 0 rfl) ?_
  refine r_gI X hV fl_X10_146_10 dX10_nextToken_193 h (fun v1 h => ?_)
  refine lv_aload_n X.1 X.2.1 dX10_nextToken_196 rfl (lv_at hl 0 rfl) ?_
  refine r_gI X hV fl_X10_149_10 dX10_nextToken_197 h (fun v2 h => ?_)
  refine lv_isub X.1 X.2.1 dX10_nextToken_200 ?_
  refine lv_bipush (v := 9) X.1 X.2.1 dX10_nextToken_201 (by decide) ?_
  refine r_le (tgt := 212) X.1 X.2.1 dX10_nextToken_203 (by decide) h (fun h => ?_) (fun h => ?_)
  · refine lv_aload_n X.1 X.2.1 dX10_nextToken_212 rfl (lv_at hl 0 rfl) ?_
    refine r_gL X hV fl_X10_160_10 dX10_nextToken_213 h (fun v3 h => ?_)
    refine r_pL X hV hF fp_X10_160_10 (fun q => by cases q) dX10_nextToken_216 h (fun s1 H locs hV hF h => ?_)
    refine lv_goto (tgt := 394) X.1 X.2.1 dX10_nextToken_219 (by decide) ?_
    exact r_vret X hV hF h dX10_nextToken_394
  · refine lv_ldc2 (v := (-4)) X.1 X.2.1 X.2.2.2.1 (X.2.2.2.2.1 _ q1217) dX10_nextToken_206 ?_
    refine lv_goto (tgt := 216) X.1 X.2.1 dX10_nextToken_209 (by decide) ?_
    refine r_pL X hV hF fp_X10_160_10 (fun q => by cases q) dX10_nextToken_216 h (fun s2 H locs hV hF h => ?_)
    refine lv_goto (tgt := 394) X.1 X.2.1 dX10_nextToken_219 (by decide) ?_
    exact r_vret X hV hF h dX10_nextToken_394
set_option maxHeartbeats 4000000 in
theorem w_X10_nextToken_101_b {p : Program} {l : Launch} {e : Env} {s : State} {m : MethodId} {args : Array Value} {below : List Frame} {meth : Method} {c : Code} {g : Gl} (X : FX g p m c s args meth cX10_nextToken 1 RX10 none "nextToken") {r : Hp} {rec101 : Hp → Option (Hp)} {x0 : Nat} {σ : Hp} (hr101 : ∀ (st : Hp), rec101 st = some r → ∀ (H : Heap) (locs : List Loc) (ls : Array Slot), HV g st H → FR g locs → lv_has ls 1 [(0, .ref x0)] → W p l e rm_X10_nextToken s m args below meth c H locs 0 0 (MQ below (Qv g r) args s 0 0 (frN g)) (F0 m 101 ls [])) {H : Heap} {locs : List Loc} {ls : Array Slot} (h : B_X10_nextToken_101 x0 rec101 σ = some r) (hV : HV g σ H) (hF : FR g locs) (hl : lv_has ls 1 [(0, .ref x0)]) : W p l e rm_X10_nextToken s m args below meth c H locs 0 0 (MQ below (Qv g r) args s 0 0 (frN g)) (F0 m 101 ls []) := by
  unfold B_X10_nextToken_101 at h
  refine lv_aload_n X.1 X.2.1 dX10_nextToken_101 rfl (lv_at hl 0 rfl) ?_
  refine r_gI X hV fl_X10_146_10 dX10_nextToken_102 h (fun v1 h => ?_)
  refine lv_aload_n X.1 X.2.1 dX10_nextToken_105 rfl (lv_at hl 0 rfl) ?_
  refine r_gI X hV fl_X10_141_10 dX10_nextToken_106 h (fun v2 h => ?_)
  refine r_ge (tgt := 191) X.1 X.2.1 dX10_nextToken_109 (by decide) h (fun h => ?_) (fun h => ?_)
  · exact w_X10_nextToken_191 X  h hV hF (lv_sub hl [0] rfl)
  · refine lv_aload_n X.1 X.2.1 dX10_nextToken_112 rfl (lv_at hl 0 rfl) ?_
    refine r_gR X hV fl_X10_62_10 (by decide) dX10_nextToken_113 h (fun v3 h => ?_)
    refine lv_aload_n X.1 X.2.1 dX10_nextToken_116 rfl (lv_at hl 0 rfl) ?_
    refine r_gI X hV fl_X10_146_10 dX10_nextToken_117 h (fun v4 h => ?_)
    refine r_ia X hV dX10_nextToken_120 h (fun v5 h => ?_)
    refine lv_bipush (v := 97) X.1 X.2.1 dX10_nextToken_121 (by decide) ?_
    refine lv_bipush (v := 122) X.1 X.2.1 dX10_nextToken_123 (by decide) ?_
    obtain ⟨v6, s1, hc, h⟩ := b2_inv h
    refine r_ci (va_runS (As := [.int v5, .int 97, .int 122]) (rest := []) (cfX X) (c_X10_in l hc) (va_cwS 3 X.2.2.2.2.1 (lw_S q1104 q1105 q59 q1106) rfl rfl rfl yd_X10_in ⟨Nat.le_of_ble_eq_true rfl, Nat.le_of_ble_eq_true rfl⟩) (preS X hV) rfl rfl hl.1 rfl (lv_room (Nat.le_of_ble_eq_true rfl)) dX10_nextToken_125 ⟨(Nat.le_of_ble_eq_true rfl), (Nat.le_of_ble_eq_true rfl)⟩) hF (fun H locs hV hF => ?_)
    refine r_ifeq (tgt := 191) X.1 X.2.1 dX10_nextToken_128 (by decide) h (fun h => ?_) (fun h => ?_)
    · exact w_X10_nextToken_191 X  h hV hF (lv_sub hl [0] rfl)
    · refine lv_aload_n X.1 X.2.1 dX10_nextToken_131 rfl (lv_at hl 0 rfl) ?_
      refine lv_aload_n X.1 X.2.1 dX10_nextToken_132 rfl (lv_at hl 0 rfl) ?_
      refine r_gI X hV fl_X10_146_10 dX10_nextToken_133 h (fun v7 h => ?_)
      refine lv_aload_n X.1 X.2.1 dX10_nextToken_136 rfl (lv_at hl 0 rfl) ?_
      refine r_gI X hV fl_X10_149_10 dX10_nextToken_137 h (fun v8 h => ?_)
      refine lv_isub X.1 X.2.1 dX10_nextToken_140 ?_
      refine lv_bipush (v := 9) X.1 X.2.1 dX10_nextToken_141 (by decide) ?_
      refine r_ge (tgt := 172) X.1 X.2.1 dX10_nextToken_143 (by decide) h (fun h => ?_) (fun h => ?_)
      · refine lv_ldc2 (v := (-4)) X.1 X.2.1 X.2.2.2.1 (X.2.2.2.2.1 _ q1217) dX10_nextToken_172 ?_
        refine r_pL X hV hF fp_X10_160_10 (fun q => by cases q) dX10_nextToken_175 h (fun s2 H locs hV hF h => ?_)
        refine lv_aload_n X.1 X.2.1 dX10_nextToken_178 rfl (lv_at hl 0 rfl) ?_
        refine lv_dup X.1 X.2.1 dX10_nextToken_179 rfl ?_
        refine r_gI X hV fl_X10_146_10 dX10_nextToken_180 h (fun v9 h => ?_)
        refine lv_iconst (v := 1) X.1 X.2.1 dX10_nextToken_183 (by decide) ?_
        refine lv_iadd X.1 X.2.1 dX10_nextToken_184 ?_
        refine r_pI X hV hF fp_X10_146_10 (fun q => by cases q) dX10_nextToken_185 h (fun s3 H locs hV hF h => ?_)
        refine lv_goto (tgt := 101) X.1 X.2.1 dX10_nextToken_188 (by decide) ?_
        exact hr101 s3 h _ _ _ hV hF (lv_sub hl [0] rfl)
      · refine lv_ldc2 (v := 27) X.1 X.2.1 X.2.2.2.1 (X.2.2.2.2.1 _ q1215) dX10_nextToken_146 ?_
        refine lv_aload_n X.1 X.2.1 dX10_nextToken_149 rfl (lv_at hl 0 rfl) ?_
        refine r_gL X hV fl_X10_160_10 dX10_nextToken_150 h (fun v10 h => ?_)
        refine lv_lmul X.1 X.2.1 dX10_nextToken_153 ?_
        refine lv_aload_n X.1 X.2.1 dX10_nextToken_154 rfl (lv_at hl 0 rfl) ?_
        refine r_gR X hV fl_X10_62_10 (by decide) dX10_nextToken_155 h (fun v11 h => ?_)
        refine lv_aload_n X.1 X.2.1 dX10_nextToken_158 rfl (lv_at hl 0 rfl) ?_
        refine r_gI X hV fl_X10_146_10 dX10_nextToken_159 h (fun v12 h => ?_)
        refine r_ia X hV dX10_nextToken_162 h (fun v13 h => ?_)
        refine lv_i2l (v := (v13 : Int32).toInt64) X.1 X.2.1 dX10_nextToken_163 rfl ?_
        refine lv_ladd X.1 X.2.1 dX10_nextToken_164 ?_
        refine lv_ldc2 (v := 96) X.1 X.2.1 X.2.2.2.1 (X.2.2.2.2.1 _ q1216) dX10_nextToken_165 ?_
        refine lv_lsub X.1 X.2.1 dX10_nextToken_168 ?_
        refine lv_goto (tgt := 175) X.1 X.2.1 dX10_nextToken_169 (by decide) ?_
        refine r_pL X hV hF fp_X10_160_10 (fun q => by cases q) dX10_nextToken_175 h (fun s4 H locs hV hF h => ?_)
        refine lv_aload_n X.1 X.2.1 dX10_nextToken_178 rfl (lv_at hl 0 rfl) ?_
        refine lv_dup X.1 X.2.1 dX10_nextToken_179 rfl ?_
        refine r_gI X hV fl_X10_146_10 dX10_nextToken_180 h (fun v14 h => ?_)
        refine lv_iconst (v := 1) X.1 X.2.1 dX10_nextToken_183 (by decide) ?_
        refine lv_iadd X.1 X.2.1 dX10_nextToken_184 ?_
        refine r_pI X hV hF fp_X10_146_10 (fun q => by cases q) dX10_nextToken_185 h (fun s5 H locs hV hF h => ?_)
        refine lv_goto (tgt := 101) X.1 X.2.1 dX10_nextToken_188 (by decide) ?_
        exact hr101 s5 h _ _ _ hV hF (lv_sub hl [0] rfl)
set_option maxHeartbeats 4000000 in
theorem w_X10_nextToken_101 {p : Program} {l : Launch} {e : Env} {s : State} {m : MethodId} {args : Array Value} {below : List Frame} {meth : Method} {c : Code} {g : Gl} (X : FX g p m c s args meth cX10_nextToken 1 RX10 none "nextToken") {r : Hp} {x0 : Nat}  : ∀ (n : Nat) (st : Hp), L_X10_nextToken_101 x0 n st = some r → ∀ (H : Heap) (locs : List Loc) (ls : Array Slot), HV g st H → FR g locs → lv_has ls 1 [(0, .ref x0)] → W p l e rm_X10_nextToken s m args below meth c H locs 0 0 (MQ below (Qv g r) args s 0 0 (frN g)) (F0 m 101 ls []) := by
  intro n
  induction n with
  | zero =>
    intro st h
    rw [L_X10_nextToken_101_0] at h
    cases h
  | succ n ih =>
    intro st h H locs ls hV hF hl
    rw [L_X10_nextToken_101_s] at h
    exact w_X10_nextToken_101_b X  ih h hV hF hl
set_option maxHeartbeats 4000000 in
theorem w_X10_nextToken_38 {p : Program} {l : Launch} {e : Env} {s : State} {m : MethodId} {args : Array Value} {below : List Frame} {meth : Method} {c : Code} {g : Gl} (X : FX g p m c s args meth cX10_nextToken 1 RX10 none "nextToken") {r : Hp} {σ : Hp} {x0 : Nat}  {H : Heap} {locs : List Loc} {ls : Array Slot} (h : F_X10_nextToken_38 σ x0 = some r) (hV : HV g σ H) (hF : FR g locs) (hl : lv_has ls 1 [(0, .ref x0)]) : W p l e rm_X10_nextToken s m args below meth c H locs 0 0 (MQ below (Qv g r) args s 0 0 (frN g)) (F0 m 38 ls []) := by
  unfold F_X10_nextToken_38 at h
  refine lv_aload_n X.1 X.2.1 dX10_nextToken_38 rfl (lv_at hl 0 rfl) ?_
  refine lv_aload_n X.1 X.2.1 dX10_nextToken_39 rfl (lv_at hl 0 rfl) ?_
  refine r_gI X hV fl_X10_146_10 dX10_nextToken_40 h (fun v1 h => ?_)
  refine r_pI X hV hF fp_X10_149_10 (fun q => by cases q) dX10_nextToken_43 h (fun s1 H locs hV hF h => ?_)
  refine lv_aload_n X.1 X.2.1 dX10_nextToken_46 rfl (lv_at hl 0 rfl) ?_
  refine lv_iconst (v := 0) X.1 X.2.1 dX10_nextToken_47 (by decide) ?_
  refine r_pI X hV hF fp_X10_152_10 (fun q => by cases q) dX10_nextToken_48 h (fun s2 H locs hV hF h => ?_)
  refine lv_aload_n X.1 X.2.1 dX10_nextToken_51 rfl (lv_at hl 0 rfl) ?_
  refine lv_iconst (v := 0) X.1 X.2.1 dX10_nextToken_52 (by decide) ?_
  refine r_pI X hV hF fp_X10_155_10 (fun q => by cases q) dX10_nextToken_53 h (fun s3 H locs hV hF h => ?_)
  refine lv_aload_n X.1 X.2.1 dX10_nextToken_56 rfl (lv_at hl 0 rfl) ?_
  refine r_gI X hV fl_X10_146_10 dX10_nextToken_57 h (fun v2 h => ?_)
  refine lv_aload_n X.1 X.2.1 dX10_nextToken_60 rfl (lv_at hl 0 rfl) ?_
  refine r_gI X hV fl_X10_141_10 dX10_nextToken_61 h (fun v3 h => ?_)
  refine r_ne (tgt := 77) X.1 X.2.1 dX10_nextToken_64 (by decide) h (fun h => ?_) (fun h => ?_)
  · refine lv_aload_n X.1 X.2.1 dX10_nextToken_77 rfl (lv_at hl 0 rfl) ?_
    refine r_gR X hV fl_X10_62_10 (by decide) dX10_nextToken_78 h (fun v4 h => ?_)
    refine lv_aload_n X.1 X.2.1 dX10_nextToken_81 rfl (lv_at hl 0 rfl) ?_
    refine r_gI X hV fl_X10_146_10 dX10_nextToken_82 h (fun v5 h => ?_)
    refine r_ia X hV dX10_nextToken_85 h (fun v6 h => ?_)
    refine lv_bipush (v := 97) X.1 X.2.1 dX10_nextToken_86 (by decide) ?_
    refine lv_bipush (v := 122) X.1 X.2.1 dX10_nextToken_88 (by decide) ?_
    obtain ⟨v7, s4, hc, h⟩ := b2_inv h
    refine r_ci (va_runS (As := [.int v6, .int 97, .int 122]) (rest := []) (cfX X) (c_X10_in l hc) (va_cwS 3 X.2.2.2.2.1 (lw_S q1104 q1105 q59 q1106) rfl rfl rfl yd_X10_in ⟨Nat.le_of_ble_eq_true rfl, Nat.le_of_ble_eq_true rfl⟩) (preS X hV) rfl rfl hl.1 rfl (lv_room (Nat.le_of_ble_eq_true rfl)) dX10_nextToken_90 ⟨(Nat.le_of_ble_eq_true rfl), (Nat.le_of_ble_eq_true rfl)⟩) hF (fun H locs hV hF => ?_)
    refine r_ifeq (tgt := 222) X.1 X.2.1 dX10_nextToken_93 (by decide) h (fun h => ?_) (fun h => ?_)
    · refine lv_aload_n X.1 X.2.1 dX10_nextToken_222 rfl (lv_at hl 0 rfl) ?_
      refine r_gR X hV fl_X10_62_10 (by decide) dX10_nextToken_223 h (fun v8 h => ?_)
      refine lv_aload_n X.1 X.2.1 dX10_nextToken_226 rfl (lv_at hl 0 rfl) ?_
      refine r_gI X hV fl_X10_146_10 dX10_nextToken_227 h (fun v9 h => ?_)
      refine r_ia X hV dX10_nextToken_230 h (fun v10 h => ?_)
      refine lv_bipush (v := 48) X.1 X.2.1 dX10_nextToken_231 (by decide) ?_
      refine lv_bipush (v := 57) X.1 X.2.1 dX10_nextToken_233 (by decide) ?_
      obtain ⟨v11, s5, hc, h⟩ := b2_inv h
      refine r_ci (va_runS (As := [.int v10, .int 48, .int 57]) (rest := []) (cfX X) (c_X10_in l hc) (va_cwS 3 X.2.2.2.2.1 (lw_S q1104 q1105 q59 q1106) rfl rfl rfl yd_X10_in ⟨Nat.le_of_ble_eq_true rfl, Nat.le_of_ble_eq_true rfl⟩) (preS X hV) rfl rfl hl.1 rfl (lv_room (Nat.le_of_ble_eq_true rfl)) dX10_nextToken_235 ⟨(Nat.le_of_ble_eq_true rfl), (Nat.le_of_ble_eq_true rfl)⟩) hF (fun H locs hV hF => ?_)
      refine r_ifeq (tgt := 357) X.1 X.2.1 dX10_nextToken_238 (by decide) h (fun h => ?_) (fun h => ?_)
      · refine lv_aload_n X.1 X.2.1 dX10_nextToken_357 rfl (lv_at hl 0 rfl) ?_
        refine lv_aload_n X.1 X.2.1 dX10_nextToken_358 rfl (lv_at hl 0 rfl) ?_
        refine r_gR X hV fl_X10_62_10 (by decide) dX10_nextToken_359 h (fun v12 h => ?_)
        refine lv_aload_n X.1 X.2.1 dX10_nextToken_362 rfl (lv_at hl 0 rfl) ?_
        refine r_gI X hV fl_X10_146_10 dX10_nextToken_363 h (fun v13 h => ?_)
        refine r_ia X hV dX10_nextToken_366 h (fun v14 h => ?_)
        refine lv_bipush (v := 59) X.1 X.2.1 dX10_nextToken_367 (by decide) ?_
        refine r_ne (tgt := 378) X.1 X.2.1 dX10_nextToken_369 (by decide) h (fun h => ?_) (fun h => ?_)
        · refine lv_ldc2 (v := (-4)) X.1 X.2.1 X.2.2.2.1 (X.2.2.2.2.1 _ q1217) dX10_nextToken_378 ?_
          refine r_pL X hV hF fp_X10_160_10 (fun q => by cases q) dX10_nextToken_381 h (fun s6 H locs hV hF h => ?_)
          refine lv_aload_n X.1 X.2.1 dX10_nextToken_384 rfl (lv_at hl 0 rfl) ?_
          refine lv_dup X.1 X.2.1 dX10_nextToken_385 rfl ?_
          refine r_gI X hV fl_X10_146_10 dX10_nextToken_386 h (fun v15 h => ?_)
          refine lv_iconst (v := 1) X.1 X.2.1 dX10_nextToken_389 (by decide) ?_
          refine lv_iadd X.1 X.2.1 dX10_nextToken_390 ?_
          refine r_pI X hV hF fp_X10_146_10 (fun q => by cases q) dX10_nextToken_391 h (fun s7 H locs hV hF h => ?_)
          exact r_vret X hV hF h dX10_nextToken_394
        · refine lv_ldc2 (v := (-3)) X.1 X.2.1 X.2.2.2.1 (X.2.2.2.2.1 _ q1219) dX10_nextToken_372 ?_
          refine lv_goto (tgt := 381) X.1 X.2.1 dX10_nextToken_375 (by decide) ?_
          refine r_pL X hV hF fp_X10_160_10 (fun q => by cases q) dX10_nextToken_381 h (fun s8 H locs hV hF h => ?_)
          refine lv_aload_n X.1 X.2.1 dX10_nextToken_384 rfl (lv_at hl 0 rfl) ?_
          refine lv_dup X.1 X.2.1 dX10_nextToken_385 rfl ?_
          refine r_gI X hV fl_X10_146_10 dX10_nextToken_386 h (fun v16 h => ?_)
          refine lv_iconst (v := 1) X.1 X.2.1 dX10_nextToken_389 (by decide) ?_
          refine lv_iadd X.1 X.2.1 dX10_nextToken_390 ?_
          refine r_pI X hV hF fp_X10_146_10 (fun q => by cases q) dX10_nextToken_391 h (fun s9 H locs hV hF h => ?_)
          exact r_vret X hV hF h dX10_nextToken_394
      · exact w_X10_nextToken_241 X  FU s5 h _ _ _ hV hF (lv_sub hl [0] rfl)
    · refine lv_aload_n X.1 X.2.1 dX10_nextToken_96 rfl (lv_at hl 0 rfl) ?_
      refine lv_lconst (v := 0) X.1 X.2.1 dX10_nextToken_97 (by decide) ?_
      refine r_pL X hV hF fp_X10_160_10 (fun q => by cases q) dX10_nextToken_98 h (fun s10 H locs hV hF h => ?_)
      exact w_X10_nextToken_101 X  FU s10 h _ _ _ hV hF (lv_sub hl [0] rfl)
  · refine lv_aload_n X.1 X.2.1 dX10_nextToken_67 rfl (lv_at hl 0 rfl) ?_
    refine lv_ldc2 (v := (-2)) X.1 X.2.1 X.2.2.2.1 (X.2.2.2.2.1 _ q1214) dX10_nextToken_68 ?_
    refine r_pL X hV hF fp_X10_160_10 (fun q => by cases q) dX10_nextToken_71 h (fun s11 H locs hV hF h => ?_)
    refine lv_goto (tgt := 394) X.1 X.2.1 dX10_nextToken_74 (by decide) ?_
    exact r_vret X hV hF h dX10_nextToken_394
set_option maxHeartbeats 4000000 in
theorem w_X10_nextToken_0_b {p : Program} {l : Launch} {e : Env} {s : State} {m : MethodId} {args : Array Value} {below : List Frame} {meth : Method} {c : Code} {g : Gl} (X : FX g p m c s args meth cX10_nextToken 1 RX10 none "nextToken") {r : Hp} {rec0 : Hp → Option (Hp)} {x0 : Nat} {σ : Hp} (hr0 : ∀ (st : Hp), rec0 st = some r → ∀ (H : Heap) (locs : List Loc) (ls : Array Slot), HV g st H → FR g locs → lv_has ls 1 [(0, .ref x0)] → W p l e rm_X10_nextToken s m args below meth c H locs 0 0 (MQ below (Qv g r) args s 0 0 (frN g)) (F0 m 0 ls [])) {H : Heap} {locs : List Loc} {ls : Array Slot} (h : B_X10_nextToken_0 x0 rec0 σ = some r) (hV : HV g σ H) (hF : FR g locs) (hl : lv_has ls 1 [(0, .ref x0)]) : W p l e rm_X10_nextToken s m args below meth c H locs 0 0 (MQ below (Qv g r) args s 0 0 (frN g)) (F0 m 0 ls []) := by
  unfold B_X10_nextToken_0 at h
  refine lv_aload_n X.1 X.2.1 dX10_nextToken_0 rfl (lv_at hl 0 rfl) ?_
  refine r_gI X hV fl_X10_146_10 dX10_nextToken_1 h (fun v1 h => ?_)
  refine lv_aload_n X.1 X.2.1 dX10_nextToken_4 rfl (lv_at hl 0 rfl) ?_
  refine r_gI X hV fl_X10_141_10 dX10_nextToken_5 h (fun v2 h => ?_)
  refine r_ge (tgt := 38) X.1 X.2.1 dX10_nextToken_8 (by decide) h (fun h => ?_) (fun h => ?_)
  · exact w_X10_nextToken_38 X  h hV hF (lv_sub hl [0] rfl)
  · refine lv_aload_n X.1 X.2.1 dX10_nextToken_11 rfl (lv_at hl 0 rfl) ?_
    refine r_gR X hV fl_X10_62_10 (by decide) dX10_nextToken_12 h (fun v3 h => ?_)
    refine lv_aload_n X.1 X.2.1 dX10_nextToken_15 rfl (lv_at hl 0 rfl) ?_
    refine r_gI X hV fl_X10_146_10 dX10_nextToken_16 h (fun v4 h => ?_)
    refine r_ia X hV dX10_nextToken_19 h (fun v5 h => ?_)
    refine lv_bipush (v := 32) X.1 X.2.1 dX10_nextToken_20 (by decide) ?_
    refine r_ne (tgt := 38) X.1 X.2.1 dX10_nextToken_22 (by decide) h (fun h => ?_) (fun h => ?_)
    · exact w_X10_nextToken_38 X  h hV hF (lv_sub hl [0] rfl)
    · refine lv_aload_n X.1 X.2.1 dX10_nextToken_25 rfl (lv_at hl 0 rfl) ?_
      refine lv_dup X.1 X.2.1 dX10_nextToken_26 rfl ?_
      refine r_gI X hV fl_X10_146_10 dX10_nextToken_27 h (fun v6 h => ?_)
      refine lv_iconst (v := 1) X.1 X.2.1 dX10_nextToken_30 (by decide) ?_
      refine lv_iadd X.1 X.2.1 dX10_nextToken_31 ?_
      refine r_pI X hV hF fp_X10_146_10 (fun q => by cases q) dX10_nextToken_32 h (fun s1 H locs hV hF h => ?_)
      refine lv_goto (tgt := 0) X.1 X.2.1 dX10_nextToken_35 (by decide) ?_
      exact hr0 s1 h _ _ _ hV hF (lv_sub hl [0] rfl)
set_option maxHeartbeats 4000000 in
theorem w_X10_nextToken_0 {p : Program} {l : Launch} {e : Env} {s : State} {m : MethodId} {args : Array Value} {below : List Frame} {meth : Method} {c : Code} {g : Gl} (X : FX g p m c s args meth cX10_nextToken 1 RX10 none "nextToken") {r : Hp} {x0 : Nat}  : ∀ (n : Nat) (st : Hp), L_X10_nextToken_0 x0 n st = some r → ∀ (H : Heap) (locs : List Loc) (ls : Array Slot), HV g st H → FR g locs → lv_has ls 1 [(0, .ref x0)] → W p l e rm_X10_nextToken s m args below meth c H locs 0 0 (MQ below (Qv g r) args s 0 0 (frN g)) (F0 m 0 ls []) := by
  intro n
  induction n with
  | zero =>
    intro st h
    rw [L_X10_nextToken_0_0] at h
    cases h
  | succ n ih =>
    intro st h H locs ls hV hF hl
    rw [L_X10_nextToken_0_s] at h
    exact w_X10_nextToken_0_b X  ih h hV hF hl
set_option maxHeartbeats 4000000 in
theorem c_X10_nextToken (l : Launch) {g : Gl} {σ : Hp} {x0 : Nat} {r : Hp} (h : F_X10_nextToken σ x0 = some r) : Met l yX10_nextToken (ws_ yX10_nextToken cX10_nextToken 1 none) rm_X10_nextToken (va_Pc [.ref x0] (WV g σ)) (Qv g r) 0 0 (frN g) := by
  refine ct_of (by decide) (Nat.le_of_ble_eq_true rfl) ?_
  intro p e s m below meth c ls X hV hl
  have hF : FR g [] := FR_nil
  unfold F_X10_nextToken at h
  have hl : lv_has ls 1 [(0, .ref x0)] := hl
  have X : FX g p m c s _ meth cX10_nextToken 1 RX10 none "nextToken" := X
  obtain ⟨-, h⟩ := gd_inv h
  exact w_X10_nextToken_0 X  FU σ h _ _ _ hV hF (lv_sub hl [0] rfl)
/-! PalaceOfRoomsModel.fails -/
theorem dX10_fails_0 : decode cX10_fails 0 = .ok (.aload_n 0, 1) := by decide +kernel
theorem dX10_fails_1 : decode cX10_fails 1 = .ok (.aload_n 0, 1) := by decide +kernel
theorem dX10_fails_2 : decode cX10_fails 2 = .ok (.getfield 149, 3) := by decide +kernel
theorem dX10_fails_5 : decode cX10_fails 5 = .ok (.putfield 174, 3) := by decide +kernel
theorem dX10_fails_8 : decode cX10_fails 8 = .ok (.iconst 0, 1) := by decide +kernel
theorem dX10_fails_9 : decode cX10_fails 9 = .ok (.ireturn, 1) := by decide +kernel
theorem yd_X10_fails : yX10_fails.cls ≠ "java/lang/invoke/MethodHandle" ∧ yX10_fails.cls ≠ "java/lang/invoke/VarHandle" ∧ (parseMethodDescriptor yX10_fails.desc).map (fun d => d.parameters.length) = some 0 := by decide +kernel
theorem fp_X10_174_10 : FPk RX10 174 10 26 "I" false := ⟨RX10, TX10, 39, "PalaceOfRoomsModel", tyX10, rfl, by decide, (fun q => by have h1 := q.1; have h2 := q.2; omega), rfl, in_X10, tyX10_ok, (fun a ha b hb h => Or.inl (nmX10 a ha b hb h)), rfl, (fun q => by cases q), (Or.inl q1005), Or.inl rfl⟩
abbrev rm_X10_fails : Room := { frames := 0, cells := 0, slots := 0, locals := 0 }
set_option maxHeartbeats 4000000 in
theorem c_X10_fails (l : Launch) {g : Gl} {σ : Hp} {x0 : Nat} {r : Int32 × Hp} (h : F_X10_fails σ x0 = some r) : Met l yX10_fails (ws_ yX10_fails cX10_fails 1 (some .boolean)) rm_X10_fails (va_Pc [.ref x0] (WV g σ)) (Qi g r) 0 0 (frN g) := by
  refine ct_of (by decide) (Nat.le_of_ble_eq_true rfl) ?_
  intro p e s m below meth c ls X hV hl
  have hF : FR g [] := FR_nil
  unfold F_X10_fails at h
  have hl : lv_has ls 1 [(0, .ref x0)] := hl
  have X : FX g p m c s _ meth cX10_fails 1 RX10 (some .boolean) "fails" := X
  obtain ⟨-, h⟩ := gd_inv h
  refine lv_aload_n X.1 X.2.1 dX10_fails_0 rfl (lv_at hl 0 rfl) ?_
  refine lv_aload_n X.1 X.2.1 dX10_fails_1 rfl (lv_at hl 0 rfl) ?_
  refine r_gI X hV fl_X10_149_10 dX10_fails_2 h (fun v1 h => ?_)
  refine r_pI X hV hF fp_X10_174_10 (fun q => by cases q) dX10_fails_5 h (fun s1 H locs hV hF h => ?_)
  refine lv_iconst (v := 0) X.1 X.2.1 dX10_fails_8 (by decide) ?_
  exact r_zret X hV hF h rfl dX10_fails_9
/-! PalaceOfRoomsModel.isNumber -/
theorem dX10_isNumber_0 : decode cX10_isNumber 0 = .ok (.aload_n 0, 1) := by decide +kernel
theorem dX10_isNumber_1 : decode cX10_isNumber 1 = .ok (.invokevirtual 177, 3) := by decide +kernel
theorem dX10_isNumber_4 : decode cX10_isNumber 4 = .ok (.aload_n 0, 1) := by decide +kernel
theorem dX10_isNumber_5 : decode cX10_isNumber 5 = .ok (.getfield 160, 3) := by decide +kernel
theorem dX10_isNumber_8 : decode cX10_isNumber 8 = .ok (.ldc2_w 170, 3) := by decide +kernel
theorem dX10_isNumber_11 : decode cX10_isNumber 11 = .ok (.lcmp, 1) := by decide +kernel
theorem dX10_isNumber_12 : decode cX10_isNumber 12 = .ok (.ifCond .ne 15, 3) := by decide +kernel
theorem dX10_isNumber_15 : decode cX10_isNumber 15 = .ok (.aload_n 0, 1) := by decide +kernel
theorem dX10_isNumber_16 : decode cX10_isNumber 16 = .ok (.getfield 155, 3) := by decide +kernel
theorem dX10_isNumber_19 : decode cX10_isNumber 19 = .ok (.iload_n 2, 1) := by decide +kernel
theorem dX10_isNumber_20 : decode cX10_isNumber 20 = .ok (.iload_n 3, 1) := by decide +kernel
theorem dX10_isNumber_21 : decode cX10_isNumber 21 = .ok (.invokestatic 93, 3) := by decide +kernel
theorem dX10_isNumber_24 : decode cX10_isNumber 24 = .ok (.ifCond .ne 8, 3) := by decide +kernel
theorem dX10_isNumber_27 : decode cX10_isNumber 27 = .ok (.aload_n 0, 1) := by decide +kernel
theorem dX10_isNumber_28 : decode cX10_isNumber 28 = .ok (.invokevirtual 180, 3) := by decide +kernel
theorem dX10_isNumber_31 : decode cX10_isNumber 31 = .ok (.ireturn, 1) := by decide +kernel
theorem dX10_isNumber_32 : decode cX10_isNumber 32 = .ok (.aload_n 0, 1) := by decide +kernel
theorem dX10_isNumber_33 : decode cX10_isNumber 33 = .ok (.getfield 65, 3) := by decide +kernel
theorem dX10_isNumber_36 : decode cX10_isNumber 36 = .ok (.iload_n 1, 1) := by decide +kernel
theorem dX10_isNumber_37 : decode cX10_isNumber 37 = .ok (.aload_n 0, 1) := by decide +kernel
theorem dX10_isNumber_38 : decode cX10_isNumber 38 = .ok (.getfield 155, 3) := by decide +kernel
theorem dX10_isNumber_41 : decode cX10_isNumber 41 = .ok (.iastore, 1) := by decide +kernel
theorem dX10_isNumber_42 : decode cX10_isNumber 42 = .ok (.iconst 1, 1) := by decide +kernel
theorem dX10_isNumber_43 : decode cX10_isNumber 43 = .ok (.ireturn, 1) := by decide +kernel
theorem yd_X10_isNumber : yX10_isNumber.cls ≠ "java/lang/invoke/MethodHandle" ∧ yX10_isNumber.cls ≠ "java/lang/invoke/VarHandle" ∧ (parseMethodDescriptor yX10_isNumber.desc).map (fun d => d.parameters.length) = some 3 := by decide +kernel
theorem fl_X10_65_10 : FLk RX10 65 10 28 "[I" := ⟨RX10, TX10, 39, "PalaceOfRoomsModel", rfl, by decide, (fun q => by have h1 := q.1; have h2 := q.2; omega), rfl, in_X10, Or.inl q1007, Or.inl rfl⟩
abbrev rm_X10_isNumber : Room := { frames := 2, cells := 0, slots := 0, locals := 42 }
set_option maxHeartbeats 4000000 in
theorem c_X10_isNumber (l : Launch) {g : Gl} {σ : Hp} {x0 : Nat} {x1 : Int32} {x2 : Int32} {x3 : Int32} {r : Int32 × Hp} (h : F_X10_isNumber σ x0 x1 x2 x3 = some r) : Met l yX10_isNumber (ws_ yX10_isNumber cX10_isNumber 4 (some .boolean)) rm_X10_isNumber (va_Pc [.ref x0, .int x1, .int x2, .int x3] (WV g σ)) (Qi g r) 0 0 (frN g) := by
  refine ct_of (by decide) (Nat.le_of_ble_eq_true rfl) ?_
  intro p e s m below meth c ls X hV hl
  have hF : FR g [] := FR_nil
  unfold F_X10_isNumber at h
  have hl : lv_has ls 4 [(0, .ref x0), (1, .int x1), (2, .int x2), (3, .int x3)] := hl
  have X : FX g p m c s _ meth cX10_isNumber 4 RX10 (some .boolean) "isNumber" := X
  obtain ⟨-, h⟩ := gd_inv h
  refine lv_aload_n X.1 X.2.1 dX10_isNumber_0 rfl (lv_at hl 0 rfl) ?_
  obtain ⟨s1, hc, h⟩ := b1_inv h
  refine r_cv (va_runV (C := RX10) (As := []) (rest := []) (cfX X) (c_X10_nextToken l hc) (cwV 0 X.2.2.2.2.1 (lw_V q1210 q1212 qs32 q59 q1213) rfl rfl rfl ⟨rfl, yd_X10_nextToken⟩ ⟨Nat.le_of_ble_eq_true rfl, Nat.le_of_ble_eq_true rfl⟩) (preV X hV (F_X10_nextToken_g hc) rfl) rfl rfl hl.1 rfl (lv_room (Nat.le_of_ble_eq_true rfl)) dX10_isNumber_1 ⟨(Nat.le_of_ble_eq_true rfl), (Nat.le_of_ble_eq_true rfl)⟩) hF (fun H locs hV hF => ?_)
  refine lv_aload_n X.1 X.2.1 dX10_isNumber_4 rfl (lv_at hl 0 rfl) ?_
  refine r_gL X hV fl_X10_160_10 dX10_isNumber_5 h (fun v2 h => ?_)
  refine lv_ldc2 (v := (-1)) X.1 X.2.1 X.2.2.2.1 (X.2.2.2.2.1 _ q1218) dX10_isNumber_8 ?_
  refine W.lcmp X.1 X.2.1 dX10_isNumber_11 ?_
  refine r_ifne (tgt := 27) X.1 X.2.1 dX10_isNumber_12 (by decide) h (fun h => ?_) (fun h => ?_)
  · refine lv_aload_n X.1 X.2.1 dX10_isNumber_27 rfl (lv_at hl 0 rfl) ?_
    obtain ⟨v3, s2, hc, h⟩ := b2_inv h
    refine r_ci (va_runV (C := RX10) (As := []) (rest := []) (cfX X) (c_X10_fails l hc) (cwV 0 X.2.2.2.2.1 (lw_V q1228 q1230 qs34 q59 q1231) rfl rfl rfl ⟨rfl, yd_X10_fails⟩ ⟨Nat.le_of_ble_eq_true rfl, Nat.le_of_ble_eq_true rfl⟩) (preV X hV (F_X10_fails_g hc) rfl) rfl rfl hl.1 rfl (lv_room (Nat.le_of_ble_eq_true rfl)) dX10_isNumber_28 ⟨(Nat.le_of_ble_eq_true rfl), (Nat.le_of_ble_eq_true rfl)⟩) hF (fun H locs hV hF => ?_)
    exact r_zrv X hV hF h dX10_isNumber_31
  · refine lv_aload_n X.1 X.2.1 dX10_isNumber_15 rfl (lv_at hl 0 rfl) ?_
    refine r_gI X hV fl_X10_155_10 dX10_isNumber_16 h (fun v4 h => ?_)
    refine lv_iload_n X.1 X.2.1 dX10_isNumber_19 rfl (lv_at hl 2 rfl) ?_
    refine lv_iload_n X.1 X.2.1 dX10_isNumber_20 rfl (lv_at hl 3 rfl) ?_
    obtain ⟨v5, s3, hc, h⟩ := b2_inv h
    refine r_ci (va_runS (As := [.int v4, .int x2, .int x3]) (rest := []) (cfX X) (c_X10_in l hc) (va_cwS 3 X.2.2.2.2.1 (lw_S q1104 q1105 q59 q1106) rfl rfl rfl yd_X10_in ⟨Nat.le_of_ble_eq_true rfl, Nat.le_of_ble_eq_true rfl⟩) (preS X hV) rfl rfl hl.1 rfl (lv_room (Nat.le_of_ble_eq_true rfl)) dX10_isNumber_21 ⟨(Nat.le_of_ble_eq_true rfl), (Nat.le_of_ble_eq_true rfl)⟩) hF (fun H locs hV hF => ?_)
    refine r_ifne (tgt := 32) X.1 X.2.1 dX10_isNumber_24 (by decide) h (fun h => ?_) (fun h => ?_)
    · refine lv_aload_n X.1 X.2.1 dX10_isNumber_32 rfl (lv_at hl 0 rfl) ?_
      refine r_gR X hV fl_X10_65_10 (by decide) dX10_isNumber_33 h (fun v6 h => ?_)
      refine lv_iload_n X.1 X.2.1 dX10_isNumber_36 rfl (lv_at hl 1 rfl) ?_
      refine lv_aload_n X.1 X.2.1 dX10_isNumber_37 rfl (lv_at hl 0 rfl) ?_
      refine r_gI X hV fl_X10_155_10 dX10_isNumber_38 h (fun v7 h => ?_)
      refine r_is X hV hF dX10_isNumber_41 h (fun s4 H locs hV hF h => ?_)
      refine lv_iconst (v := 1) X.1 X.2.1 dX10_isNumber_42 (by decide) ?_
      exact r_zret X hV hF h rfl dX10_isNumber_43
    · refine lv_aload_n X.1 X.2.1 dX10_isNumber_27 rfl (lv_at hl 0 rfl) ?_
      obtain ⟨v8, s5, hc, h⟩ := b2_inv h
      refine r_ci (va_runV (C := RX10) (As := []) (rest := []) (cfX X) (c_X10_fails l hc) (cwV 0 X.2.2.2.2.1 (lw_V q1228 q1230 qs34 q59 q1231) rfl rfl rfl ⟨rfl, yd_X10_fails⟩ ⟨Nat.le_of_ble_eq_true rfl, Nat.le_of_ble_eq_true rfl⟩) (preV X hV (F_X10_fails_g hc) rfl) rfl rfl hl.1 rfl (lv_room (Nat.le_of_ble_eq_true rfl)) dX10_isNumber_28 ⟨(Nat.le_of_ble_eq_true rfl), (Nat.le_of_ble_eq_true rfl)⟩) hF (fun H locs hV hF => ?_)
      exact r_zrv X hV hF h dX10_isNumber_31
/-! PalaceOfRoomsModel.isWord -/
theorem dX10_isWord_0 : decode cX10_isWord 0 = .ok (.aload_n 0, 1) := by decide +kernel
theorem dX10_isWord_1 : decode cX10_isWord 1 = .ok (.invokevirtual 177, 3) := by decide +kernel
theorem dX10_isWord_4 : decode cX10_isWord 4 = .ok (.aload_n 0, 1) := by decide +kernel
theorem dX10_isWord_5 : decode cX10_isWord 5 = .ok (.getfield 160, 3) := by decide +kernel
theorem dX10_isWord_8 : decode cX10_isWord 8 = .ok (.lload_n 1, 1) := by decide +kernel
theorem dX10_isWord_9 : decode cX10_isWord 9 = .ok (.lcmp, 1) := by decide +kernel
theorem dX10_isWord_10 : decode cX10_isWord 10 = .ok (.ifCond .eq 10, 3) := by decide +kernel
theorem dX10_isWord_13 : decode cX10_isWord 13 = .ok (.aload_n 0, 1) := by decide +kernel
theorem dX10_isWord_14 : decode cX10_isWord 14 = .ok (.invokevirtual 180, 3) := by decide +kernel
theorem dX10_isWord_17 : decode cX10_isWord 17 = .ok (.ifCond .eq 7, 3) := by decide +kernel
theorem dX10_isWord_20 : decode cX10_isWord 20 = .ok (.iconst 1, 1) := by decide +kernel
theorem dX10_isWord_21 : decode cX10_isWord 21 = .ok (.goto 4, 3) := by decide +kernel
theorem dX10_isWord_24 : decode cX10_isWord 24 = .ok (.iconst 0, 1) := by decide +kernel
theorem dX10_isWord_25 : decode cX10_isWord 25 = .ok (.ireturn, 1) := by decide +kernel
theorem yd_X10_isWord : yX10_isWord.cls ≠ "java/lang/invoke/MethodHandle" ∧ yX10_isWord.cls ≠ "java/lang/invoke/VarHandle" ∧ (parseMethodDescriptor yX10_isWord.desc).map (fun d => d.parameters.length) = some 1 := by decide +kernel
abbrev rm_X10_isWord : Room := { frames := 2, cells := 0, slots := 0, locals := 42 }
set_option maxHeartbeats 4000000 in
theorem c_X10_isWord (l : Launch) {g : Gl} {σ : Hp} {x0 : Nat} {x1 : Int64} {r : Int32 × Hp} (h : F_X10_isWord σ x0 x1 = some r) : Met l yX10_isWord (ws_ yX10_isWord cX10_isWord 3 (some .boolean)) rm_X10_isWord (va_Pc [.ref x0, .long x1] (WV g σ)) (Qi g r) 0 0 (frN g) := by
  refine ct_of (by decide) (Nat.le_of_ble_eq_true rfl) ?_
  intro p e s m below meth c ls X hV hl
  have hF : FR g [] := FR_nil
  unfold F_X10_isWord at h
  have hl : lv_has ls 3 [(0, .ref x0), (1, .long x1)] := hl
  have X : FX g p m c s _ meth cX10_isWord 3 RX10 (some .boolean) "isWord" := X
  obtain ⟨-, h⟩ := gd_inv h
  refine lv_aload_n X.1 X.2.1 dX10_isWord_0 rfl (lv_at hl 0 rfl) ?_
  obtain ⟨s1, hc, h⟩ := b1_inv h
  refine r_cv (va_runV (C := RX10) (As := []) (rest := []) (cfX X) (c_X10_nextToken l hc) (cwV 0 X.2.2.2.2.1 (lw_V q1210 q1212 qs32 q59 q1213) rfl rfl rfl ⟨rfl, yd_X10_nextToken⟩ ⟨Nat.le_of_ble_eq_true rfl, Nat.le_of_ble_eq_true rfl⟩) (preV X hV (F_X10_nextToken_g hc) rfl) rfl rfl hl.1 rfl (lv_room (Nat.le_of_ble_eq_true rfl)) dX10_isWord_1 ⟨(Nat.le_of_ble_eq_true rfl), (Nat.le_of_ble_eq_true rfl)⟩) hF (fun H locs hV hF => ?_)
  refine lv_aload_n X.1 X.2.1 dX10_isWord_4 rfl (lv_at hl 0 rfl) ?_
  refine r_gL X hV fl_X10_160_10 dX10_isWord_5 h (fun v2 h => ?_)
  refine lv_lload_n X.1 X.2.1 dX10_isWord_8 rfl (lv_at hl 1 rfl) ?_
  refine W.lcmp X.1 X.2.1 dX10_isWord_9 ?_
  refine r_ifeq (tgt := 20) X.1 X.2.1 dX10_isWord_10 (by decide) h (fun h => ?_) (fun h => ?_)
  · refine lv_iconst (v := 1) X.1 X.2.1 dX10_isWord_20 (by decide) ?_
    refine lv_goto (tgt := 25) X.1 X.2.1 dX10_isWord_21 (by decide) ?_
    exact r_zret X hV hF h rfl dX10_isWord_25
  · refine lv_aload_n X.1 X.2.1 dX10_isWord_13 rfl (lv_at hl 0 rfl) ?_
    obtain ⟨v3, s2, hc, h⟩ := b2_inv h
    refine r_ci (va_runV (C := RX10) (As := []) (rest := []) (cfX X) (c_X10_fails l hc) (cwV 0 X.2.2.2.2.1 (lw_V q1228 q1230 qs34 q59 q1231) rfl rfl rfl ⟨rfl, yd_X10_fails⟩ ⟨Nat.le_of_ble_eq_true rfl, Nat.le_of_ble_eq_true rfl⟩) (preV X hV (F_X10_fails_g hc) rfl) rfl rfl hl.1 rfl (lv_room (Nat.le_of_ble_eq_true rfl)) dX10_isWord_14 ⟨(Nat.le_of_ble_eq_true rfl), (Nat.le_of_ble_eq_true rfl)⟩) hF (fun H locs hV hF => ?_)
    refine r_ifeq (tgt := 24) X.1 X.2.1 dX10_isWord_17 (by decide) h (fun h => ?_) (fun h => ?_)
    · refine lv_iconst (v := 0) X.1 X.2.1 dX10_isWord_24 (by decide) ?_
      exact r_zret X hV hF h rfl dX10_isWord_25
    · refine lv_iconst (v := 1) X.1 X.2.1 dX10_isWord_20 (by decide) ?_
      refine lv_goto (tgt := 25) X.1 X.2.1 dX10_isWord_21 (by decide) ?_
      exact r_zret X hV hF h rfl dX10_isWord_25
/-! PalaceOfRoomsModel.isLine -/
theorem dX10_isLine_0 : decode cX10_isLine 0 = .ok (.aload_n 0, 1) := by decide +kernel
theorem dX10_isLine_1 : decode cX10_isLine 1 = .ok (.invokevirtual 177, 3) := by decide +kernel
theorem dX10_isLine_4 : decode cX10_isLine 4 = .ok (.aload_n 0, 1) := by decide +kernel
theorem dX10_isLine_5 : decode cX10_isLine 5 = .ok (.getfield 65, 3) := by decide +kernel
theorem dX10_isLine_8 : decode cX10_isLine 8 = .ok (.iload_n 1, 1) := by decide +kernel
theorem dX10_isLine_9 : decode cX10_isLine 9 = .ok (.aload_n 0, 1) := by decide +kernel
theorem dX10_isLine_10 : decode cX10_isLine 10 = .ok (.getfield 160, 3) := by decide +kernel
theorem dX10_isLine_13 : decode cX10_isLine 13 = .ok (.ldc2_w 184, 3) := by decide +kernel
theorem dX10_isLine_16 : decode cX10_isLine 16 = .ok (.lcmp, 1) := by decide +kernel
theorem dX10_isLine_17 : decode cX10_isLine 17 = .ok (.ifCond .ne 7, 3) := by decide +kernel
theorem dX10_isLine_20 : decode cX10_isLine 20 = .ok (.iconst 0, 1) := by decide +kernel
theorem dX10_isLine_21 : decode cX10_isLine 21 = .ok (.goto 49, 3) := by decide +kernel
theorem dX10_isLine_24 : decode cX10_isLine 24 = .ok (.aload_n 0, 1) := by decide +kernel
theorem dX10_isLine_25 : decode cX10_isLine 25 = .ok (.getfield 160, 3) := by decide +kernel
theorem dX10_isLine_28 : decode cX10_isLine 28 = .ok (.ldc2_w 186, 3) := by decide +kernel
theorem dX10_isLine_31 : decode cX10_isLine 31 = .ok (.lcmp, 1) := by decide +kernel
theorem dX10_isLine_32 : decode cX10_isLine 32 = .ok (.ifCond .ne 7, 3) := by decide +kernel
theorem dX10_isLine_35 : decode cX10_isLine 35 = .ok (.iconst 1, 1) := by decide +kernel
theorem dX10_isLine_36 : decode cX10_isLine 36 = .ok (.goto 34, 3) := by decide +kernel
theorem dX10_isLine_39 : decode cX10_isLine 39 = .ok (.aload_n 0, 1) := by decide +kernel
theorem dX10_isLine_40 : decode cX10_isLine 40 = .ok (.getfield 160, 3) := by decide +kernel
theorem dX10_isLine_43 : decode cX10_isLine 43 = .ok (.ldc2_w 188, 3) := by decide +kernel
theorem dX10_isLine_46 : decode cX10_isLine 46 = .ok (.lcmp, 1) := by decide +kernel
theorem dX10_isLine_47 : decode cX10_isLine 47 = .ok (.ifCond .ne 7, 3) := by decide +kernel
theorem dX10_isLine_50 : decode cX10_isLine 50 = .ok (.iconst 2, 1) := by decide +kernel
theorem dX10_isLine_51 : decode cX10_isLine 51 = .ok (.goto 19, 3) := by decide +kernel
theorem dX10_isLine_54 : decode cX10_isLine 54 = .ok (.aload_n 0, 1) := by decide +kernel
theorem dX10_isLine_55 : decode cX10_isLine 55 = .ok (.getfield 160, 3) := by decide +kernel
theorem dX10_isLine_58 : decode cX10_isLine 58 = .ok (.ldc2_w 190, 3) := by decide +kernel
theorem dX10_isLine_61 : decode cX10_isLine 61 = .ok (.lcmp, 1) := by decide +kernel
theorem dX10_isLine_62 : decode cX10_isLine 62 = .ok (.ifCond .ne 7, 3) := by decide +kernel
theorem dX10_isLine_65 : decode cX10_isLine 65 = .ok (.iconst 3, 1) := by decide +kernel
theorem dX10_isLine_66 : decode cX10_isLine 66 = .ok (.goto 4, 3) := by decide +kernel
theorem dX10_isLine_69 : decode cX10_isLine 69 = .ok (.iconst (-1), 1) := by decide +kernel
theorem dX10_isLine_70 : decode cX10_isLine 70 = .ok (.iastore, 1) := by decide +kernel
theorem dX10_isLine_71 : decode cX10_isLine 71 = .ok (.aload_n 0, 1) := by decide +kernel
theorem dX10_isLine_72 : decode cX10_isLine 72 = .ok (.getfield 65, 3) := by decide +kernel
theorem dX10_isLine_75 : decode cX10_isLine 75 = .ok (.iload_n 1, 1) := by decide +kernel
theorem dX10_isLine_76 : decode cX10_isLine 76 = .ok (.iconst 1, 1) := by decide +kernel
theorem dX10_isLine_77 : decode cX10_isLine 77 = .ok (.iadd, 1) := by decide +kernel
theorem dX10_isLine_78 : decode cX10_isLine 78 = .ok (.iconst 0, 1) := by decide +kernel
theorem dX10_isLine_79 : decode cX10_isLine 79 = .ok (.iastore, 1) := by decide +kernel
theorem dX10_isLine_80 : decode cX10_isLine 80 = .ok (.aload_n 0, 1) := by decide +kernel
theorem dX10_isLine_81 : decode cX10_isLine 81 = .ok (.getfield 65, 3) := by decide +kernel
theorem dX10_isLine_84 : decode cX10_isLine 84 = .ok (.iload_n 1, 1) := by decide +kernel
theorem dX10_isLine_85 : decode cX10_isLine 85 = .ok (.iaload, 1) := by decide +kernel
theorem dX10_isLine_86 : decode cX10_isLine 86 = .ok (.tableswitch 126 0 3 #[30, 62, 73, 84], 30) := by decide +kernel
theorem dX10_isLine_116 : decode cX10_isLine 116 = .ok (.aload_n 0, 1) := by decide +kernel
theorem dX10_isLine_117 : decode cX10_isLine 117 = .ok (.iload_n 1, 1) := by decide +kernel
theorem dX10_isLine_118 : decode cX10_isLine 118 = .ok (.iconst 1, 1) := by decide +kernel
theorem dX10_isLine_119 : decode cX10_isLine 119 = .ok (.iadd, 1) := by decide +kernel
theorem dX10_isLine_120 : decode cX10_isLine 120 = .ok (.iconst 0, 1) := by decide +kernel
theorem dX10_isLine_121 : decode cX10_isLine 121 = .ok (.bipush 7, 2) := by decide +kernel
theorem dX10_isLine_123 : decode cX10_isLine 123 = .ok (.invokevirtual 192, 3) := by decide +kernel
theorem dX10_isLine_126 : decode cX10_isLine 126 = .ok (.ifCond .eq 20, 3) := by decide +kernel
theorem dX10_isLine_129 : decode cX10_isLine 129 = .ok (.aload_n 0, 1) := by decide +kernel
theorem dX10_isLine_130 : decode cX10_isLine 130 = .ok (.iload_n 1, 1) := by decide +kernel
theorem dX10_isLine_131 : decode cX10_isLine 131 = .ok (.iconst 2, 1) := by decide +kernel
theorem dX10_isLine_132 : decode cX10_isLine 132 = .ok (.iadd, 1) := by decide +kernel
theorem dX10_isLine_133 : decode cX10_isLine 133 = .ok (.iconst 0, 1) := by decide +kernel
theorem dX10_isLine_134 : decode cX10_isLine 134 = .ok (.bipush 8, 2) := by decide +kernel
theorem dX10_isLine_136 : decode cX10_isLine 136 = .ok (.invokevirtual 192, 3) := by decide +kernel
theorem dX10_isLine_139 : decode cX10_isLine 139 = .ok (.ifCond .eq 7, 3) := by decide +kernel
theorem dX10_isLine_142 : decode cX10_isLine 142 = .ok (.iconst 1, 1) := by decide +kernel
theorem dX10_isLine_143 : decode cX10_isLine 143 = .ok (.goto 4, 3) := by decide +kernel
theorem dX10_isLine_146 : decode cX10_isLine 146 = .ok (.iconst 0, 1) := by decide +kernel
theorem dX10_isLine_147 : decode cX10_isLine 147 = .ok (.ireturn, 1) := by decide +kernel
theorem dX10_isLine_148 : decode cX10_isLine 148 = .ok (.aload_n 0, 1) := by decide +kernel
theorem dX10_isLine_149 : decode cX10_isLine 149 = .ok (.iload_n 1, 1) := by decide +kernel
theorem dX10_isLine_150 : decode cX10_isLine 150 = .ok (.iconst 2, 1) := by decide +kernel
theorem dX10_isLine_151 : decode cX10_isLine 151 = .ok (.iadd, 1) := by decide +kernel
theorem dX10_isLine_152 : decode cX10_isLine 152 = .ok (.iconst 1, 1) := by decide +kernel
theorem dX10_isLine_153 : decode cX10_isLine 153 = .ok (.bipush 99, 2) := by decide +kernel
theorem dX10_isLine_155 : decode cX10_isLine 155 = .ok (.invokevirtual 192, 3) := by decide +kernel
theorem dX10_isLine_158 : decode cX10_isLine 158 = .ok (.ireturn, 1) := by decide +kernel
theorem dX10_isLine_159 : decode cX10_isLine 159 = .ok (.aload_n 0, 1) := by decide +kernel
theorem dX10_isLine_160 : decode cX10_isLine 160 = .ok (.iload_n 1, 1) := by decide +kernel
theorem dX10_isLine_161 : decode cX10_isLine 161 = .ok (.iconst 2, 1) := by decide +kernel
theorem dX10_isLine_162 : decode cX10_isLine 162 = .ok (.iadd, 1) := by decide +kernel
theorem dX10_isLine_163 : decode cX10_isLine 163 = .ok (.iconst 0, 1) := by decide +kernel
theorem dX10_isLine_164 : decode cX10_isLine 164 = .ok (.bipush 8, 2) := by decide +kernel
theorem dX10_isLine_166 : decode cX10_isLine 166 = .ok (.invokevirtual 192, 3) := by decide +kernel
theorem dX10_isLine_169 : decode cX10_isLine 169 = .ok (.ireturn, 1) := by decide +kernel
theorem dX10_isLine_170 : decode cX10_isLine 170 = .ok (.aload_n 0, 1) := by decide +kernel
theorem dX10_isLine_171 : decode cX10_isLine 171 = .ok (.iload_n 1, 1) := by decide +kernel
theorem dX10_isLine_172 : decode cX10_isLine 172 = .ok (.iconst 1, 1) := by decide +kernel
theorem dX10_isLine_173 : decode cX10_isLine 173 = .ok (.iadd, 1) := by decide +kernel
theorem dX10_isLine_174 : decode cX10_isLine 174 = .ok (.iconst 0, 1) := by decide +kernel
theorem dX10_isLine_175 : decode cX10_isLine 175 = .ok (.bipush 7, 2) := by decide +kernel
theorem dX10_isLine_177 : decode cX10_isLine 177 = .ok (.invokevirtual 192, 3) := by decide +kernel
theorem dX10_isLine_180 : decode cX10_isLine 180 = .ok (.ifCond .eq 30, 3) := by decide +kernel
theorem dX10_isLine_183 : decode cX10_isLine 183 = .ok (.aload_n 0, 1) := by decide +kernel
theorem dX10_isLine_184 : decode cX10_isLine 184 = .ok (.ldc2_w 195, 3) := by decide +kernel
theorem dX10_isLine_187 : decode cX10_isLine 187 = .ok (.invokevirtual 197, 3) := by decide +kernel
theorem dX10_isLine_190 : decode cX10_isLine 190 = .ok (.ifCond .eq 20, 3) := by decide +kernel
theorem dX10_isLine_193 : decode cX10_isLine 193 = .ok (.aload_n 0, 1) := by decide +kernel
theorem dX10_isLine_194 : decode cX10_isLine 194 = .ok (.iload_n 1, 1) := by decide +kernel
theorem dX10_isLine_195 : decode cX10_isLine 195 = .ok (.iconst 2, 1) := by decide +kernel
theorem dX10_isLine_196 : decode cX10_isLine 196 = .ok (.iadd, 1) := by decide +kernel
theorem dX10_isLine_197 : decode cX10_isLine 197 = .ok (.iconst 1, 1) := by decide +kernel
theorem dX10_isLine_198 : decode cX10_isLine 198 = .ok (.bipush 99, 2) := by decide +kernel
theorem dX10_isLine_200 : decode cX10_isLine 200 = .ok (.invokevirtual 192, 3) := by decide +kernel
theorem dX10_isLine_203 : decode cX10_isLine 203 = .ok (.ifCond .eq 7, 3) := by decide +kernel
theorem dX10_isLine_206 : decode cX10_isLine 206 = .ok (.iconst 1, 1) := by decide +kernel
theorem dX10_isLine_207 : decode cX10_isLine 207 = .ok (.goto 4, 3) := by decide +kernel
theorem dX10_isLine_210 : decode cX10_isLine 210 = .ok (.iconst 0, 1) := by decide +kernel
theorem dX10_isLine_211 : decode cX10_isLine 211 = .ok (.ireturn, 1) := by decide +kernel
theorem dX10_isLine_212 : decode cX10_isLine 212 = .ok (.aload_n 0, 1) := by decide +kernel
theorem dX10_isLine_213 : decode cX10_isLine 213 = .ok (.invokevirtual 180, 3) := by decide +kernel
theorem dX10_isLine_216 : decode cX10_isLine 216 = .ok (.ireturn, 1) := by decide +kernel
theorem yd_X10_isLine : yX10_isLine.cls ≠ "java/lang/invoke/MethodHandle" ∧ yX10_isLine.cls ≠ "java/lang/invoke/VarHandle" ∧ (parseMethodDescriptor yX10_isLine.desc).map (fun d => d.parameters.length) = some 1 := by decide +kernel
abbrev rm_X10_isLine : Room := { frames := 3, cells := 0, slots := 0, locals := 65 }
set_option maxHeartbeats 4000000 in
theorem w_X10_isLine_70 {p : Program} {l : Launch} {e : Env} {s : State} {m : MethodId} {args : Array Value} {below : List Frame} {meth : Method} {c : Code} {g : Gl} (X : FX g p m c s args meth cX10_isLine 2 RX10 (some .boolean) "isLine") {r : Int32 × Hp} {σ : Hp} {x0 : Nat} {x1 : Int32} {y0 : Int32} {y1 : Int32} {y2 : Nat}  {H : Heap} {locs : List Loc} {ls : Array Slot} (h : F_X10_isLine_70 σ x0 x1 y0 y1 y2 = some r) (hV : HV g σ H) (hF : FR g locs) (hl : lv_has ls 2 [(0, .ref x0), (1, .int x1)]) : W p l e rm_X10_isLine s m args below meth c H locs 0 0 (MQ below (Qi g r) args s 0 0 (frN g)) (F0 m 70 ls [.int y0, .int y1, .ref y2]) := by
  unfold F_X10_isLine_70 at h
  refine r_is X hV hF dX10_isLine_70 h (fun s1 H locs hV hF h => ?_)
  refine lv_aload_n X.1 X.2.1 dX10_isLine_71 rfl (lv_at hl 0 rfl) ?_
  refine r_gR X hV fl_X10_65_10 (by decide) dX10_isLine_72 h (fun v1 h => ?_)
  refine lv_iload_n X.1 X.2.1 dX10_isLine_75 rfl (lv_at hl 1 rfl) ?_
  refine lv_iconst (v := 1) X.1 X.2.1 dX10_isLine_76 (by decide) ?_
  refine lv_iadd X.1 X.2.1 dX10_isLine_77 ?_
  refine lv_iconst (v := 0) X.1 X.2.1 dX10_isLine_78 (by decide) ?_
  refine r_is X hV hF dX10_isLine_79 h (fun s2 H locs hV hF h => ?_)
  refine lv_aload_n X.1 X.2.1 dX10_isLine_80 rfl (lv_at hl 0 rfl) ?_
  refine r_gR X hV fl_X10_65_10 (by decide) dX10_isLine_81 h (fun v2 h => ?_)
  refine lv_iload_n X.1 X.2.1 dX10_isLine_84 rfl (lv_at hl 1 rfl) ?_
  refine r_ia X hV dX10_isLine_85 h (fun v3 h => ?_)
  refine r_case (tgt := 116) (off := 30) 0 X.1 X.2.1 dX10_isLine_86 (by decide) (by decide) rfl (by decide) h (fun h => ?_) (fun n0 h => ?_)
  · refine lv_aload_n X.1 X.2.1 dX10_isLine_116 rfl (lv_at hl 0 rfl) ?_
    refine lv_iload_n X.1 X.2.1 dX10_isLine_117 rfl (lv_at hl 1 rfl) ?_
    refine lv_iconst (v := 1) X.1 X.2.1 dX10_isLine_118 (by decide) ?_
    refine lv_iadd X.1 X.2.1 dX10_isLine_119 ?_
    refine lv_iconst (v := 0) X.1 X.2.1 dX10_isLine_120 (by decide) ?_
    refine lv_bipush (v := 7) X.1 X.2.1 dX10_isLine_121 (by decide) ?_
    obtain ⟨v4, s3, hc, h⟩ := b2_inv h
    refine r_ci (va_runV (C := RX10) (As := [.int (x1 + 1), .int 0, .int 7]) (rest := []) (cfX X) (c_X10_isNumber l hc) (cwV 3 X.2.2.2.2.1 (lw_V q1224 q1226 qs33 q59 q1227) rfl rfl rfl ⟨rfl, yd_X10_isNumber⟩ ⟨Nat.le_of_ble_eq_true rfl, Nat.le_of_ble_eq_true rfl⟩) (preV X hV (F_X10_isNumber_g hc) rfl) rfl rfl hl.1 rfl (lv_room (Nat.le_of_ble_eq_true rfl)) dX10_isLine_123 ⟨(Nat.le_of_ble_eq_true rfl), (Nat.le_of_ble_eq_true rfl)⟩) hF (fun H locs hV hF => ?_)
    refine r_ifeq (tgt := 146) X.1 X.2.1 dX10_isLine_126 (by decide) h (fun h => ?_) (fun h => ?_)
    · refine lv_iconst (v := 0) X.1 X.2.1 dX10_isLine_146 (by decide) ?_
      exact r_zret X hV hF h rfl dX10_isLine_147
    · refine lv_aload_n X.1 X.2.1 dX10_isLine_129 rfl (lv_at hl 0 rfl) ?_
      refine lv_iload_n X.1 X.2.1 dX10_isLine_130 rfl (lv_at hl 1 rfl) ?_
      refine lv_iconst (v := 2) X.1 X.2.1 dX10_isLine_131 (by decide) ?_
      refine lv_iadd X.1 X.2.1 dX10_isLine_132 ?_
      refine lv_iconst (v := 0) X.1 X.2.1 dX10_isLine_133 (by decide) ?_
      refine lv_bipush (v := 8) X.1 X.2.1 dX10_isLine_134 (by decide) ?_
      obtain ⟨v5, s4, hc, h⟩ := b2_inv h
      refine r_ci (va_runV (C := RX10) (As := [.int (x1 + 2), .int 0, .int 8]) (rest := []) (cfX X) (c_X10_isNumber l hc) (cwV 3 X.2.2.2.2.1 (lw_V q1224 q1226 qs33 q59 q1227) rfl rfl rfl ⟨rfl, yd_X10_isNumber⟩ ⟨Nat.le_of_ble_eq_true rfl, Nat.le_of_ble_eq_true rfl⟩) (preV X hV (F_X10_isNumber_g hc) rfl) rfl rfl hl.1 rfl (lv_room (Nat.le_of_ble_eq_true rfl)) dX10_isLine_136 ⟨(Nat.le_of_ble_eq_true rfl), (Nat.le_of_ble_eq_true rfl)⟩) hF (fun H locs hV hF => ?_)
      refine r_ifeq (tgt := 146) X.1 X.2.1 dX10_isLine_139 (by decide) h (fun h => ?_) (fun h => ?_)
      · refine lv_iconst (v := 0) X.1 X.2.1 dX10_isLine_146 (by decide) ?_
        exact r_zret X hV hF h rfl dX10_isLine_147
      · refine lv_iconst (v := 1) X.1 X.2.1 dX10_isLine_142 (by decide) ?_
        refine lv_goto (tgt := 147) X.1 X.2.1 dX10_isLine_143 (by decide) ?_
        exact r_zret X hV hF h rfl dX10_isLine_147
  refine r_case (tgt := 148) (off := 62) 1 X.1 X.2.1 dX10_isLine_86 (by decide) (by decide) rfl (by decide) h (fun h => ?_) (fun n1 h => ?_)
  · refine lv_aload_n X.1 X.2.1 dX10_isLine_148 rfl (lv_at hl 0 rfl) ?_
    refine lv_iload_n X.1 X.2.1 dX10_isLine_149 rfl (lv_at hl 1 rfl) ?_
    refine lv_iconst (v := 2) X.1 X.2.1 dX10_isLine_150 (by decide) ?_
    refine lv_iadd X.1 X.2.1 dX10_isLine_151 ?_
    refine lv_iconst (v := 1) X.1 X.2.1 dX10_isLine_152 (by decide) ?_
    refine lv_bipush (v := 99) X.1 X.2.1 dX10_isLine_153 (by decide) ?_
    obtain ⟨v6, s5, hc, h⟩ := b2_inv h
    refine r_ci (va_runV (C := RX10) (As := [.int (x1 + 2), .int 1, .int 99]) (rest := []) (cfX X) (c_X10_isNumber l hc) (cwV 3 X.2.2.2.2.1 (lw_V q1224 q1226 qs33 q59 q1227) rfl rfl rfl ⟨rfl, yd_X10_isNumber⟩ ⟨Nat.le_of_ble_eq_true rfl, Nat.le_of_ble_eq_true rfl⟩) (preV X hV (F_X10_isNumber_g hc) rfl) rfl rfl hl.1 rfl (lv_room (Nat.le_of_ble_eq_true rfl)) dX10_isLine_155 ⟨(Nat.le_of_ble_eq_true rfl), (Nat.le_of_ble_eq_true rfl)⟩) hF (fun H locs hV hF => ?_)
    exact r_zrv X hV hF h dX10_isLine_158
  refine r_case (tgt := 159) (off := 73) 2 X.1 X.2.1 dX10_isLine_86 (by decide) (by decide) rfl (by decide) h (fun h => ?_) (fun n2 h => ?_)
  · refine lv_aload_n X.1 X.2.1 dX10_isLine_159 rfl (lv_at hl 0 rfl) ?_
    refine lv_iload_n X.1 X.2.1 dX10_isLine_160 rfl (lv_at hl 1 rfl) ?_
    refine lv_iconst (v := 2) X.1 X.2.1 dX10_isLine_161 (by decide) ?_
    refine lv_iadd X.1 X.2.1 dX10_isLine_162 ?_
    refine lv_iconst (v := 0) X.1 X.2.1 dX10_isLine_163 (by decide) ?_
    refine lv_bipush (v := 8) X.1 X.2.1 dX10_isLine_164 (by decide) ?_
    obtain ⟨v7, s6, hc, h⟩ := b2_inv h
    refine r_ci (va_runV (C := RX10) (As := [.int (x1 + 2), .int 0, .int 8]) (rest := []) (cfX X) (c_X10_isNumber l hc) (cwV 3 X.2.2.2.2.1 (lw_V q1224 q1226 qs33 q59 q1227) rfl rfl rfl ⟨rfl, yd_X10_isNumber⟩ ⟨Nat.le_of_ble_eq_true rfl, Nat.le_of_ble_eq_true rfl⟩) (preV X hV (F_X10_isNumber_g hc) rfl) rfl rfl hl.1 rfl (lv_room (Nat.le_of_ble_eq_true rfl)) dX10_isLine_166 ⟨(Nat.le_of_ble_eq_true rfl), (Nat.le_of_ble_eq_true rfl)⟩) hF (fun H locs hV hF => ?_)
    exact r_zrv X hV hF h dX10_isLine_169
  refine r_case (tgt := 170) (off := 84) 3 X.1 X.2.1 dX10_isLine_86 (by decide) (by decide) rfl (by decide) h (fun h => ?_) (fun n3 h => ?_)
  · refine lv_aload_n X.1 X.2.1 dX10_isLine_170 rfl (lv_at hl 0 rfl) ?_
    refine lv_iload_n X.1 X.2.1 dX10_isLine_171 rfl (lv_at hl 1 rfl) ?_
    refine lv_iconst (v := 1) X.1 X.2.1 dX10_isLine_172 (by decide) ?_
    refine lv_iadd X.1 X.2.1 dX10_isLine_173 ?_
    refine lv_iconst (v := 0) X.1 X.2.1 dX10_isLine_174 (by decide) ?_
    refine lv_bipush (v := 7) X.1 X.2.1 dX10_isLine_175 (by decide) ?_
    obtain ⟨v8, s7, hc, h⟩ := b2_inv h
    refine r_ci (va_runV (C := RX10) (As := [.int (x1 + 1), .int 0, .int 7]) (rest := []) (cfX X) (c_X10_isNumber l hc) (cwV 3 X.2.2.2.2.1 (lw_V q1224 q1226 qs33 q59 q1227) rfl rfl rfl ⟨rfl, yd_X10_isNumber⟩ ⟨Nat.le_of_ble_eq_true rfl, Nat.le_of_ble_eq_true rfl⟩) (preV X hV (F_X10_isNumber_g hc) rfl) rfl rfl hl.1 rfl (lv_room (Nat.le_of_ble_eq_true rfl)) dX10_isLine_177 ⟨(Nat.le_of_ble_eq_true rfl), (Nat.le_of_ble_eq_true rfl)⟩) hF (fun H locs hV hF => ?_)
    refine r_ifeq (tgt := 210) X.1 X.2.1 dX10_isLine_180 (by decide) h (fun h => ?_) (fun h => ?_)
    · refine lv_iconst (v := 0) X.1 X.2.1 dX10_isLine_210 (by decide) ?_
      exact r_zret X hV hF h rfl dX10_isLine_211
    · refine lv_aload_n X.1 X.2.1 dX10_isLine_183 rfl (lv_at hl 0 rfl) ?_
      refine lv_ldc2 (v := 3094387) X.1 X.2.1 X.2.2.2.1 (X.2.2.2.2.1 _ q1232) dX10_isLine_184 ?_
      obtain ⟨v9, s8, hc, h⟩ := b2_inv h
      refine r_ci (va_runV (C := RX10) (As := [.long 3094387]) (rest := []) (cfX X) (c_X10_isWord l hc) (cwV 1 X.2.2.2.2.1 (lw_V q1233 q1235 qs35 q59 q1236) rfl rfl rfl ⟨rfl, yd_X10_isWord⟩ ⟨Nat.le_of_ble_eq_true rfl, Nat.le_of_ble_eq_true rfl⟩) (preV X hV (F_X10_isWord_g hc) rfl) rfl rfl hl.1 rfl (lv_room (Nat.le_of_ble_eq_true rfl)) dX10_isLine_187 ⟨(Nat.le_of_ble_eq_true rfl), (Nat.le_of_ble_eq_true rfl)⟩) hF (fun H locs hV hF => ?_)
      refine r_ifeq (tgt := 210) X.1 X.2.1 dX10_isLine_190 (by decide) h (fun h => ?_) (fun h => ?_)
      · refine lv_iconst (v := 0) X.1 X.2.1 dX10_isLine_210 (by decide) ?_
        exact r_zret X hV hF h rfl dX10_isLine_211
      · refine lv_aload_n X.1 X.2.1 dX10_isLine_193 rfl (lv_at hl 0 rfl) ?_
        refine lv_iload_n X.1 X.2.1 dX10_isLine_194 rfl (lv_at hl 1 rfl) ?_
        refine lv_iconst (v := 2) X.1 X.2.1 dX10_isLine_195 (by decide) ?_
        refine lv_iadd X.1 X.2.1 dX10_isLine_196 ?_
        refine lv_iconst (v := 1) X.1 X.2.1 dX10_isLine_197 (by decide) ?_
        refine lv_bipush (v := 99) X.1 X.2.1 dX10_isLine_198 (by decide) ?_
        obtain ⟨v10, s9, hc, h⟩ := b2_inv h
        refine r_ci (va_runV (C := RX10) (As := [.int (x1 + 2), .int 1, .int 99]) (rest := []) (cfX X) (c_X10_isNumber l hc) (cwV 3 X.2.2.2.2.1 (lw_V q1224 q1226 qs33 q59 q1227) rfl rfl rfl ⟨rfl, yd_X10_isNumber⟩ ⟨Nat.le_of_ble_eq_true rfl, Nat.le_of_ble_eq_true rfl⟩) (preV X hV (F_X10_isNumber_g hc) rfl) rfl rfl hl.1 rfl (lv_room (Nat.le_of_ble_eq_true rfl)) dX10_isLine_200 ⟨(Nat.le_of_ble_eq_true rfl), (Nat.le_of_ble_eq_true rfl)⟩) hF (fun H locs hV hF => ?_)
        refine r_ifeq (tgt := 210) X.1 X.2.1 dX10_isLine_203 (by decide) h (fun h => ?_) (fun h => ?_)
        · refine lv_iconst (v := 0) X.1 X.2.1 dX10_isLine_210 (by decide) ?_
          exact r_zret X hV hF h rfl dX10_isLine_211
        · refine lv_iconst (v := 1) X.1 X.2.1 dX10_isLine_206 (by decide) ?_
          refine lv_goto (tgt := 211) X.1 X.2.1 dX10_isLine_207 (by decide) ?_
          exact r_zret X hV hF h rfl dX10_isLine_211
  refine lv_tableOut (tgt := 212) X.1 X.2.1 dX10_isLine_86 (tsw_out (n := 4) (by decide) (fun i hi => by
    match i, hi with
    | 0, _ => exact n0
    | 1, _ => exact n1
    | 2, _ => exact n2
    | 3, _ => exact n3)) (by decide) ?_
  refine lv_aload_n X.1 X.2.1 dX10_isLine_212 rfl (lv_at hl 0 rfl) ?_
  obtain ⟨v11, s10, hc, h⟩ := b2_inv h
  refine r_ci (va_runV (C := RX10) (As := []) (rest := []) (cfX X) (c_X10_fails l hc) (cwV 0 X.2.2.2.2.1 (lw_V q1228 q1230 qs34 q59 q1231) rfl rfl rfl ⟨rfl, yd_X10_fails⟩ ⟨Nat.le_of_ble_eq_true rfl, Nat.le_of_ble_eq_true rfl⟩) (preV X hV (F_X10_fails_g hc) rfl) rfl rfl hl.1 rfl (lv_room (Nat.le_of_ble_eq_true rfl)) dX10_isLine_213 ⟨(Nat.le_of_ble_eq_true rfl), (Nat.le_of_ble_eq_true rfl)⟩) hF (fun H locs hV hF => ?_)
  exact r_zrv X hV hF h dX10_isLine_216
set_option maxHeartbeats 4000000 in
theorem c_X10_isLine (l : Launch) {g : Gl} {σ : Hp} {x0 : Nat} {x1 : Int32} {r : Int32 × Hp} (h : F_X10_isLine σ x0 x1 = some r) : Met l yX10_isLine (ws_ yX10_isLine cX10_isLine 2 (some .boolean)) rm_X10_isLine (va_Pc [.ref x0, .int x1] (WV g σ)) (Qi g r) 0 0 (frN g) := by
  refine ct_of (by decide) (Nat.le_of_ble_eq_true rfl) ?_
  intro p e s m below meth c ls X hV hl
  have hF : FR g [] := FR_nil
  unfold F_X10_isLine at h
  have hl : lv_has ls 2 [(0, .ref x0), (1, .int x1)] := hl
  have X : FX g p m c s _ meth cX10_isLine 2 RX10 (some .boolean) "isLine" := X
  obtain ⟨-, h⟩ := gd_inv h
  refine lv_aload_n X.1 X.2.1 dX10_isLine_0 rfl (lv_at hl 0 rfl) ?_
  obtain ⟨s1, hc, h⟩ := b1_inv h
  refine r_cv (va_runV (C := RX10) (As := []) (rest := []) (cfX X) (c_X10_nextToken l hc) (cwV 0 X.2.2.2.2.1 (lw_V q1210 q1212 qs32 q59 q1213) rfl rfl rfl ⟨rfl, yd_X10_nextToken⟩ ⟨Nat.le_of_ble_eq_true rfl, Nat.le_of_ble_eq_true rfl⟩) (preV X hV (F_X10_nextToken_g hc) rfl) rfl rfl hl.1 rfl (lv_room (Nat.le_of_ble_eq_true rfl)) dX10_isLine_1 ⟨(Nat.le_of_ble_eq_true rfl), (Nat.le_of_ble_eq_true rfl)⟩) hF (fun H locs hV hF => ?_)
  refine lv_aload_n X.1 X.2.1 dX10_isLine_4 rfl (lv_at hl 0 rfl) ?_
  refine r_gR X hV fl_X10_65_10 (by decide) dX10_isLine_5 h (fun v2 h => ?_)
  refine lv_iload_n X.1 X.2.1 dX10_isLine_8 rfl (lv_at hl 1 rfl) ?_
  refine lv_aload_n X.1 X.2.1 dX10_isLine_9 rfl (lv_at hl 0 rfl) ?_
  refine r_gL X hV fl_X10_160_10 dX10_isLine_10 h (fun v3 h => ?_)
  refine lv_ldc2 (v := 365647) X.1 X.2.1 X.2.2.2.1 (X.2.2.2.2.1 _ q1220) dX10_isLine_13 ?_
  refine W.lcmp X.1 X.2.1 dX10_isLine_16 ?_
  refine r_ifne (tgt := 24) X.1 X.2.1 dX10_isLine_17 (by decide) h (fun h => ?_) (fun h => ?_)
  · refine lv_aload_n X.1 X.2.1 dX10_isLine_24 rfl (lv_at hl 0 rfl) ?_
    refine r_gL X hV fl_X10_160_10 dX10_isLine_25 h (fun v4 h => ?_)
    refine lv_ldc2 (v := 670208) X.1 X.2.1 X.2.2.2.1 (X.2.2.2.2.1 _ q1221) dX10_isLine_28 ?_
    refine W.lcmp X.1 X.2.1 dX10_isLine_31 ?_
    refine r_ifne (tgt := 39) X.1 X.2.1 dX10_isLine_32 (by decide) h (fun h => ?_) (fun h => ?_)
    · refine lv_aload_n X.1 X.2.1 dX10_isLine_39 rfl (lv_at hl 0 rfl) ?_
      refine r_gL X hV fl_X10_160_10 dX10_isLine_40 h (fun v5 h => ?_)
      refine lv_ldc2 (v := 847604) X.1 X.2.1 X.2.2.2.1 (X.2.2.2.2.1 _ q1222) dX10_isLine_43 ?_
      refine W.lcmp X.1 X.2.1 dX10_isLine_46 ?_
      refine r_ifne (tgt := 54) X.1 X.2.1 dX10_isLine_47 (by decide) h (fun h => ?_) (fun h => ?_)
      · refine lv_aload_n X.1 X.2.1 dX10_isLine_54 rfl (lv_at hl 0 rfl) ?_
        refine r_gL X hV fl_X10_160_10 dX10_isLine_55 h (fun v6 h => ?_)
        refine lv_ldc2 (v := 453773) X.1 X.2.1 X.2.2.2.1 (X.2.2.2.2.1 _ q1223) dX10_isLine_58 ?_
        refine W.lcmp X.1 X.2.1 dX10_isLine_61 ?_
        refine r_ifne (tgt := 69) X.1 X.2.1 dX10_isLine_62 (by decide) h (fun h => ?_) (fun h => ?_)
        · refine lv_iconst (v := (-1)) X.1 X.2.1 dX10_isLine_69 (by decide) ?_
          exact w_X10_isLine_70 X  h hV hF (lv_sub hl [0, 1] rfl)
        · refine lv_iconst (v := 3) X.1 X.2.1 dX10_isLine_65 (by decide) ?_
          refine lv_goto (tgt := 70) X.1 X.2.1 dX10_isLine_66 (by decide) ?_
          exact w_X10_isLine_70 X  h hV hF (lv_sub hl [0, 1] rfl)
      · refine lv_iconst (v := 2) X.1 X.2.1 dX10_isLine_50 (by decide) ?_
        refine lv_goto (tgt := 70) X.1 X.2.1 dX10_isLine_51 (by decide) ?_
        exact w_X10_isLine_70 X  h hV hF (lv_sub hl [0, 1] rfl)
    · refine lv_iconst (v := 1) X.1 X.2.1 dX10_isLine_35 (by decide) ?_
      refine lv_goto (tgt := 70) X.1 X.2.1 dX10_isLine_36 (by decide) ?_
      exact w_X10_isLine_70 X  h hV hF (lv_sub hl [0, 1] rfl)
  · refine lv_iconst (v := 0) X.1 X.2.1 dX10_isLine_20 (by decide) ?_
    refine lv_goto (tgt := 70) X.1 X.2.1 dX10_isLine_21 (by decide) ?_
    exact w_X10_isLine_70 X  h hV hF (lv_sub hl [0, 1] rfl)
