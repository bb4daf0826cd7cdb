set_option maxRecDepth 100000
/-! PalaceOfRooms.<init> -/
theorem dX0_init_0 : decode cX0_init 0 = .ok (.aload_n 0, 1) := by decide +kernel
theorem dX0_init_1 : decode cX0_init 1 = .ok (.invokespecial 13, 3) := by decide +kernel
theorem dX0_init_4 : decode cX0_init 4 = .ok (.aload_n 0, 1) := by decide +kernel
theorem dX0_init_5 : decode cX0_init 5 = .ok (.bipush 8, 2) := by decide +kernel
theorem dX0_init_7 : decode cX0_init 7 = .ok (.bipush 8, 2) := by decide +kernel
theorem dX0_init_9 : decode cX0_init 9 = .ok (.multianewarray 19 2, 4) := by decide +kernel
theorem dX0_init_13 : decode cX0_init 13 = .ok (.putfield 21, 3) := by decide +kernel
theorem dX0_init_16 : decode cX0_init 16 = .ok (.aload_n 0, 1) := by decide +kernel
theorem dX0_init_17 : decode cX0_init 17 = .ok (.bipush 24, 2) := by decide +kernel
theorem dX0_init_19 : decode cX0_init 19 = .ok (.newarray .int, 2) := by decide +kernel
theorem dX0_init_21 : decode cX0_init 21 = .ok (.putfield 24, 3) := by decide +kernel
theorem dX0_init_24 : decode cX0_init 24 = .ok (.aload_n 0, 1) := by decide +kernel
theorem dX0_init_25 : decode cX0_init 25 = .ok (.iconst 4, 1) := by decide +kernel
theorem dX0_init_26 : decode cX0_init 26 = .ok (.putfield 28, 3) := by decide +kernel
theorem dX0_init_29 : decode cX0_init 29 = .ok (.aload_n 0, 1) := by decide +kernel
theorem dX0_init_30 : decode cX0_init 30 = .ok (.bipush 50, 2) := by decide +kernel
theorem dX0_init_32 : decode cX0_init 32 = .ok (.putfield 32, 3) := by decide +kernel
theorem dX0_init_35 : decode cX0_init 35 = .ok (.aload_n 0, 1) := by decide +kernel
theorem dX0_init_36 : decode cX0_init 36 = .ok (.bipush 11, 2) := by decide +kernel
theorem dX0_init_38 : decode cX0_init 38 = .ok (.newarray .int, 2) := by decide +kernel
theorem dX0_init_40 : decode cX0_init 40 = .ok (.dup, 1) := by decide +kernel
theorem dX0_init_41 : decode cX0_init 41 = .ok (.iconst 0, 1) := by decide +kernel
theorem dX0_init_42 : decode cX0_init 42 = .ok (.iconst 5, 1) := by decide +kernel
theorem dX0_init_43 : decode cX0_init 43 = .ok (.iastore, 1) := by decide +kernel
theorem dX0_init_44 : decode cX0_init 44 = .ok (.dup, 1) := by decide +kernel
theorem dX0_init_45 : decode cX0_init 45 = .ok (.iconst 1, 1) := by decide +kernel
theorem dX0_init_46 : decode cX0_init 46 = .ok (.iconst 5, 1) := by decide +kernel
theorem dX0_init_47 : decode cX0_init 47 = .ok (.iastore, 1) := by decide +kernel
theorem dX0_init_48 : decode cX0_init 48 = .ok (.dup, 1) := by decide +kernel
theorem dX0_init_49 : decode cX0_init 49 = .ok (.iconst 2, 1) := by decide +kernel
theorem dX0_init_50 : decode cX0_init 50 = .ok (.iconst 5, 1) := by decide +kernel
theorem dX0_init_51 : decode cX0_init 51 = .ok (.iastore, 1) := by decide +kernel
theorem dX0_init_52 : decode cX0_init 52 = .ok (.dup, 1) := by decide +kernel
theorem dX0_init_53 : decode cX0_init 53 = .ok (.iconst 3, 1) := by decide +kernel
theorem dX0_init_54 : decode cX0_init 54 = .ok (.iconst 5, 1) := by decide +kernel
theorem dX0_init_55 : decode cX0_init 55 = .ok (.iastore, 1) := by decide +kernel
theorem dX0_init_56 : decode cX0_init 56 = .ok (.dup, 1) := by decide +kernel
theorem dX0_init_57 : decode cX0_init 57 = .ok (.iconst 4, 1) := by decide +kernel
theorem dX0_init_58 : decode cX0_init 58 = .ok (.iconst 5, 1) := by decide +kernel
theorem dX0_init_59 : decode cX0_init 59 = .ok (.iastore, 1) := by decide +kernel
theorem dX0_init_60 : decode cX0_init 60 = .ok (.dup, 1) := by decide +kernel
theorem dX0_init_61 : decode cX0_init 61 = .ok (.iconst 5, 1) := by decide +kernel
theorem dX0_init_62 : decode cX0_init 62 = .ok (.iconst 5, 1) := by decide +kernel
theorem dX0_init_63 : decode cX0_init 63 = .ok (.iastore, 1) := by decide +kernel
theorem dX0_init_64 : decode cX0_init 64 = .ok (.dup, 1) := by decide +kernel
theorem dX0_init_65 : decode cX0_init 65 = .ok (.bipush 6, 2) := by decide +kernel
theorem dX0_init_67 : decode cX0_init 67 = .ok (.iconst 5, 1) := by decide +kernel
theorem dX0_init_68 : decode cX0_init 68 = .ok (.iastore, 1) := by decide +kernel
theorem dX0_init_69 : decode cX0_init 69 = .ok (.dup, 1) := by decide +kernel
theorem dX0_init_70 : decode cX0_init 70 = .ok (.bipush 7, 2) := by decide +kernel
theorem dX0_init_72 : decode cX0_init 72 = .ok (.iconst 5, 1) := by decide +kernel
theorem dX0_init_73 : decode cX0_init 73 = .ok (.iastore, 1) := by decide +kernel
theorem dX0_init_74 : decode cX0_init 74 = .ok (.dup, 1) := by decide +kernel
theorem dX0_init_75 : decode cX0_init 75 = .ok (.bipush 8, 2) := by decide +kernel
theorem dX0_init_77 : decode cX0_init 77 = .ok (.iconst 5, 1) := by decide +kernel
theorem dX0_init_78 : decode cX0_init 78 = .ok (.iastore, 1) := by decide +kernel
theorem dX0_init_79 : decode cX0_init 79 = .ok (.dup, 1) := by decide +kernel
theorem dX0_init_80 : decode cX0_init 80 = .ok (.bipush 9, 2) := by decide +kernel
theorem dX0_init_82 : decode cX0_init 82 = .ok (.iconst 5, 1) := by decide +kernel
theorem dX0_init_83 : decode cX0_init 83 = .ok (.iastore, 1) := by decide +kernel
theorem dX0_init_84 : decode cX0_init 84 = .ok (.dup, 1) := by decide +kernel
theorem dX0_init_85 : decode cX0_init 85 = .ok (.bipush 10, 2) := by decide +kernel
theorem dX0_init_87 : decode cX0_init 87 = .ok (.iconst 5, 1) := by decide +kernel
theorem dX0_init_88 : decode cX0_init 88 = .ok (.iastore, 1) := by decide +kernel
theorem dX0_init_89 : decode cX0_init 89 = .ok (.putfield 35, 3) := by decide +kernel
theorem dX0_init_92 : decode cX0_init 92 = .ok (.aload_n 0, 1) := by decide +kernel
theorem dX0_init_93 : decode cX0_init 93 = .ok (.new 38, 3) := by decide +kernel
theorem dX0_init_96 : decode cX0_init 96 = .ok (.dup, 1) := by decide +kernel
theorem dX0_init_97 : decode cX0_init 97 = .ok (.aload_n 0, 1) := by decide +kernel
theorem dX0_init_98 : decode cX0_init 98 = .ok (.invokespecial 40, 3) := by decide +kernel
theorem dX0_init_101 : decode cX0_init 101 = .ok (.putfield 43, 3) := by decide +kernel
theorem dX0_init_104 : decode cX0_init 104 = .ok (.aload_n 0, 1) := by decide +kernel
theorem dX0_init_105 : decode cX0_init 105 = .ok (.new 38, 3) := by decide +kernel
theorem dX0_init_108 : decode cX0_init 108 = .ok (.dup, 1) := by decide +kernel
theorem dX0_init_109 : decode cX0_init 109 = .ok (.aload_n 0, 1) := by decide +kernel
theorem dX0_init_110 : decode cX0_init 110 = .ok (.invokespecial 40, 3) := by decide +kernel
theorem dX0_init_113 : decode cX0_init 113 = .ok (.putfield 47, 3) := by decide +kernel
theorem dX0_init_116 : decode cX0_init 116 = .ok (.aload_n 0, 1) := by decide +kernel
theorem dX0_init_117 : decode cX0_init 117 = .ok (.bipush 8, 2) := by decide +kernel
theorem dX0_init_119 : decode cX0_init 119 = .ok (.newarray .int, 2) := by decide +kernel
theorem dX0_init_121 : decode cX0_init 121 = .ok (.dup, 1) := by decide +kernel
theorem dX0_init_122 : decode cX0_init 122 = .ok (.iconst 0, 1) := by decide +kernel
theorem dX0_init_123 : decode cX0_init 123 = .ok (.iconst (-1), 1) := by decide +kernel
theorem dX0_init_124 : decode cX0_init 124 = .ok (.iastore, 1) := by decide +kernel
theorem dX0_init_125 : decode cX0_init 125 = .ok (.dup, 1) := by decide +kernel
theorem dX0_init_126 : decode cX0_init 126 = .ok (.iconst 1, 1) := by decide +kernel
theorem dX0_init_127 : decode cX0_init 127 = .ok (.iconst (-1), 1) := by decide +kernel
theorem dX0_init_128 : decode cX0_init 128 = .ok (.iastore, 1) := by decide +kernel
theorem dX0_init_129 : decode cX0_init 129 = .ok (.dup, 1) := by decide +kernel
theorem dX0_init_130 : decode cX0_init 130 = .ok (.iconst 2, 1) := by decide +kernel
theorem dX0_init_131 : decode cX0_init 131 = .ok (.iconst (-1), 1) := by decide +kernel
theorem dX0_init_132 : decode cX0_init 132 = .ok (.iastore, 1) := by decide +kernel
theorem dX0_init_133 : decode cX0_init 133 = .ok (.dup, 1) := by decide +kernel
theorem dX0_init_134 : decode cX0_init 134 = .ok (.iconst 3, 1) := by decide +kernel
theorem dX0_init_135 : decode cX0_init 135 = .ok (.iconst (-1), 1) := by decide +kernel
theorem dX0_init_136 : decode cX0_init 136 = .ok (.iastore, 1) := by decide +kernel
theorem dX0_init_137 : decode cX0_init 137 = .ok (.dup, 1) := by decide +kernel
theorem dX0_init_138 : decode cX0_init 138 = .ok (.iconst 4, 1) := by decide +kernel
theorem dX0_init_139 : decode cX0_init 139 = .ok (.iconst (-1), 1) := by decide +kernel
theorem dX0_init_140 : decode cX0_init 140 = .ok (.iastore, 1) := by decide +kernel
theorem dX0_init_141 : decode cX0_init 141 = .ok (.dup, 1) := by decide +kernel
theorem dX0_init_142 : decode cX0_init 142 = .ok (.iconst 5, 1) := by decide +kernel
theorem dX0_init_143 : decode cX0_init 143 = .ok (.iconst (-1), 1) := by decide +kernel
theorem dX0_init_144 : decode cX0_init 144 = .ok (.iastore, 1) := by decide +kernel
theorem dX0_init_145 : decode cX0_init 145 = .ok (.dup, 1) := by decide +kernel
theorem dX0_init_146 : decode cX0_init 146 = .ok (.bipush 6, 2) := by decide +kernel
theorem dX0_init_148 : decode cX0_init 148 = .ok (.iconst (-1), 1) := by decide +kernel
theorem dX0_init_149 : decode cX0_init 149 = .ok (.iastore, 1) := by decide +kernel
theorem dX0_init_150 : decode cX0_init 150 = .ok (.dup, 1) := by decide +kernel
theorem dX0_init_151 : decode cX0_init 151 = .ok (.bipush 7, 2) := by decide +kernel
theorem dX0_init_153 : decode cX0_init 153 = .ok (.iconst (-1), 1) := by decide +kernel
theorem dX0_init_154 : decode cX0_init 154 = .ok (.iastore, 1) := by decide +kernel
theorem dX0_init_155 : decode cX0_init 155 = .ok (.putfield 50, 3) := by decide +kernel
theorem dX0_init_158 : decode cX0_init 158 = .ok (.aload_n 0, 1) := by decide +kernel
theorem dX0_init_159 : decode cX0_init 159 = .ok (.bipush 10, 2) := by decide +kernel
theorem dX0_init_161 : decode cX0_init 161 = .ok (.anewarray 53, 3) := by decide +kernel
theorem dX0_init_164 : decode cX0_init 164 = .ok (.putfield 55, 3) := by decide +kernel
theorem dX0_init_167 : decode cX0_init 167 = .ok (.aload_n 0, 1) := by decide +kernel
theorem dX0_init_168 : decode cX0_init 168 = .ok (.sipush 160, 3) := by decide +kernel
theorem dX0_init_171 : decode cX0_init 171 = .ok (.newarray .byte, 2) := by decide +kernel
theorem dX0_init_173 : decode cX0_init 173 = .ok (.putfield 59, 3) := by decide +kernel
theorem dX0_init_176 : decode cX0_init 176 = .ok (.aload_n 0, 1) := by decide +kernel
theorem dX0_init_177 : decode cX0_init 177 = .ok (.new 63, 3) := by decide +kernel
theorem dX0_init_180 : decode cX0_init 180 = .ok (.dup, 1) := by decide +kernel
theorem dX0_init_181 : decode cX0_init 181 = .ok (.aload_n 0, 1) := by decide +kernel
theorem dX0_init_182 : decode cX0_init 182 = .ok (.invokespecial 65, 3) := by decide +kernel
theorem dX0_init_185 : decode cX0_init 185 = .ok (.putfield 66, 3) := by decide +kernel
theorem dX0_init_188 : decode cX0_init 188 = .ok (.aload_n 0, 1) := by decide +kernel
theorem dX0_init_189 : decode cX0_init 189 = .ok (.bipush 8, 2) := by decide +kernel
theorem dX0_init_191 : decode cX0_init 191 = .ok (.newarray .int, 2) := by decide +kernel
theorem dX0_init_193 : decode cX0_init 193 = .ok (.putfield 70, 3) := by decide +kernel
theorem dX0_init_196 : decode cX0_init 196 = .ok (.aload_n 0, 1) := by decide +kernel
theorem dX0_init_197 : decode cX0_init 197 = .ok (.bipush 10, 2) := by decide +kernel
theorem dX0_init_199 : decode cX0_init 199 = .ok (.bipush 10, 2) := by decide +kernel
theorem dX0_init_201 : decode cX0_init 201 = .ok (.multianewarray 73 2, 4) := by decide +kernel
theorem dX0_init_205 : decode cX0_init 205 = .ok (.putfield 75, 3) := by decide +kernel
theorem dX0_init_208 : decode cX0_init 208 = .ok (.aload_n 0, 1) := by decide +kernel
theorem dX0_init_209 : decode cX0_init 209 = .ok (.new 78, 3) := by decide +kernel
theorem dX0_init_212 : decode cX0_init 212 = .ok (.dup, 1) := by decide +kernel
theorem dX0_init_213 : decode cX0_init 213 = .ok (.aload_n 0, 1) := by decide +kernel
theorem dX0_init_214 : decode cX0_init 214 = .ok (.invokespecial 80, 3) := by decide +kernel
theorem dX0_init_217 : decode cX0_init 217 = .ok (.putfield 81, 3) := by decide +kernel
theorem dX0_init_220 : decode cX0_init 220 = .ok (.aload_n 0, 1) := by decide +kernel
theorem dX0_init_221 : decode cX0_init 221 = .ok (.new 85, 3) := by decide +kernel
theorem dX0_init_224 : decode cX0_init 224 = .ok (.dup, 1) := by decide +kernel
theorem dX0_init_225 : decode cX0_init 225 = .ok (.aload_n 0, 1) := by decide +kernel
theorem dX0_init_226 : decode cX0_init 226 = .ok (.invokespecial 87, 3) := by decide +kernel
theorem dX0_init_229 : decode cX0_init 229 = .ok (.putfield 88, 3) := by decide +kernel
theorem dX0_init_232 : decode cX0_init 232 = .ok (.aload_n 0, 1) := by decide +kernel
theorem dX0_init_233 : decode cX0_init 233 = .ok (.iconst 4, 1) := by decide +kernel
theorem dX0_init_234 : decode cX0_init 234 = .ok (.newarray .int, 2) := by decide +kernel
theorem dX0_init_236 : decode cX0_init 236 = .ok (.putfield 92, 3) := by decide +kernel
theorem dX0_init_239 : decode cX0_init 239 = .ok (.aload_n 0, 1) := by decide +kernel
theorem dX0_init_240 : decode cX0_init 240 = .ok (.bipush 8, 2) := by decide +kernel
theorem dX0_init_242 : decode cX0_init 242 = .ok (.newarray .int, 2) := by decide +kernel
theorem dX0_init_244 : decode cX0_init 244 = .ok (.putfield 95, 3) := by decide +kernel
theorem dX0_init_247 : decode cX0_init 247 = .ok (.aload_n 0, 1) := by decide +kernel
theorem dX0_init_248 : decode cX0_init 248 = .ok (.iconst 4, 1) := by decide +kernel
theorem dX0_init_249 : decode cX0_init 249 = .ok (.anewarray 98, 3) := by decide +kernel
theorem dX0_init_252 : decode cX0_init 252 = .ok (.dup, 1) := by decide +kernel
theorem dX0_init_253 : decode cX0_init 253 = .ok (.iconst 0, 1) := by decide +kernel
theorem dX0_init_254 : decode cX0_init 254 = .ok (.new 98, 3) := by decide +kernel
theorem dX0_init_257 : decode cX0_init 257 = .ok (.dup, 1) := by decide +kernel
theorem dX0_init_258 : decode cX0_init 258 = .ok (.invokespecial 100, 3) := by decide +kernel
theorem dX0_init_261 : decode cX0_init 261 = .ok (.aastore, 1) := by decide +kernel
theorem dX0_init_262 : decode cX0_init 262 = .ok (.dup, 1) := by decide +kernel
theorem dX0_init_263 : decode cX0_init 263 = .ok (.iconst 1, 1) := by decide +kernel
theorem dX0_init_264 : decode cX0_init 264 = .ok (.new 98, 3) := by decide +kernel
theorem dX0_init_267 : decode cX0_init 267 = .ok (.dup, 1) := by decide +kernel
theorem dX0_init_268 : decode cX0_init 268 = .ok (.invokespecial 100, 3) := by decide +kernel
theorem dX0_init_271 : decode cX0_init 271 = .ok (.aastore, 1) := by decide +kernel
theorem dX0_init_272 : decode cX0_init 272 = .ok (.dup, 1) := by decide +kernel
theorem dX0_init_273 : decode cX0_init 273 = .ok (.iconst 2, 1) := by decide +kernel
theorem dX0_init_274 : decode cX0_init 274 = .ok (.new 98, 3) := by decide +kernel
theorem dX0_init_277 : decode cX0_init 277 = .ok (.dup, 1) := by decide +kernel
theorem dX0_init_278 : decode cX0_init 278 = .ok (.invokespecial 100, 3) := by decide +kernel
theorem dX0_init_281 : decode cX0_init 281 = .ok (.aastore, 1) := by decide +kernel
theorem dX0_init_282 : decode cX0_init 282 = .ok (.dup, 1) := by decide +kernel
theorem dX0_init_283 : decode cX0_init 283 = .ok (.iconst 3, 1) := by decide +kernel
theorem dX0_init_284 : decode cX0_init 284 = .ok (.new 98, 3) := by decide +kernel
theorem dX0_init_287 : decode cX0_init 287 = .ok (.dup, 1) := by decide +kernel
theorem dX0_init_288 : decode cX0_init 288 = .ok (.invokespecial 100, 3) := by decide +kernel
theorem dX0_init_291 : decode cX0_init 291 = .ok (.aastore, 1) := by decide +kernel
theorem dX0_init_292 : decode cX0_init 292 = .ok (.putfield 101, 3) := by decide +kernel
theorem dX0_init_295 : decode cX0_init 295 = .ok (.return_, 1) := by decide +kernel
theorem yd_X0_init : yX0_init.cls ≠ "java/lang/invoke/MethodHandle" ∧ yX0_init.cls ≠ "java/lang/invoke/VarHandle" ∧ (parseMethodDescriptor yX0_init.desc).map (fun d => d.parameters.length) = some 0 := by decide +kernel
theorem fp_X0_21_0 : FPk RX0 21 0 0 "[[Z" true := ⟨RX0, TX0, 22, "PalaceOfRooms", tyX0, rfl, by decide, (fun q => by have h1 := q.1; have h2 := q.2; omega), rfl, in_X0, tyX0_ok, (fun a ha b hb h => Or.inl (nmX0 a ha b hb h)), rfl, fun _ => rfl, (Or.inl q249), Or.inl rfl⟩
theorem fp_X0_24_0 : FPk RX0 24 0 2 "[I" true := ⟨RX0, TX0, 22, "PalaceOfRooms", tyX0, rfl, by decide, (fun q => by have h1 := q.1; have h2 := q.2; omega), rfl, in_X0, tyX0_ok, (fun a ha b hb h => Or.inl (nmX0 a ha b hb h)), rfl, fun _ => rfl, (Or.inl q251), Or.inl rfl⟩
theorem fp_X0_28_0 : FPk RX0 28 0 3 "I" false := ⟨RX0, TX0, 22, "PalaceOfRooms", tyX0, rfl, by decide, (fun q => by have h1 := q.1; have h2 := q.2; omega), rfl, in_X0, tyX0_ok, (fun a ha b hb h => Or.inl (nmX0 a ha b hb h)), rfl, (fun q => by cases q), (Or.inl q252), Or.inl rfl⟩
theorem fp_X0_32_0 : FPk RX0 32 0 4 "I" false := ⟨RX0, TX0, 22, "PalaceOfRooms", tyX0, rfl, by decide, (fun q => by have h1 := q.1; have h2 := q.2; omega), rfl, in_X0, tyX0_ok, (fun a ha b hb h => Or.inl (nmX0 a ha b hb h)), rfl, (fun q => by cases q), (Or.inl q253), Or.inl rfl⟩
theorem fp_X0_35_0 : FPk RX0 35 0 5 "[I" true := ⟨RX0, TX0, 22, "PalaceOfRooms", tyX0, rfl, by decide, (fun q => by have h1 := q.1; have h2 := q.2; omega), rfl, in_X0, tyX0_ok, (fun a ha b hb h => Or.inl (nmX0 a ha b hb h)), rfl, fun _ => rfl, (Or.inl q256), Or.inl rfl⟩
theorem nw_X0_38 : NWk RX0 38 1 2 := ⟨RX1, TX1, 2, tyX1, rfl, in_X1, tyX1_ok, by decide +kernel, q87, q88, q50⟩
theorem fp_X0_43_0 : FPk RX0 43 0 7 "LPalaceOfRooms$House;" true := ⟨RX0, TX0, 22, "PalaceOfRooms", tyX0, rfl, by decide, (fun q => by have h1 := q.1; have h2 := q.2; omega), rfl, in_X0, tyX0_ok, (fun a ha b hb h => Or.inl (nmX0 a ha b hb h)), rfl, fun _ => rfl, (Or.inl q258), Or.inl rfl⟩
theorem fp_X0_47_0 : FPk RX0 47 0 8 "LPalaceOfRooms$House;" true := ⟨RX0, TX0, 22, "PalaceOfRooms", tyX0, rfl, by decide, (fun q => by have h1 := q.1; have h2 := q.2; omega), rfl, in_X0, tyX0_ok, (fun a ha b hb h => Or.inl (nmX0 a ha b hb h)), rfl, fun _ => rfl, (Or.inl q259), Or.inl rfl⟩
theorem fp_X0_50_0 : FPk RX0 50 0 9 "[I" true := ⟨RX0, TX0, 22, "PalaceOfRooms", tyX0, rfl, by decide, (fun q => by have h1 := q.1; have h2 := q.2; omega), rfl, in_X0, tyX0_ok, (fun a ha b hb h => Or.inl (nmX0 a ha b hb h)), rfl, fun _ => rfl, (Or.inl q260), Or.inl rfl⟩
theorem fp_X0_55_0 : FPk RX0 55 0 10 "[LPalaceOfRooms$Line;" false := ⟨RX0, TX0, 22, "PalaceOfRooms", tyX0, rfl, by decide, (fun q => by have h1 := q.1; have h2 := q.2; omega), rfl, in_X0, tyX0_ok, (fun a ha b hb h => Or.inl (nmX0 a ha b hb h)), rfl, (fun q => by cases q), (Or.inl q261), Or.inl rfl⟩
theorem fp_X0_59_0 : FPk RX0 59 0 12 "[B" true := ⟨RX0, TX0, 22, "PalaceOfRooms", tyX0, rfl, by decide, (fun q => by have h1 := q.1; have h2 := q.2; omega), rfl, in_X0, tyX0_ok, (fun a ha b hb h => Or.inl (nmX0 a ha b hb h)), rfl, fun _ => rfl, (Or.inl q264), Or.inl rfl⟩
theorem nw_X0_63 : NWk RX0 63 5 6 := ⟨RX5, TX5, 6, tyX5, rfl, in_X5, tyX5_ok, by decide +kernel, q154, q155, q54⟩
theorem fp_X0_66_0 : FPk RX0 66 0 14 "LPalaceOfRooms$Reader;" true := ⟨RX0, TX0, 22, "PalaceOfRooms", tyX0, rfl, by decide, (fun q => by have h1 := q.1; have h2 := q.2; omega), rfl, in_X0, tyX0_ok, (fun a ha b hb h => Or.inl (nmX0 a ha b hb h)), rfl, fun _ => rfl, (Or.inl q267), Or.inl rfl⟩
theorem fp_X0_70_0 : FPk RX0 70 0 15 "[I" true := ⟨RX0, TX0, 22, "PalaceOfRooms", tyX0, rfl, by decide, (fun q => by have h1 := q.1; have h2 := q.2; omega), rfl, in_X0, tyX0_ok, (fun a ha b hb h => Or.inl (nmX0 a ha b hb h)), rfl, fun _ => rfl, (Or.inl q270), Or.inl rfl⟩
theorem fp_X0_75_0 : FPk RX0 75 0 16 "[[I" true := ⟨RX0, TX0, 22, "PalaceOfRooms", tyX0, rfl, by decide, (fun q => by have h1 := q.1; have h2 := q.2; omega), rfl, in_X0, tyX0_ok, (fun a ha b hb h => Or.inl (nmX0 a ha b hb h)), rfl, fun _ => rfl, (Or.inl q272), Or.inl rfl⟩
theorem nw_X0_78 : NWk RX0 78 7 6 := ⟨RX7, TX7, 6, tyX7, rfl, in_X7, tyX7_ok, by decide +kernel, q184, q185, q56⟩
theorem fp_X0_81_0 : FPk RX0 81 0 17 "LPalaceOfRooms$Laid;" true := ⟨RX0, TX0, 22, "PalaceOfRooms", tyX0, rfl, by decide, (fun q => by have h1 := q.1; have h2 := q.2; omega), rfl, in_X0, tyX0_ok, (fun a ha b hb h => Or.inl (nmX0 a ha b hb h)), rfl, fun _ => rfl, (Or.inl q273), Or.inl rfl⟩
theorem nw_X0_85 : NWk RX0 85 8 6 := ⟨RX8, TX8, 6, tyX8, rfl, in_X8, tyX8_ok, by decide +kernel, q214, q215, q57⟩
theorem fp_X0_88_0 : FPk RX0 88 0 18 "LPalaceOfRooms$Code;" true := ⟨RX0, TX0, 22, "PalaceOfRooms", tyX0, rfl, by decide, (fun q => by have h1 := q.1; have h2 := q.2; omega), rfl, in_X0, tyX0_ok, (fun a ha b hb h => Or.inl (nmX0 a ha b hb h)), rfl, fun _ => rfl, (Or.inl q274), Or.inl rfl⟩
theorem fp_X0_92_0 : FPk RX0 92 0 19 "[I" true := ⟨RX0, TX0, 22, "PalaceOfRooms", tyX0, rfl, by decide, (fun q => by have h1 := q.1; have h2 := q.2; omega), rfl, in_X0, tyX0_ok, (fun a ha b hb h => Or.inl (nmX0 a ha b hb h)), rfl, fun _ => rfl, (Or.inl q275), Or.inl rfl⟩
theorem fp_X0_95_0 : FPk RX0 95 0 20 "[I" true := ⟨RX0, TX0, 22, "PalaceOfRooms", tyX0, rfl, by decide, (fun q => by have h1 := q.1; have h2 := q.2; omega), rfl, in_X0, tyX0_ok, (fun a ha b hb h => Or.inl (nmX0 a ha b hb h)), rfl, fun _ => rfl, (Or.inl q276), Or.inl rfl⟩
theorem nw_X0_98 : NWk RX0 98 9 3 := ⟨RX9, TX9, 3, tyX9, rfl, in_X9, tyX9_ok, by decide +kernel, q229, q231, q58⟩
theorem fp_X0_101_0 : FPk RX0 101 0 21 "[LPalaceOfRooms$Pupil;" true := ⟨RX0, TX0, 22, "PalaceOfRooms", tyX0, rfl, by decide, (fun q => by have h1 := q.1; have h2 := q.2; omega), rfl, in_X0, tyX0_ok, (fun a ha b hb h => Or.inl (nmX0 a ha b hb h)), rfl, fun _ => rfl, (Or.inl q277), Or.inl rfl⟩
abbrev rm_X0_init : Room := { frames := 5, cells := 248, slots := 1265, locals := 102 }
set_option maxHeartbeats 4000000 in
theorem c_X0_init (l : Launch) {g : Gl} {σ : Hp} {x0 : Nat} {r : Hp} (h : F_X0_init σ x0 = some r) : Met l yX0_init (ws_ yX0_init cX0_init 1 none) rm_X0_init (va_Pc [.ref x0] (WV g σ)) (Qv g r) 248 1265 (frN g) := by
  refine ct_of (by decide) (Nat.le_of_ble_eq_true rfl) ?_
  intro p e s m below meth c ls X hV hl
  have hF : FR g [] := FR_nil
  unfold F_X0_init at h
  have hl : lv_has ls 1 [(0, .ref x0)] := hl
  have X : FX g p m c s _ meth cX0_init 1 RX0 none "<init>" := X
  refine lv_aload_n X.1 X.2.1 dX0_init_0 rfl (lv_at hl 0 rfl) ?_
  refine W.objInit X.1 X.2.1 X.2.2.2.1 (X.2.2.2.2.1 _ q82) (X.2.2.2.2.1 _ q83) (X.2.2.2.2.1 _ q84) rfl (by rw [X.2.2.1]; exact hl.1) rfl dX0_init_1 (Nat.le_of_ble_eq_true rfl) (Nat.le_of_ble_eq_true rfl) ?_
  refine W.eq (g2 := F0 m 4 ls []) rfl ?_
  refine lv_aload_n X.1 X.2.1 dX0_init_4 rfl (lv_at hl 0 rfl) ?_
  refine lv_bipush (v := 8) X.1 X.2.1 dX0_init_5 (by decide) ?_
  refine lv_bipush (v := 8) X.1 X.2.1 dX0_init_7 (by decide) ?_
  refine r_multi (to := 6) (ti := 1) (N := 8) (M := 8) X hV hF (by decide) (by decide) (by decide) rfl q85 (List.mem_of_getElem? (i := 3) rfl) (hciX X (by decide)) (X.2.2.2.2.2.1.2.1 1 (by decide)).2 rfl rfl (by decide) (by decide) (by decide) (by decide) (by decide) (by decide) (by decide) (Nat.le_of_ble_eq_true rfl) (Nat.le_of_ble_eq_true rfl) dX0_init_9 (fun H locs hV hF => ?_)
  refine r_pR X hV hF fp_X0_21_0 (fun _ => rfl) (by decide) (ty := (.array (.array .boolean))) (by decide +kernel) dX0_init_13 rfl rfl h (fun s1 H locs hV hF h => ?_)
  refine lv_aload_n X.1 X.2.1 dX0_init_16 rfl (lv_at hl 0 rfl) ?_
  refine lv_bipush (v := 24) X.1 X.2.1 dX0_init_17 (by decide) ?_
  refine r_newa (t := 0) (N := 24) X hV (by decide) rfl rfl q131 (by decide) (by decide) (by decide) (Nat.le_of_ble_eq_true rfl) (Nat.le_of_ble_eq_true rfl) dX0_init_19 (fun H hV => ?_)
  refine r_pR X hV hF fp_X0_24_0 (fun _ => rfl) (by decide) (ty := (.array .int)) (by decide +kernel) dX0_init_21 rfl rfl h (fun s2 H locs hV hF h => ?_)
  refine lv_aload_n X.1 X.2.1 dX0_init_24 rfl (lv_at hl 0 rfl) ?_
  refine lv_iconst (v := 4) X.1 X.2.1 dX0_init_25 (by decide) ?_
  refine r_pI X hV hF fp_X0_28_0 (fun q => by cases q) dX0_init_26 h (fun s3 H locs hV hF h => ?_)
  refine lv_aload_n X.1 X.2.1 dX0_init_29 rfl (lv_at hl 0 rfl) ?_
  refine lv_bipush (v := 50) X.1 X.2.1 dX0_init_30 (by decide) ?_
  refine r_pI X hV hF fp_X0_32_0 (fun q => by cases q) dX0_init_32 h (fun s4 H locs hV hF h => ?_)
  refine lv_aload_n X.1 X.2.1 dX0_init_35 rfl (lv_at hl 0 rfl) ?_
  refine lv_bipush (v := 11) X.1 X.2.1 dX0_init_36 (by decide) ?_
  refine r_newa (t := 0) (N := 11) X hV (by decide) rfl rfl q131 (by decide) (by decide) (by decide) (Nat.le_of_ble_eq_true rfl) (Nat.le_of_ble_eq_true rfl) dX0_init_38 (fun H hV => ?_)
  refine lv_dup X.1 X.2.1 dX0_init_40 rfl ?_
  refine lv_iconst (v := 0) X.1 X.2.1 dX0_init_41 (by decide) ?_
  refine lv_iconst (v := 5) X.1 X.2.1 dX0_init_42 (by decide) ?_
  refine r_is X hV hF dX0_init_43 h (fun s5 H locs hV hF h => ?_)
  refine lv_dup X.1 X.2.1 dX0_init_44 rfl ?_
  refine lv_iconst (v := 1) X.1 X.2.1 dX0_init_45 (by decide) ?_
  refine lv_iconst (v := 5) X.1 X.2.1 dX0_init_46 (by decide) ?_
  refine r_is X hV hF dX0_init_47 h (fun s6 H locs hV hF h => ?_)
  refine lv_dup X.1 X.2.1 dX0_init_48 rfl ?_
  refine lv_iconst (v := 2) X.1 X.2.1 dX0_init_49 (by decide) ?_
  refine lv_iconst (v := 5) X.1 X.2.1 dX0_init_50 (by decide) ?_
  refine r_is X hV hF dX0_init_51 h (fun s7 H locs hV hF h => ?_)
  refine lv_dup X.1 X.2.1 dX0_init_52 rfl ?_
  refine lv_iconst (v := 3) X.1 X.2.1 dX0_init_53 (by decide) ?_
  refine lv_iconst (v := 5) X.1 X.2.1 dX0_init_54 (by decide) ?_
  refine r_is X hV hF dX0_init_55 h (fun s8 H locs hV hF h => ?_)
  refine lv_dup X.1 X.2.1 dX0_init_56 rfl ?_
  refine lv_iconst (v := 4) X.1 X.2.1 dX0_init_57 (by decide) ?_
  refine lv_iconst (v := 5) X.1 X.2.1 dX0_init_58 (by decide) ?_
  refine r_is X hV hF dX0_init_59 h (fun s9 H locs hV hF h => ?_)
  refine lv_dup X.1 X.2.1 dX0_init_60 rfl ?_
  refine lv_iconst (v := 5) X.1 X.2.1 dX0_init_61 (by decide) ?_
  refine lv_iconst (v := 5) X.1 X.2.1 dX0_init_62 (by decide) ?_
  refine r_is X hV hF dX0_init_63 h (fun s10 H locs hV hF h => ?_)
  refine lv_dup X.1 X.2.1 dX0_init_64 rfl ?_
  refine lv_bipush (v := 6) X.1 X.2.1 dX0_init_65 (by decide) ?_
  refine lv_iconst (v := 5) X.1 X.2.1 dX0_init_67 (by decide) ?_
  refine r_is X hV hF dX0_init_68 h (fun s11 H locs hV hF h => ?_)
  refine lv_dup X.1 X.2.1 dX0_init_69 rfl ?_
  refine lv_bipush (v := 7) X.1 X.2.1 dX0_init_70 (by decide) ?_
  refine lv_iconst (v := 5) X.1 X.2.1 dX0_init_72 (by decide) ?_
  refine r_is X hV hF dX0_init_73 h (fun s12 H locs hV hF h => ?_)
  refine lv_dup X.1 X.2.1 dX0_init_74 rfl ?_
  refine lv_bipush (v := 8) X.1 X.2.1 dX0_init_75 (by decide) ?_
  refine lv_iconst (v := 5) X.1 X.2.1 dX0_init_77 (by decide) ?_
  refine r_is X hV hF dX0_init_78 h (fun s13 H locs hV hF h => ?_)
  refine lv_dup X.1 X.2.1 dX0_init_79 rfl ?_
  refine lv_bipush (v := 9) X.1 X.2.1 dX0_init_80 (by decide) ?_
  refine lv_iconst (v := 5) X.1 X.2.1 dX0_init_82 (by decide) ?_
  refine r_is X hV hF dX0_init_83 h (fun s14 H locs hV hF h => ?_)
  refine lv_dup X.1 X.2.1 dX0_init_84 rfl ?_
  refine lv_bipush (v := 10) X.1 X.2.1 dX0_init_85 (by decide) ?_
  refine lv_iconst (v := 5) X.1 X.2.1 dX0_init_87 (by decide) ?_
  refine r_is X hV hF dX0_init_88 h (fun s15 H locs hV hF h => ?_)
  refine r_pR X hV hF fp_X0_35_0 (fun _ => rfl) (by decide) (ty := (.array .int)) (by decide +kernel) dX0_init_89 rfl rfl h (fun s16 H locs hV hF h => ?_)
  refine lv_aload_n X.1 X.2.1 dX0_init_92 rfl (lv_at hl 0 rfl) ?_
  refine r_new X hV nw_X0_38 (Nat.le_of_ble_eq_true rfl) (Nat.le_of_ble_eq_true rfl) dX0_init_93 (fun H hV => ?_)
  refine lv_dup X.1 X.2.1 dX0_init_96 rfl ?_
  refine lv_aload_n X.1 X.2.1 dX0_init_97 rfl (lv_at hl 0 rfl) ?_
  obtain ⟨s17, hc, h⟩ := b1_inv h
  refine r_cv (va_runI (As := [.ref x0]) (rest := [.ref (hZ s16), .ref x0]) (cfX X) (c_X1_init l hc) (cwI 1 X.2.2.2.2.1 (lw_meth q91) rfl rfl rfl (X.2.2.2.2.1 _ q50) (X.2.2.2.2.1 _ q89) (X.2.2.2.2.1 _ q90) rfl yd_X1_init ⟨Nat.le_of_ble_eq_true rfl, Nat.le_of_ble_eq_true rfl⟩) (preS X hV) rfl rfl hl.1 rfl (lv_room (Nat.le_of_ble_eq_true rfl)) dX0_init_98 ⟨(Nat.le_of_ble_eq_true rfl), (Nat.le_of_ble_eq_true rfl)⟩) hF (fun H locs hV hF => ?_)
  refine r_pR X hV hF fp_X0_43_0 (fun _ => rfl) (by decide) (ty := (.object "PalaceOfRooms$House")) (by decide +kernel) dX0_init_101 rfl rfl h (fun s18 H locs hV hF h => ?_)
  refine lv_aload_n X.1 X.2.1 dX0_init_104 rfl (lv_at hl 0 rfl) ?_
  refine r_new X hV nw_X0_38 (Nat.le_of_ble_eq_true rfl) (Nat.le_of_ble_eq_true rfl) dX0_init_105 (fun H hV => ?_)
  refine lv_dup X.1 X.2.1 dX0_init_108 rfl ?_
  refine lv_aload_n X.1 X.2.1 dX0_init_109 rfl (lv_at hl 0 rfl) ?_
  obtain ⟨s19, hc, h⟩ := b1_inv h
  refine r_cv (va_runI (As := [.ref x0]) (rest := [.ref (hZ s18), .ref x0]) (cfX X) (c_X1_init l hc) (cwI 1 X.2.2.2.2.1 (lw_meth q91) rfl rfl rfl (X.2.2.2.2.1 _ q50) (X.2.2.2.2.1 _ q89) (X.2.2.2.2.1 _ q90) rfl yd_X1_init ⟨Nat.le_of_ble_eq_true rfl, Nat.le_of_ble_eq_true rfl⟩) (preS X hV) rfl rfl hl.1 rfl (lv_room (Nat.le_of_ble_eq_true rfl)) dX0_init_110 ⟨(Nat.le_of_ble_eq_true rfl), (Nat.le_of_ble_eq_true rfl)⟩) hF (fun H locs hV hF => ?_)
  refine r_pR X hV hF fp_X0_47_0 (fun _ => rfl) (by decide) (ty := (.object "PalaceOfRooms$House")) (by decide +kernel) dX0_init_113 rfl rfl h (fun s20 H locs hV hF h => ?_)
  refine lv_aload_n X.1 X.2.1 dX0_init_116 rfl (lv_at hl 0 rfl) ?_
  refine lv_bipush (v := 8) X.1 X.2.1 dX0_init_117 (by decide) ?_
  refine r_newa (t := 0) (N := 8) X hV (by decide) rfl rfl q131 (by decide) (by decide) (by decide) (Nat.le_of_ble_eq_true rfl) (Nat.le_of_ble_eq_true rfl) dX0_init_119 (fun H hV => ?_)
  refine lv_dup X.1 X.2.1 dX0_init_121 rfl ?_
  refine lv_iconst (v := 0) X.1 X.2.1 dX0_init_122 (by decide) ?_
  refine lv_iconst (v := (-1)) X.1 X.2.1 dX0_init_123 (by decide) ?_
  refine r_is X hV hF dX0_init_124 h (fun s21 H locs hV hF h => ?_)
  refine lv_dup X.1 X.2.1 dX0_init_125 rfl ?_
  refine lv_iconst (v := 1) X.1 X.2.1 dX0_init_126 (by decide) ?_
  refine lv_iconst (v := (-1)) X.1 X.2.1 dX0_init_127 (by decide) ?_
  refine r_is X hV hF dX0_init_128 h (fun s22 H locs hV hF h => ?_)
  refine lv_dup X.1 X.2.1 dX0_init_129 rfl ?_
  refine lv_iconst (v := 2) X.1 X.2.1 dX0_init_130 (by decide) ?_
  refine lv_iconst (v := (-1)) X.1 X.2.1 dX0_init_131 (by decide) ?_
  refine r_is X hV hF dX0_init_132 h (fun s23 H locs hV hF h => ?_)
  refine lv_dup X.1 X.2.1 dX0_init_133 rfl ?_
  refine lv_iconst (v := 3) X.1 X.2.1 dX0_init_134 (by decide) ?_
  refine lv_iconst (v := (-1)) X.1 X.2.1 dX0_init_135 (by decide) ?_
  refine r_is X hV hF dX0_init_136 h (fun s24 H locs hV hF h => ?_)
  refine lv_dup X.1 X.2.1 dX0_init_137 rfl ?_
  refine lv_iconst (v := 4) X.1 X.2.1 dX0_init_138 (by decide) ?_
  refine lv_iconst (v := (-1)) X.1 X.2.1 dX0_init_139 (by decide) ?_
  refine r_is X hV hF dX0_init_140 h (fun s25 H locs hV hF h => ?_)
  refine lv_dup X.1 X.2.1 dX0_init_141 rfl ?_
  refine lv_iconst (v := 5) X.1 X.2.1 dX0_init_142 (by decide) ?_
  refine lv_iconst (v := (-1)) X.1 X.2.1 dX0_init_143 (by decide) ?_
  refine r_is X hV hF dX0_init_144 h (fun s26 H locs hV hF h => ?_)
  refine lv_dup X.1 X.2.1 dX0_init_145 rfl ?_
  refine lv_bipush (v := 6) X.1 X.2.1 dX0_init_146 (by decide) ?_
  refine lv_iconst (v := (-1)) X.1 X.2.1 dX0_init_148 (by decide) ?_
  refine r_is X hV hF dX0_init_149 h (fun s27 H locs hV hF h => ?_)
  refine lv_dup X.1 X.2.1 dX0_init_150 rfl ?_
  refine lv_bipush (v := 7) X.1 X.2.1 dX0_init_151 (by decide) ?_
  refine lv_iconst (v := (-1)) X.1 X.2.1 dX0_init_153 (by decide) ?_
  refine r_is X hV hF dX0_init_154 h (fun s28 H locs hV hF h => ?_)
  refine r_pR X hV hF fp_X0_50_0 (fun _ => rfl) (by decide) (ty := (.array .int)) (by decide +kernel) dX0_init_155 rfl rfl h (fun s29 H locs hV hF h => ?_)
  refine lv_aload_n X.1 X.2.1 dX0_init_158 rfl (lv_at hl 0 rfl) ?_
  refine lv_bipush (v := 10) X.1 X.2.1 dX0_init_159 (by decide) ?_
  refine r_anew (t := 4) (N := 10) (C := "PalaceOfRooms$Line") X hV (by decide) (by decide) rfl (List.mem_of_getElem? (i := 1) rfl) q152 (by decide) (by decide) (by decide) (Nat.le_of_ble_eq_true rfl) (Nat.le_of_ble_eq_true rfl) dX0_init_161 (fun H hV => ?_)
  refine r_pR X hV hF fp_X0_55_0 (fun q => by cases q) (by decide) (ty := (.array (.object "PalaceOfRooms$Line"))) (by decide +kernel) dX0_init_164 rfl rfl h (fun s30 H locs hV hF h => ?_)
  refine lv_aload_n X.1 X.2.1 dX0_init_167 rfl (lv_at hl 0 rfl) ?_
  refine lv_sipush (v := 160) X.1 X.2.1 dX0_init_168 (by decide) ?_
  refine r_newa (t := 2) (N := 160) X hV (by decide) rfl rfl q181 (by decide) (by decide) (by decide) (Nat.le_of_ble_eq_true rfl) (Nat.le_of_ble_eq_true rfl) dX0_init_171 (fun H hV => ?_)
  refine r_pR X hV hF fp_X0_59_0 (fun _ => rfl) (by decide) (ty := (.array .byte)) (by decide +kernel) dX0_init_173 rfl rfl h (fun s31 H locs hV hF h => ?_)
  refine lv_aload_n X.1 X.2.1 dX0_init_176 rfl (lv_at hl 0 rfl) ?_
  refine r_new X hV nw_X0_63 (Nat.le_of_ble_eq_true rfl) (Nat.le_of_ble_eq_true rfl) dX0_init_177 (fun H hV => ?_)
  refine lv_dup X.1 X.2.1 dX0_init_180 rfl ?_
  refine lv_aload_n X.1 X.2.1 dX0_init_181 rfl (lv_at hl 0 rfl) ?_
  obtain ⟨s32, hc, h⟩ := b1_inv h
  refine r_cv (va_runIN (As := [.ref x0]) (rest := [.ref (hZ s31), .ref x0]) (cfX X) (c_X5_init l hc) ⟨va_cnB 1 X.2.2.2.2.1 (lw_meth q158) rfl rfl rfl (X.2.2.2.2.2.1.2.2.2.1 _ (List.mem_of_getElem? (i := 4) rfl)) (X.2.2.2.2.1 _ q54) yd_X5_init ⟨Nat.le_of_ble_eq_true rfl, Nat.le_of_ble_eq_true rfl⟩, rfl, X.2.2.2.2.1 _ q157⟩ (preS X hV) rfl rfl hl.1 rfl (lv_room (Nat.le_of_ble_eq_true rfl)) dX0_init_182 ⟨(Nat.le_of_ble_eq_true rfl), (Nat.le_of_ble_eq_true rfl)⟩) hF (fun H locs hV hF => ?_)
  refine r_pR X hV hF fp_X0_66_0 (fun _ => rfl) (by decide) (ty := (.object "PalaceOfRooms$Reader")) (by decide +kernel) dX0_init_185 rfl rfl h (fun s33 H locs hV hF h => ?_)
  refine lv_aload_n X.1 X.2.1 dX0_init_188 rfl (lv_at hl 0 rfl) ?_
  refine lv_bipush (v := 8) X.1 X.2.1 dX0_init_189 (by decide) ?_
  refine r_newa (t := 0) (N := 8) X hV (by decide) rfl rfl q131 (by decide) (by decide) (by decide) (Nat.le_of_ble_eq_true rfl) (Nat.le_of_ble_eq_true rfl) dX0_init_191 (fun H hV => ?_)
  refine r_pR X hV hF fp_X0_70_0 (fun _ => rfl) (by decide) (ty := (.array .int)) (by decide +kernel) dX0_init_193 rfl rfl h (fun s34 H locs hV hF h => ?_)
  refine lv_aload_n X.1 X.2.1 dX0_init_196 rfl (lv_at hl 0 rfl) ?_
  refine lv_bipush (v := 10) X.1 X.2.1 dX0_init_197 (by decide) ?_
  refine lv_bipush (v := 10) X.1 X.2.1 dX0_init_199 (by decide) ?_
  refine r_multi (to := 7) (ti := 0) (N := 10) (M := 10) X hV hF (by decide) (by decide) (by decide) rfl q182 (List.mem_of_getElem? (i := 4) rfl) (hciX X (by decide)) (X.2.2.2.2.2.1.2.1 0 (by decide)).2 rfl rfl (by decide) (by decide) (by decide) (by decide) (by decide) (by decide) (by decide) (Nat.le_of_ble_eq_true rfl) (Nat.le_of_ble_eq_true rfl) dX0_init_201 (fun H locs hV hF => ?_)
  refine r_pR X hV hF fp_X0_75_0 (fun _ => rfl) (by decide) (ty := (.array (.array .int))) (by decide +kernel) dX0_init_205 rfl rfl h (fun s35 H locs hV hF h => ?_)
  refine lv_aload_n X.1 X.2.1 dX0_init_208 rfl (lv_at hl 0 rfl) ?_
  refine r_new X hV nw_X0_78 (Nat.le_of_ble_eq_true rfl) (Nat.le_of_ble_eq_true rfl) dX0_init_209 (fun H hV => ?_)
  refine lv_dup X.1 X.2.1 dX0_init_212 rfl ?_
  refine lv_aload_n X.1 X.2.1 dX0_init_213 rfl (lv_at hl 0 rfl) ?_
  obtain ⟨s36, hc, h⟩ := b1_inv h
  refine r_cv (va_runIN (As := [.ref x0]) (rest := [.ref (hZ s35), .ref x0]) (cfX X) (c_X7_init l hc) ⟨va_cnB 1 X.2.2.2.2.1 (lw_meth q188) rfl rfl rfl (X.2.2.2.2.2.1.2.2.2.1 _ (List.mem_of_getElem? (i := 5) rfl)) (X.2.2.2.2.1 _ q56) yd_X7_init ⟨Nat.le_of_ble_eq_true rfl, Nat.le_of_ble_eq_true rfl⟩, rfl, X.2.2.2.2.1 _ q187⟩ (preS X hV) rfl rfl hl.1 rfl (lv_room (Nat.le_of_ble_eq_true rfl)) dX0_init_214 ⟨(Nat.le_of_ble_eq_true rfl), (Nat.le_of_ble_eq_true rfl)⟩) hF (fun H locs hV hF => ?_)
  refine r_pR X hV hF fp_X0_81_0 (fun _ => rfl) (by decide) (ty := (.object "PalaceOfRooms$Laid")) (by decide +kernel) dX0_init_217 rfl rfl h (fun s37 H locs hV hF h => ?_)
  refine lv_aload_n X.1 X.2.1 dX0_init_220 rfl (lv_at hl 0 rfl) ?_
  refine r_new X hV nw_X0_85 (Nat.le_of_ble_eq_true rfl) (Nat.le_of_ble_eq_true rfl) dX0_init_221 (fun H hV => ?_)
  refine lv_dup X.1 X.2.1 dX0_init_224 rfl ?_
  refine lv_aload_n X.1 X.2.1 dX0_init_225 rfl (lv_at hl 0 rfl) ?_
  obtain ⟨s38, hc, h⟩ := b1_inv h
  refine r_cv (va_runIN (As := [.ref x0]) (rest := [.ref (hZ s37), .ref x0]) (cfX X) (c_X8_init l hc) ⟨va_cnB 1 X.2.2.2.2.1 (lw_meth q218) rfl rfl rfl (X.2.2.2.2.2.1.2.2.2.1 _ (List.mem_of_getElem? (i := 7) rfl)) (X.2.2.2.2.1 _ q57) yd_X8_init ⟨Nat.le_of_ble_eq_true rfl, Nat.le_of_ble_eq_true rfl⟩, rfl, X.2.2.2.2.1 _ q217⟩ (preS X hV) rfl rfl hl.1 rfl (lv_room (Nat.le_of_ble_eq_true rfl)) dX0_init_226 ⟨(Nat.le_of_ble_eq_true rfl), (Nat.le_of_ble_eq_true rfl)⟩) hF (fun H locs hV hF => ?_)
  refine r_pR X hV hF fp_X0_88_0 (fun _ => rfl) (by decide) (ty := (.object "PalaceOfRooms$Code")) (by decide +kernel) dX0_init_229 rfl rfl h (fun s39 H locs hV hF h => ?_)
  refine lv_aload_n X.1 X.2.1 dX0_init_232 rfl (lv_at hl 0 rfl) ?_
  refine lv_iconst (v := 4) X.1 X.2.1 dX0_init_233 (by decide) ?_
  refine r_newa (t := 0) (N := 4) X hV (by decide) rfl rfl q131 (by decide) (by decide) (by decide) (Nat.le_of_ble_eq_true rfl) (Nat.le_of_ble_eq_true rfl) dX0_init_234 (fun H hV => ?_)
  refine r_pR X hV hF fp_X0_92_0 (fun _ => rfl) (by decide) (ty := (.array .int)) (by decide +kernel) dX0_init_236 rfl rfl h (fun s40 H locs hV hF h => ?_)
  refine lv_aload_n X.1 X.2.1 dX0_init_239 rfl (lv_at hl 0 rfl) ?_
  refine lv_bipush (v := 8) X.1 X.2.1 dX0_init_240 (by decide) ?_
  refine r_newa (t := 0) (N := 8) X hV (by decide) rfl rfl q131 (by decide) (by decide) (by decide) (Nat.le_of_ble_eq_true rfl) (Nat.le_of_ble_eq_true rfl) dX0_init_242 (fun H hV => ?_)
  refine r_pR X hV hF fp_X0_95_0 (fun _ => rfl) (by decide) (ty := (.array .int)) (by decide +kernel) dX0_init_244 rfl rfl h (fun s41 H locs hV hF h => ?_)
  refine lv_aload_n X.1 X.2.1 dX0_init_247 rfl (lv_at hl 0 rfl) ?_
  refine lv_iconst (v := 4) X.1 X.2.1 dX0_init_248 (by decide) ?_
  refine r_anew (t := 5) (N := 4) (C := "PalaceOfRooms$Pupil") X hV (by decide) (by decide) rfl (List.mem_of_getElem? (i := 2) rfl) q229 (by decide) (by decide) (by decide) (Nat.le_of_ble_eq_true rfl) (Nat.le_of_ble_eq_true rfl) dX0_init_249 (fun H hV => ?_)
  refine lv_dup X.1 X.2.1 dX0_init_252 rfl ?_
  refine lv_iconst (v := 0) X.1 X.2.1 dX0_init_253 (by decide) ?_
  refine r_new X hV nw_X0_98 (Nat.le_of_ble_eq_true rfl) (Nat.le_of_ble_eq_true rfl) dX0_init_254 (fun H hV => ?_)
  refine lv_dup X.1 X.2.1 dX0_init_257 rfl ?_
  obtain ⟨s42, hc, h⟩ := b1_inv h
  refine r_cv (va_runIN (As := []) (rest := [.ref (hZ (born s41 (.inr (5, 4)))), .int 0, .ref (hZ s41), .ref (hZ s41), .ref x0]) (cfX X) (c_X9_init l hc) ⟨va_cnB 0 X.2.2.2.2.1 (lw_meth q234) rfl rfl rfl (X.2.2.2.2.2.1.2.2.2.1 _ (List.mem_of_getElem? (i := 9) rfl)) (X.2.2.2.2.1 _ q58) yd_X9_init ⟨Nat.le_of_ble_eq_true rfl, Nat.le_of_ble_eq_true rfl⟩, rfl, X.2.2.2.2.1 _ q233⟩ (preS X hV) rfl rfl hl.1 rfl (lv_room (Nat.le_of_ble_eq_true rfl)) dX0_init_258 ⟨(Nat.le_of_ble_eq_true rfl), (Nat.le_of_ble_eq_true rfl)⟩) hF (fun H locs hV hF => ?_)
  obtain ⟨hg, h⟩ := gd_inv h
  refine r_ast (ci := 9) X hV hF (by decide) (by decide) rfl rfl (Or.inl rfl) hg dX0_init_261 h (fun s43 H locs hV hF h => ?_)
  refine lv_dup X.1 X.2.1 dX0_init_262 rfl ?_
  refine lv_iconst (v := 1) X.1 X.2.1 dX0_init_263 (by decide) ?_
  refine r_new X hV nw_X0_98 (Nat.le_of_ble_eq_true rfl) (Nat.le_of_ble_eq_true rfl) dX0_init_264 (fun H hV => ?_)
  refine lv_dup X.1 X.2.1 dX0_init_267 rfl ?_
  obtain ⟨s44, hc, h⟩ := b1_inv h
  refine r_cv (va_runIN (As := []) (rest := [.ref (hZ s43), .int 1, .ref (hZ s41), .ref (hZ s41), .ref x0]) (cfX X) (c_X9_init l hc) ⟨va_cnB 0 X.2.2.2.2.1 (lw_meth q234) rfl rfl rfl (X.2.2.2.2.2.1.2.2.2.1 _ (List.mem_of_getElem? (i := 9) rfl)) (X.2.2.2.2.1 _ q58) yd_X9_init ⟨Nat.le_of_ble_eq_true rfl, Nat.le_of_ble_eq_true rfl⟩, rfl, X.2.2.2.2.1 _ q233⟩ (preS X hV) rfl rfl hl.1 rfl (lv_room (Nat.le_of_ble_eq_true rfl)) dX0_init_268 ⟨(Nat.le_of_ble_eq_true rfl), (Nat.le_of_ble_eq_true rfl)⟩) hF (fun H locs hV hF => ?_)
  obtain ⟨hg, h⟩ := gd_inv h
  refine r_ast (ci := 9) X hV hF (by decide) (by decide) rfl rfl (Or.inl rfl) hg dX0_init_271 h (fun s45 H locs hV hF h => ?_)
  refine lv_dup X.1 X.2.1 dX0_init_272 rfl ?_
  refine lv_iconst (v := 2) X.1 X.2.1 dX0_init_273 (by decide) ?_
  refine r_new X hV nw_X0_98 (Nat.le_of_ble_eq_true rfl) (Nat.le_of_ble_eq_true rfl) dX0_init_274 (fun H hV => ?_)
  refine lv_dup X.1 X.2.1 dX0_init_277 rfl ?_
  obtain ⟨s46, hc, h⟩ := b1_inv h
  refine r_cv (va_runIN (As := []) (rest := [.ref (hZ s45), .int 2, .ref (hZ s41), .ref (hZ s41), .ref x0]) (cfX X) (c_X9_init l hc) ⟨va_cnB 0 X.2.2.2.2.1 (lw_meth q234) rfl rfl rfl (X.2.2.2.2.2.1.2.2.2.1 _ (List.mem_of_getElem? (i := 9) rfl)) (X.2.2.2.2.1 _ q58) yd_X9_init ⟨Nat.le_of_ble_eq_true rfl, Nat.le_of_ble_eq_true rfl⟩, rfl, X.2.2.2.2.1 _ q233⟩ (preS X hV) rfl rfl hl.1 rfl (lv_room (Nat.le_of_ble_eq_true rfl)) dX0_init_278 ⟨(Nat.le_of_ble_eq_true rfl), (Nat.le_of_ble_eq_true rfl)⟩) hF (fun H locs hV hF => ?_)
  obtain ⟨hg, h⟩ := gd_inv h
  refine r_ast (ci := 9) X hV hF (by decide) (by decide) rfl rfl (Or.inl rfl) hg dX0_init_281 h (fun s47 H locs hV hF h => ?_)
  refine lv_dup X.1 X.2.1 dX0_init_282 rfl ?_
  refine lv_iconst (v := 3) X.1 X.2.1 dX0_init_283 (by decide) ?_
  refine r_new X hV nw_X0_98 (Nat.le_of_ble_eq_true rfl) (Nat.le_of_ble_eq_true rfl) dX0_init_284 (fun H hV => ?_)
  refine lv_dup X.1 X.2.1 dX0_init_287 rfl ?_
  obtain ⟨s48, hc, h⟩ := b1_inv h
  refine r_cv (va_runIN (As := []) (rest := [.ref (hZ s47), .int 3, .ref (hZ s41), .ref (hZ s41), .ref x0]) (cfX X) (c_X9_init l hc) ⟨va_cnB 0 X.2.2.2.2.1 (lw_meth q234) rfl rfl rfl (X.2.2.2.2.2.1.2.2.2.1 _ (List.mem_of_getElem? (i := 9) rfl)) (X.2.2.2.2.1 _ q58) yd_X9_init ⟨Nat.le_of_ble_eq_true rfl, Nat.le_of_ble_eq_true rfl⟩, rfl, X.2.2.2.2.1 _ q233⟩ (preS X hV) rfl rfl hl.1 rfl (lv_room (Nat.le_of_ble_eq_true rfl)) dX0_init_288 ⟨(Nat.le_of_ble_eq_true rfl), (Nat.le_of_ble_eq_true rfl)⟩) hF (fun H locs hV hF => ?_)
  obtain ⟨hg, h⟩ := gd_inv h
  refine r_ast (ci := 9) X hV hF (by decide) (by decide) rfl rfl (Or.inl rfl) hg dX0_init_291 h (fun s49 H locs hV hF h => ?_)
  refine r_pR X hV hF fp_X0_101_0 (fun _ => rfl) (by decide) (ty := (.array (.object "PalaceOfRooms$Pupil"))) (by decide +kernel) dX0_init_292 rfl rfl h (fun s50 H locs hV hF h => ?_)
  exact r_vret X hV hF h dX0_init_295
/-! PalaceOfRooms.isIn -/
theorem dX0_isIn_0 : decode cX0_isIn 0 = .ok (.lload_n 0, 1) := by decide +kernel
theorem dX0_isIn_1 : decode cX0_isIn 1 = .ok (.lload_n 2, 1) := by decide +kernel
theorem dX0_isIn_2 : decode cX0_isIn 2 = .ok (.lcmp, 1) := by decide +kernel
theorem dX0_isIn_3 : decode cX0_isIn 3 = .ok (.ifCond .lt 14, 3) := by decide +kernel
theorem dX0_isIn_6 : decode cX0_isIn 6 = .ok (.lload_n 0, 1) := by decide +kernel
theorem dX0_isIn_7 : decode cX0_isIn 7 = .ok (.lload 4, 2) := by decide +kernel
theorem dX0_isIn_9 : decode cX0_isIn 9 = .ok (.lcmp, 1) := by decide +kernel
theorem dX0_isIn_10 : decode cX0_isIn 10 = .ok (.ifCond .gt 7, 3) := by decide +kernel
theorem dX0_isIn_13 : decode cX0_isIn 13 = .ok (.iconst 1, 1) := by decide +kernel
theorem dX0_isIn_14 : decode cX0_isIn 14 = .ok (.goto 4, 3) := by decide +kernel
theorem dX0_isIn_17 : decode cX0_isIn 17 = .ok (.iconst 0, 1) := by decide +kernel
theorem dX0_isIn_18 : decode cX0_isIn 18 = .ok (.ireturn, 1) := by decide +kernel
theorem yd_X0_isIn : yX0_isIn.cls ≠ "java/lang/invoke/MethodHandle" ∧ yX0_isIn.cls ≠ "java/lang/invoke/VarHandle" ∧ (parseMethodDescriptor yX0_isIn.desc).map (fun d => d.parameters.length) = some 3 := by decide +kernel
abbrev rm_X0_isIn : Room := { frames := 0, cells := 0, slots := 0, locals := 0 }
set_option maxHeartbeats 4000000 in
theorem c_X0_isIn (l : Launch) {g : Gl} {σ : Hp} {x0 : Int64} {x2 : Int64} {x4 : Int64} {r : Int32 × Hp} (h : F_X0_isIn σ x0 x2 x4 = some r) : Met l yX0_isIn (ws_ yX0_isIn cX0_isIn 6 (some .boolean)) rm_X0_isIn (va_Pc [.long x0, .long x2, .long x4] (WV g σ)) (Qi g r) 0 0 (frN g) := by
  refine ct_of (by decide) (Nat.le_of_ble_eq_true rfl) ?_
  intro p e s m below meth c ls X hV hl
  have hF : FR g [] := FR_nil
  unfold F_X0_isIn at h
  have hl : lv_has ls 6 [(0, .long x0), (2, .long x2), (4, .long x4)] := hl
  have X : FX g p m c s _ meth cX0_isIn 6 RX0 (some .boolean) "isIn" := X
  refine lv_lload_n X.1 X.2.1 dX0_isIn_0 rfl (lv_at hl 0 rfl) ?_
  refine lv_lload_n X.1 X.2.1 dX0_isIn_1 rfl (lv_at hl 1 rfl) ?_
  refine W.lcmp X.1 X.2.1 dX0_isIn_2 ?_
  refine r_iflt (tgt := 17) X.1 X.2.1 dX0_isIn_3 (by decide) h (fun h => ?_) (fun h => ?_)
  · refine lv_iconst (v := 0) X.1 X.2.1 dX0_isIn_17 (by decide) ?_
    exact r_zret X hV hF h rfl dX0_isIn_18
  · refine lv_lload_n X.1 X.2.1 dX0_isIn_6 rfl (lv_at hl 0 rfl) ?_
    refine lv_lload X.1 X.2.1 dX0_isIn_7 (lv_at hl 2 rfl) ?_
    refine W.lcmp X.1 X.2.1 dX0_isIn_9 ?_
    refine r_ifgt (tgt := 17) X.1 X.2.1 dX0_isIn_10 (by decide) h (fun h => ?_) (fun h => ?_)
    · refine lv_iconst (v := 0) X.1 X.2.1 dX0_isIn_17 (by decide) ?_
      exact r_zret X hV hF h rfl dX0_isIn_18
    · refine lv_iconst (v := 1) X.1 X.2.1 dX0_isIn_13 (by decide) ?_
      refine lv_goto (tgt := 18) X.1 X.2.1 dX0_isIn_14 (by decide) ?_
      exact r_zret X hV hF h rfl dX0_isIn_18
/-! PalaceOfRooms.isRoom -/
theorem dX0_isRoom_0 : decode cX0_isRoom 0 = .ok (.iload_n 0, 1) := by decide +kernel
theorem dX0_isRoom_1 : decode cX0_isRoom 1 = .ok (.i2l, 1) := by decide +kernel
theorem dX0_isRoom_2 : decode cX0_isRoom 2 = .ok (.lconst 0, 1) := by decide +kernel
theorem dX0_isRoom_3 : decode cX0_isRoom 3 = .ok (.ldc2_w 3, 3) := by decide +kernel
theorem dX0_isRoom_6 : decode cX0_isRoom 6 = .ok (.invokestatic 5, 3) := by decide +kernel
theorem dX0_isRoom_9 : decode cX0_isRoom 9 = .ok (.ireturn, 1) := by decide +kernel
theorem yd_X0_isRoom : yX0_isRoom.cls ≠ "java/lang/invoke/MethodHandle" ∧ yX0_isRoom.cls ≠ "java/lang/invoke/VarHandle" ∧ (parseMethodDescriptor yX0_isRoom.desc).map (fun d => d.parameters.length) = some 1 := by decide +kernel
abbrev rm_X0_isRoom : Room := { frames := 1, cells := 0, slots := 0, locals := 25 }
set_option maxHeartbeats 4000000 in
theorem c_X0_isRoom (l : Launch) {g : Gl} {σ : Hp} {x0 : Int32} {r : Int32 × Hp} (h : F_X0_isRoom σ x0 = some r) : Met l yX0_isRoom (ws_ yX0_isRoom cX0_isRoom 1 (some .boolean)) rm_X0_isRoom (va_Pc [.int x0] (WV g σ)) (Qi g r) 0 0 (frN g) := by
  refine ct_of (by decide) (Nat.le_of_ble_eq_true rfl) ?_
  intro p e s m below meth c ls X hV hl
  have hF : FR g [] := FR_nil
  unfold F_X0_isRoom at h
  have hl : lv_has ls 1 [(0, .int x0)] := hl
  have X : FX g p m c s _ meth cX0_isRoom 1 RX0 (some .boolean) "isRoom" := X
  refine lv_iload_n X.1 X.2.1 dX0_isRoom_0 rfl (lv_at hl 0 rfl) ?_
  refine lv_i2l (v := (x0 : Int32).toInt64) X.1 X.2.1 dX0_isRoom_1 rfl ?_
  refine lv_lconst (v := 0) X.1 X.2.1 dX0_isRoom_2 (by decide) ?_
  refine lv_ldc2 (v := 7) X.1 X.2.1 X.2.2.2.1 (X.2.2.2.2.1 _ q330) dX0_isRoom_3 ?_
  obtain ⟨v1, s1, hc, h⟩ := b2_inv h
  refine r_ci (va_runS (As := [.long ((x0 : Int32).toInt64), .long 0, .long 7]) (rest := []) (cfX X) (c_X0_isIn l hc) (va_cwS 3 X.2.2.2.2.1 (lw_S q331 q332 q49 q333) rfl rfl rfl yd_X0_isIn ⟨Nat.le_of_ble_eq_true rfl, Nat.le_of_ble_eq_true rfl⟩) (preS X hV) rfl rfl hl.1 rfl (lv_room (Nat.le_of_ble_eq_true rfl)) dX0_isRoom_6 ⟨(Nat.le_of_ble_eq_true rfl), (Nat.le_of_ble_eq_true rfl)⟩) hF (fun H locs hV hF => ?_)
  exact r_zrv X hV hF h dX0_isRoom_9
/-! PalaceOfRooms.door -/
theorem dX0_door_0 : decode cX0_door 0 = .ok (.iload_n 1, 1) := by decide +kernel
theorem dX0_door_1 : decode cX0_door 1 = .ok (.invokestatic 105, 3) := by decide +kernel
theorem dX0_door_4 : decode cX0_door 4 = .ok (.ifCond .eq 15, 3) := by decide +kernel
theorem dX0_door_7 : decode cX0_door 7 = .ok (.iload_n 2, 1) := by decide +kernel
theorem dX0_door_8 : decode cX0_door 8 = .ok (.invokestatic 105, 3) := by decide +kernel
theorem dX0_door_11 : decode cX0_door 11 = .ok (.ifCond .eq 8, 3) := by decide +kernel
theorem dX0_door_14 : decode cX0_door 14 = .ok (.iload_n 1, 1) := by decide +kernel
theorem dX0_door_15 : decode cX0_door 15 = .ok (.iload_n 2, 1) := by decide +kernel
theorem dX0_door_16 : decode cX0_door 16 = .ok (.if_icmp .ne 6, 3) := by decide +kernel
theorem dX0_door_19 : decode cX0_door 19 = .ok (.bipush (-2), 2) := by decide +kernel
theorem dX0_door_21 : decode cX0_door 21 = .ok (.ireturn, 1) := by decide +kernel
theorem dX0_door_22 : decode cX0_door 22 = .ok (.aload_n 0, 1) := by decide +kernel
theorem dX0_door_23 : decode cX0_door 23 = .ok (.getfield 21, 3) := by decide +kernel
theorem dX0_door_26 : decode cX0_door 26 = .ok (.iload_n 1, 1) := by decide +kernel
theorem dX0_door_27 : decode cX0_door 27 = .ok (.aaload, 1) := by decide +kernel
theorem dX0_door_28 : decode cX0_door 28 = .ok (.iload_n 2, 1) := by decide +kernel
theorem dX0_door_29 : decode cX0_door 29 = .ok (.baload, 1) := by decide +kernel
theorem dX0_door_30 : decode cX0_door 30 = .ok (.ifCond .eq 6, 3) := by decide +kernel
theorem dX0_door_33 : decode cX0_door 33 = .ok (.bipush (-4), 2) := by decide +kernel
theorem dX0_door_35 : decode cX0_door 35 = .ok (.ireturn, 1) := by decide +kernel
theorem dX0_door_36 : decode cX0_door 36 = .ok (.aload_n 0, 1) := by decide +kernel
theorem dX0_door_37 : decode cX0_door 37 = .ok (.getfield 109, 3) := by decide +kernel
theorem dX0_door_40 : decode cX0_door 40 = .ok (.bipush 14, 2) := by decide +kernel
theorem dX0_door_42 : decode cX0_door 42 = .ok (.if_icmp .ne 6, 3) := by decide +kernel
theorem dX0_door_45 : decode cX0_door 45 = .ok (.bipush (-5), 2) := by decide +kernel
theorem dX0_door_47 : decode cX0_door 47 = .ok (.ireturn, 1) := by decide +kernel
theorem dX0_door_48 : decode cX0_door 48 = .ok (.aload_n 0, 1) := by decide +kernel
theorem dX0_door_49 : decode cX0_door 49 = .ok (.getfield 21, 3) := by decide +kernel
theorem dX0_door_52 : decode cX0_door 52 = .ok (.iload_n 1, 1) := by decide +kernel
theorem dX0_door_53 : decode cX0_door 53 = .ok (.aaload, 1) := by decide +kernel
theorem dX0_door_54 : decode cX0_door 54 = .ok (.iload_n 2, 1) := by decide +kernel
theorem dX0_door_55 : decode cX0_door 55 = .ok (.iconst 1, 1) := by decide +kernel
theorem dX0_door_56 : decode cX0_door 56 = .ok (.bastore, 1) := by decide +kernel
theorem dX0_door_57 : decode cX0_door 57 = .ok (.aload_n 0, 1) := by decide +kernel
theorem dX0_door_58 : decode cX0_door 58 = .ok (.getfield 21, 3) := by decide +kernel
theorem dX0_door_61 : decode cX0_door 61 = .ok (.iload_n 2, 1) := by decide +kernel
theorem dX0_door_62 : decode cX0_door 62 = .ok (.aaload, 1) := by decide +kernel
theorem dX0_door_63 : decode cX0_door 63 = .ok (.iload_n 1, 1) := by decide +kernel
theorem dX0_door_64 : decode cX0_door 64 = .ok (.iconst 1, 1) := by decide +kernel
theorem dX0_door_65 : decode cX0_door 65 = .ok (.bastore, 1) := by decide +kernel
theorem dX0_door_66 : decode cX0_door 66 = .ok (.aload_n 0, 1) := by decide +kernel
theorem dX0_door_67 : decode cX0_door 67 = .ok (.dup, 1) := by decide +kernel
theorem dX0_door_68 : decode cX0_door 68 = .ok (.getfield 109, 3) := by decide +kernel
theorem dX0_door_71 : decode cX0_door 71 = .ok (.iconst 1, 1) := by decide +kernel
theorem dX0_door_72 : decode cX0_door 72 = .ok (.iadd, 1) := by decide +kernel
theorem dX0_door_73 : decode cX0_door 73 = .ok (.putfield 109, 3) := by decide +kernel
theorem dX0_door_76 : decode cX0_door 76 = .ok (.aload_n 0, 1) := by decide +kernel
theorem dX0_door_77 : decode cX0_door 77 = .ok (.getfield 109, 3) := by decide +kernel
theorem dX0_door_80 : decode cX0_door 80 = .ok (.ireturn, 1) := by decide +kernel
theorem yd_X0_door : yX0_door.cls ≠ "java/lang/invoke/MethodHandle" ∧ yX0_door.cls ≠ "java/lang/invoke/VarHandle" ∧ (parseMethodDescriptor yX0_door.desc).map (fun d => d.parameters.length) = some 2 := by decide +kernel
theorem fl_X0_21_0 : FLk RX0 21 0 0 "[[Z" := ⟨RX0, TX0, 22, "PalaceOfRooms", rfl, by decide, (fun q => by have h1 := q.1; have h2 := q.2; omega), rfl, in_X0, Or.inl q249, Or.inl rfl⟩
theorem fl_X0_109_0 : FLk RX0 109 0 1 "I" := ⟨RX0, TX0, 22, "PalaceOfRooms", rfl, by decide, (fun q => by have h1 := q.1; have h2 := q.2; omega), rfl, in_X0, Or.inl q250, Or.inl rfl⟩
theorem fp_X0_109_0 : FPk RX0 109 0 1 "I" false := ⟨RX0, TX0, 22, "PalaceOfRooms", tyX0, rfl, by decide, (fun q => by have h1 := q.1; have h2 := q.2; omega), rfl, in_X0, tyX0_ok, (fun a ha b hb h => Or.inl (nmX0 a ha b hb h)), rfl, (fun q => by cases q), (Or.inl q250), Or.inl rfl⟩
abbrev rm_X0_door : Room := { frames := 2, cells := 0, slots := 0, locals := 45 }
set_option maxHeartbeats 4000000 in
theorem c_X0_door (l : Launch) {g : Gl} {σ : Hp} {x0 : Nat} {x1 : Int32} {x2 : Int32} {r : Int32 × Hp} (h : F_X0_door σ x0 x1 x2 = some r) : Met l yX0_door (ws_ yX0_door cX0_door 3 (some .int)) rm_X0_door (va_Pc [.ref x0, .int x1, .int x2] (WV g σ)) (Qi g r) 0 0 (frN g) := by
  refine ct_of (by decide) (Nat.le_of_ble_eq_true rfl) ?_
  intro p e s m below meth c ls X hV hl
  have hF : FR g [] := FR_nil
  unfold F_X0_door at h
  have hl : lv_has ls 3 [(0, .ref x0), (1, .int x1), (2, .int x2)] := hl
  have X : FX g p m c s _ meth cX0_door 3 RX0 (some .int) "door" := X
  obtain ⟨-, h⟩ := gd_inv h
  refine lv_iload_n X.1 X.2.1 dX0_door_0 rfl (lv_at hl 1 rfl) ?_
  obtain ⟨v1, s1, hc, h⟩ := b2_inv h
  refine r_ci (va_runS (As := [.int x1]) (rest := []) (cfX X) (c_X0_isRoom l hc) (va_cwS 1 X.2.2.2.2.1 (lw_S q327 q328 q49 q329) rfl rfl rfl yd_X0_isRoom ⟨Nat.le_of_ble_eq_true rfl, Nat.le_of_ble_eq_true rfl⟩) (preS X hV) rfl rfl hl.1 rfl (lv_room (Nat.le_of_ble_eq_true rfl)) dX0_door_1 ⟨(Nat.le_of_ble_eq_true rfl), (Nat.le_of_ble_eq_true rfl)⟩) hF (fun H locs hV hF => ?_)
  refine r_ifeq (tgt := 19) X.1 X.2.1 dX0_door_4 (by decide) h (fun h => ?_) (fun h => ?_)
  · refine lv_bipush (v := (-2)) X.1 X.2.1 dX0_door_19 (by decide) ?_
    exact r_iret X hV hF h dX0_door_21
  · refine lv_iload_n X.1 X.2.1 dX0_door_7 rfl (lv_at hl 2 rfl) ?_
    obtain ⟨v2, s2, hc, h⟩ := b2_inv h
    refine r_ci (va_runS (As := [.int x2]) (rest := []) (cfX X) (c_X0_isRoom l hc) (va_cwS 1 X.2.2.2.2.1 (lw_S q327 q328 q49 q329) rfl rfl rfl yd_X0_isRoom ⟨Nat.le_of_ble_eq_true rfl, Nat.le_of_ble_eq_true rfl⟩) (preS X hV) rfl rfl hl.1 rfl (lv_room (Nat.le_of_ble_eq_true rfl)) dX0_door_8 ⟨(Nat.le_of_ble_eq_true rfl), (Nat.le_of_ble_eq_true rfl)⟩) hF (fun H locs hV hF => ?_)
    refine r_ifeq (tgt := 19) X.1 X.2.1 dX0_door_11 (by decide) h (fun h => ?_) (fun h => ?_)
    · refine lv_bipush (v := (-2)) X.1 X.2.1 dX0_door_19 (by decide) ?_
      exact r_iret X hV hF h dX0_door_21
    · refine lv_iload_n X.1 X.2.1 dX0_door_14 rfl (lv_at hl 1 rfl) ?_
      refine lv_iload_n X.1 X.2.1 dX0_door_15 rfl (lv_at hl 2 rfl) ?_
      refine r_ne (tgt := 22) X.1 X.2.1 dX0_door_16 (by decide) h (fun h => ?_) (fun h => ?_)
      · refine lv_aload_n X.1 X.2.1 dX0_door_22 rfl (lv_at hl 0 rfl) ?_
        refine r_gR X hV fl_X0_21_0 (by decide) dX0_door_23 h (fun v3 h => ?_)
        refine lv_iload_n X.1 X.2.1 dX0_door_26 rfl (lv_at hl 1 rfl) ?_
        refine r_aa X hV dX0_door_27 (by decide) h (fun v4 h => ?_)
        refine lv_iload_n X.1 X.2.1 dX0_door_28 rfl (lv_at hl 2 rfl) ?_
        refine r_za X hV dX0_door_29 h (fun v5 h => ?_)
        refine r_ifeq (tgt := 36) X.1 X.2.1 dX0_door_30 (by decide) h (fun h => ?_) (fun h => ?_)
        · refine lv_aload_n X.1 X.2.1 dX0_door_36 rfl (lv_at hl 0 rfl) ?_
          refine r_gI X hV fl_X0_109_0 dX0_door_37 h (fun v6 h => ?_)
          refine lv_bipush (v := 14) X.1 X.2.1 dX0_door_40 (by decide) ?_
          refine r_ne (tgt := 48) X.1 X.2.1 dX0_door_42 (by decide) h (fun h => ?_) (fun h => ?_)
          · refine lv_aload_n X.1 X.2.1 dX0_door_48 rfl (lv_at hl 0 rfl) ?_
            refine r_gR X hV fl_X0_21_0 (by decide) dX0_door_49 h (fun v7 h => ?_)
            refine lv_iload_n X.1 X.2.1 dX0_door_52 rfl (lv_at hl 1 rfl) ?_
            refine r_aa X hV dX0_door_53 (by decide) h (fun v8 h => ?_)
            refine lv_iload_n X.1 X.2.1 dX0_door_54 rfl (lv_at hl 2 rfl) ?_
            refine lv_iconst (v := 1) X.1 X.2.1 dX0_door_55 (by decide) ?_
            refine r_zs X hV hF dX0_door_56 h (fun s3 H locs hV hF h => ?_)
            refine lv_aload_n X.1 X.2.1 dX0_door_57 rfl (lv_at hl 0 rfl) ?_
            refine r_gR X hV fl_X0_21_0 (by decide) dX0_door_58 h (fun v9 h => ?_)
            refine lv_iload_n X.1 X.2.1 dX0_door_61 rfl (lv_at hl 2 rfl) ?_
            refine r_aa X hV dX0_door_62 (by decide) h (fun v10 h => ?_)
            refine lv_iload_n X.1 X.2.1 dX0_door_63 rfl (lv_at hl 1 rfl) ?_
            refine lv_iconst (v := 1) X.1 X.2.1 dX0_door_64 (by decide) ?_
            refine r_zs X hV hF dX0_door_65 h (fun s4 H locs hV hF h => ?_)
            refine lv_aload_n X.1 X.2.1 dX0_door_66 rfl (lv_at hl 0 rfl) ?_
            refine lv_dup X.1 X.2.1 dX0_door_67 rfl ?_
            refine r_gI X hV fl_X0_109_0 dX0_door_68 h (fun v11 h => ?_)
            refine lv_iconst (v := 1) X.1 X.2.1 dX0_door_71 (by decide) ?_
            refine lv_iadd X.1 X.2.1 dX0_door_72 ?_
            refine r_pI X hV hF fp_X0_109_0 (fun q => by cases q) dX0_door_73 h (fun s5 H locs hV hF h => ?_)
            refine lv_aload_n X.1 X.2.1 dX0_door_76 rfl (lv_at hl 0 rfl) ?_
            refine r_gI X hV fl_X0_109_0 dX0_door_77 h (fun v12 h => ?_)
            exact r_iret X hV hF h dX0_door_80
          · refine lv_bipush (v := (-5)) X.1 X.2.1 dX0_door_45 (by decide) ?_
            exact r_iret X hV hF h dX0_door_47
        · refine lv_bipush (v := (-4)) X.1 X.2.1 dX0_door_33 (by decide) ?_
          exact r_iret X hV hF h dX0_door_35
      · refine lv_bipush (v := (-2)) X.1 X.2.1 dX0_door_19 (by decide) ?_
        exact r_iret X hV hF h dX0_door_21
/-! PalaceOfRooms.awayOf -/
theorem dX0_awayOf_0 : decode cX0_awayOf 0 = .ok (.iconst 1, 1) := by decide +kernel
theorem dX0_awayOf_1 : decode cX0_awayOf 1 = .ok (.iload_n 1, 1) := by decide +kernel
theorem dX0_awayOf_2 : decode cX0_awayOf 2 = .ok (.ishl, 1) := by decide +kernel
theorem dX0_awayOf_3 : decode cX0_awayOf 3 = .ok (.istore_n 3, 1) := by decide +kernel
theorem dX0_awayOf_4 : decode cX0_awayOf 4 = .ok (.iconst 0, 1) := by decide +kernel
theorem dX0_awayOf_5 : decode cX0_awayOf 5 = .ok (.istore 4, 2) := by decide +kernel
theorem dX0_awayOf_7 : decode cX0_awayOf 7 = .ok (.iload 4, 2) := by decide +kernel
theorem dX0_awayOf_9 : decode cX0_awayOf 9 = .ok (.bipush 8, 2) := by decide +kernel
theorem dX0_awayOf_11 : decode cX0_awayOf 11 = .ok (.if_icmp .ge 95, 3) := by decide +kernel
theorem dX0_awayOf_14 : decode cX0_awayOf 14 = .ok (.iload_n 3, 1) := by decide +kernel
theorem dX0_awayOf_15 : decode cX0_awayOf 15 = .ok (.iload_n 2, 1) := by decide +kernel
theorem dX0_awayOf_16 : decode cX0_awayOf 16 = .ok (.ishr, 1) := by decide +kernel
theorem dX0_awayOf_17 : decode cX0_awayOf 17 = .ok (.iconst 1, 1) := by decide +kernel
theorem dX0_awayOf_18 : decode cX0_awayOf 18 = .ok (.iand, 1) := by decide +kernel
theorem dX0_awayOf_19 : decode cX0_awayOf 19 = .ok (.iconst 1, 1) := by decide +kernel
theorem dX0_awayOf_20 : decode cX0_awayOf 20 = .ok (.if_icmp .ne 6, 3) := by decide +kernel
theorem dX0_awayOf_23 : decode cX0_awayOf 23 = .ok (.iload 4, 2) := by decide +kernel
theorem dX0_awayOf_25 : decode cX0_awayOf 25 = .ok (.ireturn, 1) := by decide +kernel
theorem dX0_awayOf_26 : decode cX0_awayOf 26 = .ok (.iload_n 3, 1) := by decide +kernel
theorem dX0_awayOf_27 : decode cX0_awayOf 27 = .ok (.istore 5, 2) := by decide +kernel
theorem dX0_awayOf_29 : decode cX0_awayOf 29 = .ok (.iconst 0, 1) := by decide +kernel
theorem dX0_awayOf_30 : decode cX0_awayOf 30 = .ok (.istore 6, 2) := by decide +kernel
theorem dX0_awayOf_32 : decode cX0_awayOf 32 = .ok (.iload 6, 2) := by decide +kernel
theorem dX0_awayOf_34 : decode cX0_awayOf 34 = .ok (.bipush 8, 2) := by decide +kernel
theorem dX0_awayOf_36 : decode cX0_awayOf 36 = .ok (.if_icmp .ge 61, 3) := by decide +kernel
theorem dX0_awayOf_39 : decode cX0_awayOf 39 = .ok (.iconst 0, 1) := by decide +kernel
theorem dX0_awayOf_40 : decode cX0_awayOf 40 = .ok (.istore 7, 2) := by decide +kernel
theorem dX0_awayOf_42 : decode cX0_awayOf 42 = .ok (.iload 7, 2) := by decide +kernel
theorem dX0_awayOf_44 : decode cX0_awayOf 44 = .ok (.bipush 8, 2) := by decide +kernel
theorem dX0_awayOf_46 : decode cX0_awayOf 46 = .ok (.if_icmp .ge 45, 3) := by decide +kernel
theorem dX0_awayOf_49 : decode cX0_awayOf 49 = .ok (.iload_n 3, 1) := by decide +kernel
theorem dX0_awayOf_50 : decode cX0_awayOf 50 = .ok (.iload 6, 2) := by decide +kernel
theorem dX0_awayOf_52 : decode cX0_awayOf 52 = .ok (.ishr, 1) := by decide +kernel
theorem dX0_awayOf_53 : decode cX0_awayOf 53 = .ok (.iconst 1, 1) := by decide +kernel
theorem dX0_awayOf_54 : decode cX0_awayOf 54 = .ok (.iand, 1) := by decide +kernel
theorem dX0_awayOf_55 : decode cX0_awayOf 55 = .ok (.iconst 1, 1) := by decide +kernel
theorem dX0_awayOf_56 : decode cX0_awayOf 56 = .ok (.if_icmp .ne 35, 3) := by decide +kernel
theorem dX0_awayOf_59 : decode cX0_awayOf 59 = .ok (.iload 5, 2) := by decide +kernel
theorem dX0_awayOf_61 : decode cX0_awayOf 61 = .ok (.aload_n 0, 1) := by decide +kernel
theorem dX0_awayOf_62 : decode cX0_awayOf 62 = .ok (.getfield 21, 3) := by decide +kernel
theorem dX0_awayOf_65 : decode cX0_awayOf 65 = .ok (.iload 6, 2) := by decide +kernel
theorem dX0_awayOf_67 : decode cX0_awayOf 67 = .ok (.aaload, 1) := by decide +kernel
theorem dX0_awayOf_68 : decode cX0_awayOf 68 = .ok (.iload 7, 2) := by decide +kernel
theorem dX0_awayOf_70 : decode cX0_awayOf 70 = .ok (.baload, 1) := by decide +kernel
theorem dX0_awayOf_71 : decode cX0_awayOf 71 = .ok (.ifCond .eq 10, 3) := by decide +kernel
theorem dX0_awayOf_74 : decode cX0_awayOf 74 = .ok (.iconst 1, 1) := by decide +kernel
theorem dX0_awayOf_75 : decode cX0_awayOf 75 = .ok (.iload 7, 2) := by decide +kernel
theorem dX0_awayOf_77 : decode cX0_awayOf 77 = .ok (.ishl, 1) := by decide +kernel
theorem dX0_awayOf_78 : decode cX0_awayOf 78 = .ok (.goto 4, 3) := by decide +kernel
theorem dX0_awayOf_81 : decode cX0_awayOf 81 = .ok (.iconst 0, 1) := by decide +kernel
theorem dX0_awayOf_82 : decode cX0_awayOf 82 = .ok (.ior, 1) := by decide +kernel
theorem dX0_awayOf_83 : decode cX0_awayOf 83 = .ok (.istore 5, 2) := by decide +kernel
theorem dX0_awayOf_85 : decode cX0_awayOf 85 = .ok (.iinc 7 1, 3) := by decide +kernel
theorem dX0_awayOf_88 : decode cX0_awayOf 88 = .ok (.goto (-46), 3) := by decide +kernel
theorem dX0_awayOf_91 : decode cX0_awayOf 91 = .ok (.iinc 6 1, 3) := by decide +kernel
theorem dX0_awayOf_94 : decode cX0_awayOf 94 = .ok (.goto (-62), 3) := by decide +kernel
theorem dX0_awayOf_97 : decode cX0_awayOf 97 = .ok (.iload 5, 2) := by decide +kernel
theorem dX0_awayOf_99 : decode cX0_awayOf 99 = .ok (.istore_n 3, 1) := by decide +kernel
theorem dX0_awayOf_100 : decode cX0_awayOf 100 = .ok (.iinc 4 1, 3) := by decide +kernel
theorem dX0_awayOf_103 : decode cX0_awayOf 103 = .ok (.goto (-96), 3) := by decide +kernel
theorem dX0_awayOf_106 : decode cX0_awayOf 106 = .ok (.iconst (-1), 1) := by decide +kernel
theorem dX0_awayOf_107 : decode cX0_awayOf 107 = .ok (.ireturn, 1) := by decide +kernel
theorem yd_X0_awayOf : yX0_awayOf.cls ≠ "java/lang/invoke/MethodHandle" ∧ yX0_awayOf.cls ≠ "java/lang/invoke/VarHandle" ∧ (parseMethodDescriptor yX0_awayOf.desc).map (fun d => d.parameters.length) = some 2 := by decide +kernel
abbrev rm_X0_awayOf : Room := { frames := 0, cells := 0, slots := 0, locals := 0 }
set_option maxHeartbeats 4000000 in
theorem w_X0_awayOf_42_b {p : Program} {l : Launch} {e : Env} {s : State} {m : MethodId} {args : Array Value} {below : List Frame} {meth : Method} {c : Code} {g : Gl} (X : FX g p m c s args meth cX0_awayOf 8 RX0 (some .int) "awayOf") {r : Int32 × Hp} {rec7 : Int32 × Int32 → Option (Int32 × Hp)} {rec32 : Int32 × Int32 → Option (Int32 × Hp)} {rec42 : Int32 × Int32 → Option (Int32 × Hp)} {σ : Hp} {x0 : Nat} {x2 : Int32} {x3 : Int32} {x4 : Int32} {x6 : Int32} {x5 : Int32} {x7 : Int32} (hr7 : ∀ (st : Int32 × Int32), rec7 st = some r → ∀ (H : Heap) (locs : List Loc) (ls : Array Slot), HV g σ H → FR g locs → lv_has ls 8 [(0, .ref x0), (2, .int x2), (3, .int st.1), (4, .int st.2)] → W p l e rm_X0_awayOf s m args below meth c H locs 0 0 (MQ below (Qi g r) args s 0 0 (frN g)) (F0 m 7 ls [])) (hr32 : ∀ (st : Int32 × Int32), rec32 st = some r → ∀ (H : Heap) (locs : List Loc) (ls : Array Slot), HV g σ H → FR g locs → lv_has ls 8 [(0, .ref x0), (2, .int x2), (3, .int x3), (4, .int x4), (5, .int st.1), (6, .int st.2)] → W p l e rm_X0_awayOf s m args below meth c H locs 0 0 (MQ below (Qi g r) args s 0 0 (frN g)) (F0 m 32 ls [])) (hr42 : ∀ (st : Int32 × Int32), rec42 st = some r → ∀ (H : Heap) (locs : List Loc) (ls : Array Slot), HV g σ H → FR g locs → lv_has ls 8 [(0, .ref x0), (2, .int x2), (3, .int x3), (4, .int x4), (5, .int st.1), (6, .int x6), (7, .int st.2)] → W p l e rm_X0_awayOf s m args below meth c H locs 0 0 (MQ below (Qi g r) args s 0 0 (frN g)) (F0 m 42 ls [])) {H : Heap} {locs : List Loc} {ls : Array Slot} (h : B_X0_awayOf_42 rec7 rec32 σ x0 x2 x3 x4 x6 rec42 x5 x7 = some r) (hV : HV g σ H) (hF : FR g locs) (hl : lv_has ls 8 [(0, .ref x0), (2, .int x2), (3, .int x3), (4, .int x4), (5, .int x5), (6, .int x6), (7, .int x7)]) : W p l e rm_X0_awayOf s m args below meth c H locs 0 0 (MQ below (Qi g r) args s 0 0 (frN g)) (F0 m 42 ls []) := by
  unfold B_X0_awayOf_42 at h
  refine lv_iload X.1 X.2.1 dX0_awayOf_42 (lv_at hl 6 rfl) ?_
  refine lv_bipush (v := 8) X.1 X.2.1 dX0_awayOf_44 (by decide) ?_
  refine r_ge (tgt := 91) X.1 X.2.1 dX0_awayOf_46 (by decide) h (fun h => ?_) (fun h => ?_)
  · refine lv_iinc (v := x6 + 1) (lv' := [(6, .int (x6 + 1)), (0, .ref x0), (2, .int x2), (3, .int x3), (4, .int x4), (5, .int x5), (7, .int x7)]) X.1 X.2.1 dX0_awayOf_91 hl (k := 5) rfl rfl (by decide) rfl (fun ls hl => ?_)
    refine lv_goto (tgt := 32) X.1 X.2.1 dX0_awayOf_94 (by decide) ?_
    exact hr32 (x5, x6 + 1) h _ _ _ hV hF (lv_sub hl [1, 2, 3, 4, 5, 0] rfl)
  · refine lv_iload_n X.1 X.2.1 dX0_awayOf_49 rfl (lv_at hl 2 rfl) ?_
    refine lv_iload X.1 X.2.1 dX0_awayOf_50 (lv_at hl 5 rfl) ?_
    refine lv_ishr X.1 X.2.1 dX0_awayOf_52 ?_
    refine lv_iconst (v := 1) X.1 X.2.1 dX0_awayOf_53 (by decide) ?_
    refine lv_iand X.1 X.2.1 dX0_awayOf_54 ?_
    refine lv_iconst (v := 1) X.1 X.2.1 dX0_awayOf_55 (by decide) ?_
    refine r_ne (tgt := 91) X.1 X.2.1 dX0_awayOf_56 (by decide) h (fun h => ?_) (fun h => ?_)
    · refine lv_iinc (v := x6 + 1) (lv' := [(6, .int (x6 + 1)), (0, .ref x0), (2, .int x2), (3, .int x3), (4, .int x4), (5, .int x5), (7, .int x7)]) X.1 X.2.1 dX0_awayOf_91 hl (k := 5) rfl rfl (by decide) rfl (fun ls hl => ?_)
      refine lv_goto (tgt := 32) X.1 X.2.1 dX0_awayOf_94 (by decide) ?_
      exact hr32 (x5, x6 + 1) h _ _ _ hV hF (lv_sub hl [1, 2, 3, 4, 5, 0] rfl)
    · refine lv_iload X.1 X.2.1 dX0_awayOf_59 (lv_at hl 4 rfl) ?_
      refine lv_aload_n X.1 X.2.1 dX0_awayOf_61 rfl (lv_at hl 0 rfl) ?_
      refine r_gR X hV fl_X0_21_0 (by decide) dX0_awayOf_62 h (fun v1 h => ?_)
      refine lv_iload X.1 X.2.1 dX0_awayOf_65 (lv_at hl 5 rfl) ?_
      refine r_aa X hV dX0_awayOf_67 (by decide) h (fun v2 h => ?_)
      refine lv_iload X.1 X.2.1 dX0_awayOf_68 (lv_at hl 6 rfl) ?_
      refine r_za X hV dX0_awayOf_70 h (fun v3 h => ?_)
      refine r_ifeq (tgt := 81) X.1 X.2.1 dX0_awayOf_71 (by decide) h (fun h => ?_) (fun h => ?_)
      · refine lv_iconst (v := 0) X.1 X.2.1 dX0_awayOf_81 (by decide) ?_
        refine lv_ior X.1 X.2.1 dX0_awayOf_82 ?_
        refine lv_istore (lv' := [(5, .int (x5 ||| 0)), (0, .ref x0), (2, .int x2), (3, .int x3), (4, .int x4), (6, .int x6), (7, .int x7)]) X.1 X.2.1 dX0_awayOf_83 hl (by decide) rfl (fun ls hl => ?_)
        refine lv_iinc (v := x7 + 1) (lv' := [(7, .int (x7 + 1)), (5, .int (x5 ||| 0)), (0, .ref x0), (2, .int x2), (3, .int x3), (4, .int x4), (6, .int x6)]) X.1 X.2.1 dX0_awayOf_85 hl (k := 6) rfl rfl (by decide) rfl (fun ls hl => ?_)
        refine lv_goto (tgt := 42) X.1 X.2.1 dX0_awayOf_88 (by decide) ?_
        exact hr42 (x5 ||| 0, x7 + 1) h _ _ _ hV hF (lv_sub hl [2, 3, 4, 5, 1, 6, 0] rfl)
      · refine lv_iconst (v := 1) X.1 X.2.1 dX0_awayOf_74 (by decide) ?_
        refine lv_iload X.1 X.2.1 dX0_awayOf_75 (lv_at hl 6 rfl) ?_
        refine lv_ishl X.1 X.2.1 dX0_awayOf_77 ?_
        refine lv_goto (tgt := 82) X.1 X.2.1 dX0_awayOf_78 (by decide) ?_
        refine lv_ior X.1 X.2.1 dX0_awayOf_82 ?_
        refine lv_istore (lv' := [(5, .int (x5 ||| (1 <<< (x7 &&& 31)))), (0, .ref x0), (2, .int x2), (3, .int x3), (4, .int x4), (6, .int x6), (7, .int x7)]) X.1 X.2.1 dX0_awayOf_83 hl (by decide) rfl (fun ls hl => ?_)
        refine lv_iinc (v := x7 + 1) (lv' := [(7, .int (x7 + 1)), (5, .int (x5 ||| (1 <<< (x7 &&& 31)))), (0, .ref x0), (2, .int x2), (3, .int x3), (4, .int x4), (6, .int x6)]) X.1 X.2.1 dX0_awayOf_85 hl (k := 6) rfl rfl (by decide) rfl (fun ls hl => ?_)
        refine lv_goto (tgt := 42) X.1 X.2.1 dX0_awayOf_88 (by decide) ?_
        exact hr42 (x5 ||| (1 <<< (x7 &&& 31)), x7 + 1) h _ _ _ hV hF (lv_sub hl [2, 3, 4, 5, 1, 6, 0] rfl)
set_option maxHeartbeats 4000000 in
theorem w_X0_awayOf_42 {p : Program} {l : Launch} {e : Env} {s : State} {m : MethodId} {args : Array Value} {below : List Frame} {meth : Method} {c : Code} {g : Gl} (X : FX g p m c s args meth cX0_awayOf 8 RX0 (some .int) "awayOf") {r : Int32 × Hp} {rec7 : Int32 × Int32 → Option (Int32 × Hp)} {rec32 : Int32 × Int32 → Option (Int32 × Hp)} {σ : Hp} {x0 : Nat} {x2 : Int32} {x3 : Int32} {x4 : Int32} {x6 : Int32} (hr7 : ∀ (st : Int32 × Int32), rec7 st = some r → ∀ (H : Heap) (locs : List Loc) (ls : Array Slot), HV g σ H → FR g locs → lv_has ls 8 [(0, .ref x0), (2, .int x2), (3, .int st.1), (4, .int st.2)] → W p l e rm_X0_awayOf s m args below meth c H locs 0 0 (MQ below (Qi g r) args s 0 0 (frN g)) (F0 m 7 ls [])) (hr32 : ∀ (st : Int32 × Int32), rec32 st = some r → ∀ (H : Heap) (locs : List Loc) (ls : Array Slot), HV g σ H → FR g locs → lv_has ls 8 [(0, .ref x0), (2, .int x2), (3, .int x3), (4, .int x4), (5, .int st.1), (6, .int st.2)] → W p l e rm_X0_awayOf s m args below meth c H locs 0 0 (MQ below (Qi g r) args s 0 0 (frN g)) (F0 m 32 ls [])) : ∀ (n : Nat) (st : Int32 × Int32), L_X0_awayOf_42 rec7 rec32 σ x0 x2 x3 x4 x6 n st = some r → ∀ (H : Heap) (locs : List Loc) (ls : Array Slot), HV g σ H → FR g locs → lv_has ls 8 [(0, .ref x0), (2, .int x2), (3, .int x3), (4, .int x4), (5, .int st.1), (6, .int x6), (7, .int st.2)] → W p l e rm_X0_awayOf s m args below meth c H locs 0 0 (MQ below (Qi g r) args s 0 0 (frN g)) (F0 m 42 ls []) := by
  intro n
  induction n with
  | zero =>
    intro st h
    rw [L_X0_awayOf_42_0] at h
    cases h
  | succ n ih =>
    intro st h H locs ls hV hF hl
    rw [L_X0_awayOf_42_s] at h
    exact w_X0_awayOf_42_b X hr7 hr32 ih h hV hF hl
set_option maxHeartbeats 4000000 in
theorem w_X0_awayOf_32_b {p : Program} {l : Launch} {e : Env} {s : State} {m : MethodId} {args : Array Value} {below : List Frame} {meth : Method} {c : Code} {g : Gl} (X : FX g p m c s args meth cX0_awayOf 8 RX0 (some .int) "awayOf") {r : Int32 × Hp} {rec7 : Int32 × Int32 → Option (Int32 × Hp)} {rec32 : Int32 × Int32 → Option (Int32 × Hp)} {σ : Hp} {x0 : Nat} {x2 : Int32} {x3 : Int32} {x4 : Int32} {x5 : Int32} {x6 : Int32} (hr7 : ∀ (st : Int32 × Int32), rec7 st = some r → ∀ (H : Heap) (locs : List Loc) (ls : Array Slot), HV g σ H → FR g locs → lv_has ls 8 [(0, .ref x0), (2, .int x2), (3, .int st.1), (4, .int st.2)] → W p l e rm_X0_awayOf s m args below meth c H locs 0 0 (MQ below (Qi g r) args s 0 0 (frN g)) (F0 m 7 ls [])) (hr32 : ∀ (st : Int32 × Int32), rec32 st = some r → ∀ (H : Heap) (locs : List Loc) (ls : Array Slot), HV g σ H → FR g locs → lv_has ls 8 [(0, .ref x0), (2, .int x2), (3, .int x3), (4, .int x4), (5, .int st.1), (6, .int st.2)] → W p l e rm_X0_awayOf s m args below meth c H locs 0 0 (MQ below (Qi g r) args s 0 0 (frN g)) (F0 m 32 ls [])) {H : Heap} {locs : List Loc} {ls : Array Slot} (h : B_X0_awayOf_32 rec7 σ x0 x2 x3 x4 rec32 x5 x6 = some r) (hV : HV g σ H) (hF : FR g locs) (hl : lv_has ls 8 [(0, .ref x0), (2, .int x2), (3, .int x3), (4, .int x4), (5, .int x5), (6, .int x6)]) : W p l e rm_X0_awayOf s m args below meth c H locs 0 0 (MQ below (Qi g r) args s 0 0 (frN g)) (F0 m 32 ls []) := by
  unfold B_X0_awayOf_32 at h
  refine lv_iload X.1 X.2.1 dX0_awayOf_32 (lv_at hl 5 rfl) ?_
  refine lv_bipush (v := 8) X.1 X.2.1 dX0_awayOf_34 (by decide) ?_
  refine r_ge (tgt := 97) X.1 X.2.1 dX0_awayOf_36 (by decide) h (fun h => ?_) (fun h => ?_)
  · refine lv_iload X.1 X.2.1 dX0_awayOf_97 (lv_at hl 4 rfl) ?_
    refine lv_istore_n (lv' := [(3, .int x5), (0, .ref x0), (2, .int x2), (4, .int x4), (5, .int x5), (6, .int x6)]) X.1 X.2.1 dX0_awayOf_99 rfl hl (by decide) rfl (fun ls hl => ?_)
    refine lv_iinc (v := x4 + 1) (lv' := [(4, .int (x4 + 1)), (3, .int x5), (0, .ref x0), (2, .int x2), (5, .int x5), (6, .int x6)]) X.1 X.2.1 dX0_awayOf_100 hl (k := 3) rfl rfl (by decide) rfl (fun ls hl => ?_)
    refine lv_goto (tgt := 7) X.1 X.2.1 dX0_awayOf_103 (by decide) ?_
    exact hr7 (x5, x4 + 1) h _ _ _ hV hF (lv_sub hl [2, 3, 1, 0] rfl)
  · refine lv_iconst (v := 0) X.1 X.2.1 dX0_awayOf_39 (by decide) ?_
    refine lv_istore (lv' := [(7, .int 0), (0, .ref x0), (2, .int x2), (3, .int x3), (4, .int x4), (5, .int x5), (6, .int x6)]) X.1 X.2.1 dX0_awayOf_40 hl (by decide) rfl (fun ls hl => ?_)
    exact w_X0_awayOf_42 X hr7 hr32 FU (x5, 0) h _ _ _ hV hF (lv_sub hl [1, 2, 3, 4, 5, 6, 0] rfl)
set_option maxHeartbeats 4000000 in
theorem w_X0_awayOf_32 {p : Program} {l : Launch} {e : Env} {s : State} {m : MethodId} {args : Array Value} {below : List Frame} {meth : Method} {c : Code} {g : Gl} (X : FX g p m c s args meth cX0_awayOf 8 RX0 (some .int) "awayOf") {r : Int32 × Hp} {rec7 : Int32 × Int32 → Option (Int32 × Hp)} {σ : Hp} {x0 : Nat} {x2 : Int32} {x3 : Int32} {x4 : Int32} (hr7 : ∀ (st : Int32 × Int32), rec7 st = some r → ∀ (H : Heap) (locs : List Loc) (ls : Array Slot), HV g σ H → FR g locs → lv_has ls 8 [(0, .ref x0), (2, .int x2), (3, .int st.1), (4, .int st.2)] → W p l e rm_X0_awayOf s m args below meth c H locs 0 0 (MQ below (Qi g r) args s 0 0 (frN g)) (F0 m 7 ls [])) : ∀ (n : Nat) (st : Int32 × Int32), L_X0_awayOf_32 rec7 σ x0 x2 x3 x4 n st = some r → ∀ (H : Heap) (locs : List Loc) (ls : Array Slot), HV g σ H → FR g locs → lv_has ls 8 [(0, .ref x0), (2, .int x2), (3, .int x3), (4, .int x4), (5, .int st.1), (6, .int st.2)] → W p l e rm_X0_awayOf s m args below meth c H locs 0 0 (MQ below (Qi g r) args s 0 0 (frN g)) (F0 m 32 ls []) := by
  intro n
  induction n with
  | zero =>
    intro st h
    rw [L_X0_awayOf_32_0] at h
    cases h
  | succ n ih =>
    intro st h H locs ls hV hF hl
    rw [L_X0_awayOf_32_s] at h
    exact w_X0_awayOf_32_b X hr7 ih h hV hF hl
set_option maxHeartbeats 4000000 in
theorem w_X0_awayOf_7_b {p : Program} {l : Launch} {e : Env} {s : State} {m : MethodId} {args : Array Value} {below : List Frame} {meth : Method} {c : Code} {g : Gl} (X : FX g p m c s args meth cX0_awayOf 8 RX0 (some .int) "awayOf") {r : Int32 × Hp} {rec7 : Int32 × Int32 → Option (Int32 × Hp)} {σ : Hp} {x0 : Nat} {x2 : Int32} {x3 : Int32} {x4 : Int32} (hr7 : ∀ (st : Int32 × Int32), rec7 st = some r → ∀ (H : Heap) (locs : List Loc) (ls : Array Slot), HV g σ H → FR g locs → lv_has ls 8 [(0, .ref x0), (2, .int x2), (3, .int st.1), (4, .int st.2)] → W p l e rm_X0_awayOf s m args below meth c H locs 0 0 (MQ below (Qi g r) args s 0 0 (frN g)) (F0 m 7 ls [])) {H : Heap} {locs : List Loc} {ls : Array Slot} (h : B_X0_awayOf_7 σ x0 x2 rec7 x3 x4 = some r) (hV : HV g σ H) (hF : FR g locs) (hl : lv_has ls 8 [(0, .ref x0), (2, .int x2), (3, .int x3), (4, .int x4)]) : W p l e rm_X0_awayOf s m args below meth c H locs 0 0 (MQ below (Qi g r) args s 0 0 (frN g)) (F0 m 7 ls []) := by
  unfold B_X0_awayOf_7 at h
  refine lv_iload X.1 X.2.1 dX0_awayOf_7 (lv_at hl 3 rfl) ?_
  refine lv_bipush (v := 8) X.1 X.2.1 dX0_awayOf_9 (by decide) ?_
  refine r_ge (tgt := 106) X.1 X.2.1 dX0_awayOf_11 (by decide) h (fun h => ?_) (fun h => ?_)
  · refine lv_iconst (v := (-1)) X.1 X.2.1 dX0_awayOf_106 (by decide) ?_
    exact r_iret X hV hF h dX0_awayOf_107
  · refine lv_iload_n X.1 X.2.1 dX0_awayOf_14 rfl (lv_at hl 2 rfl) ?_
    refine lv_iload_n X.1 X.2.1 dX0_awayOf_15 rfl (lv_at hl 1 rfl) ?_
    refine lv_ishr X.1 X.2.1 dX0_awayOf_16 ?_
    refine lv_iconst (v := 1) X.1 X.2.1 dX0_awayOf_17 (by decide) ?_
    refine lv_iand X.1 X.2.1 dX0_awayOf_18 ?_
    refine lv_iconst (v := 1) X.1 X.2.1 dX0_awayOf_19 (by decide) ?_
    refine r_ne (tgt := 26) X.1 X.2.1 dX0_awayOf_20 (by decide) h (fun h => ?_) (fun h => ?_)
    · refine lv_iload_n X.1 X.2.1 dX0_awayOf_26 rfl (lv_at hl 2 rfl) ?_
      refine lv_istore (lv' := [(5, .int x3), (0, .ref x0), (2, .int x2), (3, .int x3), (4, .int x4)]) X.1 X.2.1 dX0_awayOf_27 hl (by decide) rfl (fun ls hl => ?_)
      refine lv_iconst (v := 0) X.1 X.2.1 dX0_awayOf_29 (by decide) ?_
      refine lv_istore (lv' := [(6, .int 0), (5, .int x3), (0, .ref x0), (2, .int x2), (3, .int x3), (4, .int x4)]) X.1 X.2.1 dX0_awayOf_30 hl (by decide) rfl (fun ls hl => ?_)
      exact w_X0_awayOf_32 X hr7 FU (x3, 0) h _ _ _ hV hF (lv_sub hl [2, 3, 4, 5, 1, 0] rfl)
    · refine lv_iload X.1 X.2.1 dX0_awayOf_23 (lv_at hl 3 rfl) ?_
      exact r_iret X hV hF h dX0_awayOf_25
set_option maxHeartbeats 4000000 in
theorem w_X0_awayOf_7 {p : Program} {l : Launch} {e : Env} {s : State} {m : MethodId} {args : Array Value} {below : List Frame} {meth : Method} {c : Code} {g : Gl} (X : FX g p m c s args meth cX0_awayOf 8 RX0 (some .int) "awayOf") {r : Int32 × Hp} {σ : Hp} {x0 : Nat} {x2 : Int32}  : ∀ (n : Nat) (st : Int32 × Int32), L_X0_awayOf_7 σ x0 x2 n st = some r → ∀ (H : Heap) (locs : List Loc) (ls : Array Slot), HV g σ H → FR g locs → lv_has ls 8 [(0, .ref x0), (2, .int x2), (3, .int st.1), (4, .int st.2)] → W p l e rm_X0_awayOf s m args below meth c H locs 0 0 (MQ below (Qi g r) args s 0 0 (frN g)) (F0 m 7 ls []) := by
  intro n
  induction n with
  | zero =>
    intro st h
    rw [L_X0_awayOf_7_0] at h
    cases h
  | succ n ih =>
    intro st h H locs ls hV hF hl
    rw [L_X0_awayOf_7_s] at h
    exact w_X0_awayOf_7_b X  ih h hV hF hl
set_option maxHeartbeats 4000000 in
theorem c_X0_awayOf (l : Launch) {g : Gl} {σ : Hp} {x0 : Nat} {x1 : Int32} {x2 : Int32} {r : Int32 × Hp} (h : F_X0_awayOf σ x0 x1 x2 = some r) : Met l yX0_awayOf (ws_ yX0_awayOf cX0_awayOf 8 (some .int)) rm_X0_awayOf (va_Pc [.ref x0, .int x1, .int x2] (WV g σ)) (Qi g r) 0 0 (frN g) := by
  refine ct_of (by decide) (Nat.le_of_ble_eq_true rfl) ?_
  intro p e s m below meth c ls X hV hl
  have hF : FR g [] := FR_nil
  unfold F_X0_awayOf at h
  have hl : lv_has ls 8 [(0, .ref x0), (1, .int x1), (2, .int x2)] := hl
  have X : FX g p m c s _ meth cX0_awayOf 8 RX0 (some .int) "awayOf" := X
  obtain ⟨-, h⟩ := gd_inv h
  refine lv_iconst (v := 1) X.1 X.2.1 dX0_awayOf_0 (by decide) ?_
  refine lv_iload_n X.1 X.2.1 dX0_awayOf_1 rfl (lv_at hl 1 rfl) ?_
  refine lv_ishl X.1 X.2.1 dX0_awayOf_2 ?_
  refine lv_istore_n (lv' := [(3, .int (1 <<< (x1 &&& 31))), (0, .ref x0), (1, .int x1), (2, .int x2)]) X.1 X.2.1 dX0_awayOf_3 rfl hl (by decide) rfl (fun ls hl => ?_)
  refine lv_iconst (v := 0) X.1 X.2.1 dX0_awayOf_4 (by decide) ?_
  refine lv_istore (lv' := [(4, .int 0), (3, .int (1 <<< (x1 &&& 31))), (0, .ref x0), (1, .int x1), (2, .int x2)]) X.1 X.2.1 dX0_awayOf_5 hl (by decide) rfl (fun ls hl => ?_)
  exact w_X0_awayOf_7 X  FU (1 <<< (x1 &&& 31), 0) h _ _ _ hV hF (lv_sub hl [2, 4, 1, 0] rfl)
/-! PalaceOfRooms.away -/
theorem dX0_away_0 : decode cX0_away 0 = .ok (.iload_n 1, 1) := by decide +kernel
theorem dX0_away_1 : decode cX0_away 1 = .ok (.invokestatic 105, 3) := by decide +kernel
theorem dX0_away_4 : decode cX0_away 4 = .ok (.ifCond .eq 19, 3) := by decide +kernel
theorem dX0_away_7 : decode cX0_away 7 = .ok (.iload_n 2, 1) := by decide +kernel
theorem dX0_away_8 : decode cX0_away 8 = .ok (.invokestatic 105, 3) := by decide +kernel
theorem dX0_away_11 : decode cX0_away 11 = .ok (.ifCond .eq 12, 3) := by decide +kernel
theorem dX0_away_14 : decode cX0_away 14 = .ok (.aload_n 0, 1) := by decide +kernel
theorem dX0_away_15 : decode cX0_away 15 = .ok (.iload_n 1, 1) := by decide +kernel
theorem dX0_away_16 : decode cX0_away 16 = .ok (.iload_n 2, 1) := by decide +kernel
theorem dX0_away_17 : decode cX0_away 17 = .ok (.invokevirtual 112, 3) := by decide +kernel
theorem dX0_away_20 : decode cX0_away 20 = .ok (.goto 5, 3) := by decide +kernel
theorem dX0_away_23 : decode cX0_away 23 = .ok (.bipush (-2), 2) := by decide +kernel
theorem dX0_away_25 : decode cX0_away 25 = .ok (.ireturn, 1) := by decide +kernel
theorem yd_X0_away : yX0_away.cls ≠ "java/lang/invoke/MethodHandle" ∧ yX0_away.cls ≠ "java/lang/invoke/VarHandle" ∧ (parseMethodDescriptor yX0_away.desc).map (fun d => d.parameters.length) = some 2 := by decide +kernel
abbrev rm_X0_away : Room := { frames := 2, cells := 0, slots := 0, locals := 45 }
set_option maxHeartbeats 4000000 in
theorem c_X0_away (l : Launch) {g : Gl} {σ : Hp} {x0 : Nat} {x1 : Int32} {x2 : Int32} {r : Int32 × Hp} (h : F_X0_away σ x0 x1 x2 = some r) : Met l yX0_away (ws_ yX0_away cX0_away 3 (some .int)) rm_X0_away (va_Pc [.ref x0, .int x1, .int x2] (WV g σ)) (Qi g r) 0 0 (frN g) := by
  refine ct_of (by decide) (Nat.le_of_ble_eq_true rfl) ?_
  intro p e s m below meth c ls X hV hl
  have hF : FR g [] := FR_nil
  unfold F_X0_away at h
  have hl : lv_has ls 3 [(0, .ref x0), (1, .int x1), (2, .int x2)] := hl
  have X : FX g p m c s _ meth cX0_away 3 RX0 (some .int) "away" := X
  obtain ⟨-, h⟩ := gd_inv h
  refine lv_iload_n X.1 X.2.1 dX0_away_0 rfl (lv_at hl 1 rfl) ?_
  obtain ⟨v1, s1, hc, h⟩ := b2_inv h
  refine r_ci (va_runS (As := [.int x1]) (rest := []) (cfX X) (c_X0_isRoom l hc) (va_cwS 1 X.2.2.2.2.1 (lw_S q327 q328 q49 q329) rfl rfl rfl yd_X0_isRoom ⟨Nat.le_of_ble_eq_true rfl, Nat.le_of_ble_eq_true rfl⟩) (preS X hV) rfl rfl hl.1 rfl (lv_room (Nat.le_of_ble_eq_true rfl)) dX0_away_1 ⟨(Nat.le_of_ble_eq_true rfl), (Nat.le_of_ble_eq_true rfl)⟩) hF (fun H locs hV hF => ?_)
  refine r_ifeq (tgt := 23) X.1 X.2.1 dX0_away_4 (by decide) h (fun h => ?_) (fun h => ?_)
  · refine lv_bipush (v := (-2)) X.1 X.2.1 dX0_away_23 (by decide) ?_
    exact r_iret X hV hF h dX0_away_25
  · refine lv_iload_n X.1 X.2.1 dX0_away_7 rfl (lv_at hl 2 rfl) ?_
    obtain ⟨v2, s2, hc, h⟩ := b2_inv h
    refine r_ci (va_runS (As := [.int x2]) (rest := []) (cfX X) (c_X0_isRoom l hc) (va_cwS 1 X.2.2.2.2.1 (lw_S q327 q328 q49 q329) rfl rfl rfl yd_X0_isRoom ⟨Nat.le_of_ble_eq_true rfl, Nat.le_of_ble_eq_true rfl⟩) (preS X hV) rfl rfl hl.1 rfl (lv_room (Nat.le_of_ble_eq_true rfl)) dX0_away_8 ⟨(Nat.le_of_ble_eq_true rfl), (Nat.le_of_ble_eq_true rfl)⟩) hF (fun H locs hV hF => ?_)
    refine r_ifeq (tgt := 23) X.1 X.2.1 dX0_away_11 (by decide) h (fun h => ?_) (fun h => ?_)
    · refine lv_bipush (v := (-2)) X.1 X.2.1 dX0_away_23 (by decide) ?_
      exact r_iret X hV hF h dX0_away_25
    · refine lv_aload_n X.1 X.2.1 dX0_away_14 rfl (lv_at hl 0 rfl) ?_
      refine lv_iload_n X.1 X.2.1 dX0_away_15 rfl (lv_at hl 1 rfl) ?_
      refine lv_iload_n X.1 X.2.1 dX0_away_16 rfl (lv_at hl 2 rfl) ?_
      obtain ⟨v3, s3, hc, h⟩ := b2_inv h
      refine r_ci (va_runV (C := RX0) (As := [.int x1, .int x2]) (rest := []) (cfX X) (c_X0_awayOf l hc) (cwV 2 X.2.2.2.2.1 (lw_V q338 q340 qs0 q49 q341) rfl rfl rfl ⟨rfl, yd_X0_awayOf⟩ ⟨Nat.le_of_ble_eq_true rfl, Nat.le_of_ble_eq_true rfl⟩) (preV X hV (F_X0_awayOf_g hc) rfl) rfl rfl hl.1 rfl (lv_room (Nat.le_of_ble_eq_true rfl)) dX0_away_17 ⟨(Nat.le_of_ble_eq_true rfl), (Nat.le_of_ble_eq_true rfl)⟩) hF (fun H locs hV hF => ?_)
      refine lv_goto (tgt := 25) X.1 X.2.1 dX0_away_20 (by decide) ?_
      exact r_iret X hV hF h dX0_away_25
/-! PalaceOfRooms.isThing -/
theorem dX0_isThing_0 : decode cX0_isThing 0 = .ok (.iload_n 0, 1) := by decide +kernel
theorem dX0_isThing_1 : decode cX0_isThing 1 = .ok (.i2l, 1) := by decide +kernel
theorem dX0_isThing_2 : decode cX0_isThing 2 = .ok (.lconst 0, 1) := by decide +kernel
theorem dX0_isThing_3 : decode cX0_isThing 3 = .ok (.ldc2_w 11, 3) := by decide +kernel
theorem dX0_isThing_6 : decode cX0_isThing 6 = .ok (.invokestatic 5, 3) := by decide +kernel
theorem dX0_isThing_9 : decode cX0_isThing 9 = .ok (.ireturn, 1) := by decide +kernel
theorem yd_X0_isThing : yX0_isThing.cls ≠ "java/lang/invoke/MethodHandle" ∧ yX0_isThing.cls ≠ "java/lang/invoke/VarHandle" ∧ (parseMethodDescriptor yX0_isThing.desc).map (fun d => d.parameters.length) = some 1 := by decide +kernel
abbrev rm_X0_isThing : Room := { frames := 1, cells := 0, slots := 0, locals := 25 }
set_option maxHeartbeats 4000000 in
theorem c_X0_isThing (l : Launch) {g : Gl} {σ : Hp} {x0 : Int32} {r : Int32 × Hp} (h : F_X0_isThing σ x0 = some r) : Met l yX0_isThing (ws_ yX0_isThing cX0_isThing 1 (some .boolean)) rm_X0_isThing (va_Pc [.int x0] (WV g σ)) (Qi g r) 0 0 (frN g) := by
  refine ct_of (by decide) (Nat.le_of_ble_eq_true rfl) ?_
  intro p e s m below meth c ls X hV hl
  have hF : FR g [] := FR_nil
  unfold F_X0_isThing at h
  have hl : lv_has ls 1 [(0, .int x0)] := hl
  have X : FX g p m c s _ meth cX0_isThing 1 RX0 (some .boolean) "isThing" := X
  refine lv_iload_n X.1 X.2.1 dX0_isThing_0 rfl (lv_at hl 0 rfl) ?_
  refine lv_i2l (v := (x0 : Int32).toInt64) X.1 X.2.1 dX0_isThing_1 rfl ?_
  refine lv_lconst (v := 0) X.1 X.2.1 dX0_isThing_2 (by decide) ?_
  refine lv_ldc2 (v := 23) X.1 X.2.1 X.2.2.2.1 (X.2.2.2.2.1 _ q349) dX0_isThing_3 ?_
  obtain ⟨v1, s1, hc, h⟩ := b2_inv h
  refine r_ci (va_runS (As := [.long ((x0 : Int32).toInt64), .long 0, .long 23]) (rest := []) (cfX X) (c_X0_isIn l hc) (va_cwS 3 X.2.2.2.2.1 (lw_S q331 q332 q49 q333) rfl rfl rfl yd_X0_isIn ⟨Nat.le_of_ble_eq_true rfl, Nat.le_of_ble_eq_true rfl⟩) (preS X hV) rfl rfl hl.1 rfl (lv_room (Nat.le_of_ble_eq_true rfl)) dX0_isThing_6 ⟨(Nat.le_of_ble_eq_true rfl), (Nat.le_of_ble_eq_true rfl)⟩) hF (fun H locs hV hF => ?_)
  exact r_zrv X hV hF h dX0_isThing_9
/-! PalaceOfRooms.marks -/
theorem dX0_marks_0 : decode cX0_marks 0 = .ok (.iload_n 1, 1) := by decide +kernel
theorem dX0_marks_1 : decode cX0_marks 1 = .ok (.invokestatic 116, 3) := by decide +kernel
theorem dX0_marks_4 : decode cX0_marks 4 = .ok (.ifCond .ne 6, 3) := by decide +kernel
theorem dX0_marks_7 : decode cX0_marks 7 = .ok (.bipush (-2), 2) := by decide +kernel
theorem dX0_marks_9 : decode cX0_marks 9 = .ok (.ireturn, 1) := by decide +kernel
theorem dX0_marks_10 : decode cX0_marks 10 = .ok (.iload_n 2, 1) := by decide +kernel
theorem dX0_marks_11 : decode cX0_marks 11 = .ok (.i2l, 1) := by decide +kernel
theorem dX0_marks_12 : decode cX0_marks 12 = .ok (.lconst 0, 1) := by decide +kernel
theorem dX0_marks_13 : decode cX0_marks 13 = .ok (.ldc2_w 119, 3) := by decide +kernel
theorem dX0_marks_16 : decode cX0_marks 16 = .ok (.invokestatic 5, 3) := by decide +kernel
theorem dX0_marks_19 : decode cX0_marks 19 = .ok (.ifCond .ne 6, 3) := by decide +kernel
theorem dX0_marks_22 : decode cX0_marks 22 = .ok (.bipush (-3), 2) := by decide +kernel
theorem dX0_marks_24 : decode cX0_marks 24 = .ok (.ireturn, 1) := by decide +kernel
theorem dX0_marks_25 : decode cX0_marks 25 = .ok (.aload_n 0, 1) := by decide +kernel
theorem dX0_marks_26 : decode cX0_marks 26 = .ok (.getfield 24, 3) := by decide +kernel
theorem dX0_marks_29 : decode cX0_marks 29 = .ok (.iload_n 1, 1) := by decide +kernel
theorem dX0_marks_30 : decode cX0_marks 30 = .ok (.iaload, 1) := by decide +kernel
theorem dX0_marks_31 : decode cX0_marks 31 = .ok (.istore_n 3, 1) := by decide +kernel
theorem dX0_marks_32 : decode cX0_marks 32 = .ok (.aload_n 0, 1) := by decide +kernel
theorem dX0_marks_33 : decode cX0_marks 33 = .ok (.getfield 24, 3) := by decide +kernel
theorem dX0_marks_36 : decode cX0_marks 36 = .ok (.iload_n 1, 1) := by decide +kernel
theorem dX0_marks_37 : decode cX0_marks 37 = .ok (.iload_n 2, 1) := by decide +kernel
theorem dX0_marks_38 : decode cX0_marks 38 = .ok (.iastore, 1) := by decide +kernel
theorem dX0_marks_39 : decode cX0_marks 39 = .ok (.iload_n 3, 1) := by decide +kernel
theorem dX0_marks_40 : decode cX0_marks 40 = .ok (.ireturn, 1) := by decide +kernel
theorem yd_X0_marks : yX0_marks.cls ≠ "java/lang/invoke/MethodHandle" ∧ yX0_marks.cls ≠ "java/lang/invoke/VarHandle" ∧ (parseMethodDescriptor yX0_marks.desc).map (fun d => d.parameters.length) = some 2 := by decide +kernel
theorem fl_X0_24_0 : FLk RX0 24 0 2 "[I" := ⟨RX0, TX0, 22, "PalaceOfRooms", rfl, by decide, (fun q => by have h1 := q.1; have h2 := q.2; omega), rfl, in_X0, Or.inl q251, Or.inl rfl⟩
abbrev rm_X0_marks : Room := { frames := 2, cells := 0, slots := 0, locals := 45 }
set_option maxHeartbeats 4000000 in
theorem c_X0_marks (l : Launch) {g : Gl} {σ : Hp} {x0 : Nat} {x1 : Int32} {x2 : Int32} {r : Int32 × Hp} (h : F_X0_marks σ x0 x1 x2 = some r) : Met l yX0_marks (ws_ yX0_marks cX0_marks 4 (some .int)) rm_X0_marks (va_Pc [.ref x0, .int x1, .int x2] (WV g σ)) (Qi g r) 0 0 (frN g) := by
  refine ct_of (by decide) (Nat.le_of_ble_eq_true rfl) ?_
  intro p e s m below meth c ls X hV hl
  have hF : FR g [] := FR_nil
  unfold F_X0_marks at h
  have hl : lv_has ls 4 [(0, .ref x0), (1, .int x1), (2, .int x2)] := hl
  have X : FX g p m c s _ meth cX0_marks 4 RX0 (some .int) "marks" := X
  obtain ⟨-, h⟩ := gd_inv h
  refine lv_iload_n X.1 X.2.1 dX0_marks_0 rfl (lv_at hl 1 rfl) ?_
  obtain ⟨v1, s1, hc, h⟩ := b2_inv h
  refine r_ci (va_runS (As := [.int x1]) (rest := []) (cfX X) (c_X0_isThing l hc) (va_cwS 1 X.2.2.2.2.1 (lw_S q346 q347 q49 q348) rfl rfl rfl yd_X0_isThing ⟨Nat.le_of_ble_eq_true rfl, Nat.le_of_ble_eq_true rfl⟩) (preS X hV) rfl rfl hl.1 rfl (lv_room (Nat.le_of_ble_eq_true rfl)) dX0_marks_1 ⟨(Nat.le_of_ble_eq_true rfl), (Nat.le_of_ble_eq_true rfl)⟩) hF (fun H locs hV hF => ?_)
  refine r_ifne (tgt := 10) X.1 X.2.1 dX0_marks_4 (by decide) h (fun h => ?_) (fun h => ?_)
  · refine lv_iload_n X.1 X.2.1 dX0_marks_10 rfl (lv_at hl 2 rfl) ?_
    refine lv_i2l (v := (x2 : Int32).toInt64) X.1 X.2.1 dX0_marks_11 rfl ?_
    refine lv_lconst (v := 0) X.1 X.2.1 dX0_marks_12 (by decide) ?_
    refine lv_ldc2 (v := 255) X.1 X.2.1 X.2.2.2.1 (X.2.2.2.2.1 _ q350) dX0_marks_13 ?_
    obtain ⟨v2, s2, hc, h⟩ := b2_inv h
    refine r_ci (va_runS (As := [.long ((x2 : Int32).toInt64), .long 0, .long 255]) (rest := []) (cfX X) (c_X0_isIn l hc) (va_cwS 3 X.2.2.2.2.1 (lw_S q331 q332 q49 q333) rfl rfl rfl yd_X0_isIn ⟨Nat.le_of_ble_eq_true rfl, Nat.le_of_ble_eq_true rfl⟩) (preS X hV) rfl rfl hl.1 rfl (lv_room (Nat.le_of_ble_eq_true rfl)) dX0_marks_16 ⟨(Nat.le_of_ble_eq_true rfl), (Nat.le_of_ble_eq_true rfl)⟩) hF (fun H locs hV hF => ?_)
    refine r_ifne (tgt := 25) X.1 X.2.1 dX0_marks_19 (by decide) h (fun h => ?_) (fun h => ?_)
    · refine lv_aload_n X.1 X.2.1 dX0_marks_25 rfl (lv_at hl 0 rfl) ?_
      refine r_gR X hV fl_X0_24_0 (by decide) dX0_marks_26 h (fun v3 h => ?_)
      refine lv_iload_n X.1 X.2.1 dX0_marks_29 rfl (lv_at hl 1 rfl) ?_
      refine r_ia X hV dX0_marks_30 h (fun v4 h => ?_)
      refine lv_istore_n (lv' := [(3, .int v4), (0, .ref x0), (1, .int x1), (2, .int x2)]) X.1 X.2.1 dX0_marks_31 rfl hl (by decide) rfl (fun ls hl => ?_)
      refine lv_aload_n X.1 X.2.1 dX0_marks_32 rfl (lv_at hl 1 rfl) ?_
      refine r_gR X hV fl_X0_24_0 (by decide) dX0_marks_33 h (fun v5 h => ?_)
      refine lv_iload_n X.1 X.2.1 dX0_marks_36 rfl (lv_at hl 2 rfl) ?_
      refine lv_iload_n X.1 X.2.1 dX0_marks_37 rfl (lv_at hl 3 rfl) ?_
      refine r_is X hV hF dX0_marks_38 h (fun s3 H locs hV hF h => ?_)
      refine lv_iload_n X.1 X.2.1 dX0_marks_39 rfl (lv_at hl 0 rfl) ?_
      exact r_iret X hV hF h dX0_marks_40
    · refine lv_bipush (v := (-3)) X.1 X.2.1 dX0_marks_22 (by decide) ?_
      exact r_iret X hV hF h dX0_marks_24
  · refine lv_bipush (v := (-2)) X.1 X.2.1 dX0_marks_7 (by decide) ?_
    exact r_iret X hV hF h dX0_marks_9
