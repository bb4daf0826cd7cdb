set_option maxRecDepth 100000
/-! PalaceOfRoomsModel.<init> -/
theorem dX10_init_0 : decode cX10_init 0 = .ok (.aload_n 0, 1) := by decide +kernel
theorem dX10_init_1 : decode cX10_init 1 = .ok (.invokespecial 1, 3) := by decide +kernel
theorem dX10_init_4 : decode cX10_init 4 = .ok (.aload_n 0, 1) := by decide +kernel
theorem dX10_init_5 : decode cX10_init 5 = .ok (.bipush 14, 2) := by decide +kernel
theorem dX10_init_7 : decode cX10_init 7 = .ok (.newarray .int, 2) := by decide +kernel
theorem dX10_init_9 : decode cX10_init 9 = .ok (.putfield 7, 3) := by decide +kernel
theorem dX10_init_12 : decode cX10_init 12 = .ok (.aload_n 0, 1) := by decide +kernel
theorem dX10_init_13 : decode cX10_init 13 = .ok (.bipush 14, 2) := by decide +kernel
theorem dX10_init_15 : decode cX10_init 15 = .ok (.newarray .int, 2) := by decide +kernel
theorem dX10_init_17 : decode cX10_init 17 = .ok (.putfield 13, 3) := by decide +kernel
theorem dX10_init_20 : decode cX10_init 20 = .ok (.aload_n 0, 1) := by decide +kernel
theorem dX10_init_21 : decode cX10_init 21 = .ok (.bipush 8, 2) := by decide +kernel
theorem dX10_init_23 : decode cX10_init 23 = .ok (.newarray .int, 2) := by decide +kernel
theorem dX10_init_25 : decode cX10_init 25 = .ok (.putfield 16, 3) := by decide +kernel
theorem dX10_init_28 : decode cX10_init 28 = .ok (.aload_n 0, 1) := by decide +kernel
theorem dX10_init_29 : decode cX10_init 29 = .ok (.bipush 24, 2) := by decide +kernel
theorem dX10_init_31 : decode cX10_init 31 = .ok (.newarray .int, 2) := by decide +kernel
theorem dX10_init_33 : decode cX10_init 33 = .ok (.putfield 19, 3) := by decide +kernel
theorem dX10_init_36 : decode cX10_init 36 = .ok (.aload_n 0, 1) := by decide +kernel
theorem dX10_init_37 : decode cX10_init 37 = .ok (.iconst 4, 1) := by decide +kernel
theorem dX10_init_38 : decode cX10_init 38 = .ok (.putfield 22, 3) := by decide +kernel
theorem dX10_init_41 : decode cX10_init 41 = .ok (.aload_n 0, 1) := by decide +kernel
theorem dX10_init_42 : decode cX10_init 42 = .ok (.bipush 50, 2) := by decide +kernel
theorem dX10_init_44 : decode cX10_init 44 = .ok (.putfield 26, 3) := by decide +kernel
theorem dX10_init_47 : decode cX10_init 47 = .ok (.aload_n 0, 1) := by decide +kernel
theorem dX10_init_48 : decode cX10_init 48 = .ok (.bipush 11, 2) := by decide +kernel
theorem dX10_init_50 : decode cX10_init 50 = .ok (.newarray .int, 2) := by decide +kernel
theorem dX10_init_52 : decode cX10_init 52 = .ok (.putfield 29, 3) := by decide +kernel
theorem dX10_init_55 : decode cX10_init 55 = .ok (.aload_n 0, 1) := by decide +kernel
theorem dX10_init_56 : decode cX10_init 56 = .ok (.bipush 48, 2) := by decide +kernel
theorem dX10_init_58 : decode cX10_init 58 = .ok (.newarray .int, 2) := by decide +kernel
theorem dX10_init_60 : decode cX10_init 60 = .ok (.putfield 32, 3) := by decide +kernel
theorem dX10_init_63 : decode cX10_init 63 = .ok (.aload_n 0, 1) := by decide +kernel
theorem dX10_init_64 : decode cX10_init 64 = .ok (.bipush 48, 2) := by decide +kernel
theorem dX10_init_66 : decode cX10_init 66 = .ok (.newarray .int, 2) := by decide +kernel
theorem dX10_init_68 : decode cX10_init 68 = .ok (.putfield 35, 3) := by decide +kernel
theorem dX10_init_71 : decode cX10_init 71 = .ok (.aload_n 0, 1) := by decide +kernel
theorem dX10_init_72 : decode cX10_init 72 = .ok (.bipush 48, 2) := by decide +kernel
theorem dX10_init_74 : decode cX10_init 74 = .ok (.newarray .int, 2) := by decide +kernel
theorem dX10_init_76 : decode cX10_init 76 = .ok (.putfield 38, 3) := by decide +kernel
theorem dX10_init_79 : decode cX10_init 79 = .ok (.aload_n 0, 1) := by decide +kernel
theorem dX10_init_80 : decode cX10_init 80 = .ok (.bipush 48, 2) := by decide +kernel
theorem dX10_init_82 : decode cX10_init 82 = .ok (.newarray .int, 2) := by decide +kernel
theorem dX10_init_84 : decode cX10_init 84 = .ok (.putfield 41, 3) := by decide +kernel
theorem dX10_init_87 : decode cX10_init 87 = .ok (.aload_n 0, 1) := by decide +kernel
theorem dX10_init_88 : decode cX10_init 88 = .ok (.bipush 48, 2) := by decide +kernel
theorem dX10_init_90 : decode cX10_init 90 = .ok (.newarray .int, 2) := by decide +kernel
theorem dX10_init_92 : decode cX10_init 92 = .ok (.putfield 44, 3) := by decide +kernel
theorem dX10_init_95 : decode cX10_init 95 = .ok (.aload_n 0, 1) := by decide +kernel
theorem dX10_init_96 : decode cX10_init 96 = .ok (.bipush 8, 2) := by decide +kernel
theorem dX10_init_98 : decode cX10_init 98 = .ok (.newarray .int, 2) := by decide +kernel
theorem dX10_init_100 : decode cX10_init 100 = .ok (.putfield 47, 3) := by decide +kernel
theorem dX10_init_103 : decode cX10_init 103 = .ok (.aload_n 0, 1) := by decide +kernel
theorem dX10_init_104 : decode cX10_init 104 = .ok (.sipush 240, 3) := by decide +kernel
theorem dX10_init_107 : decode cX10_init 107 = .ok (.newarray .int, 2) := by decide +kernel
theorem dX10_init_109 : decode cX10_init 109 = .ok (.putfield 50, 3) := by decide +kernel
theorem dX10_init_112 : decode cX10_init 112 = .ok (.aload_n 0, 1) := by decide +kernel
theorem dX10_init_113 : decode cX10_init 113 = .ok (.sipush 240, 3) := by decide +kernel
theorem dX10_init_116 : decode cX10_init 116 = .ok (.newarray .int, 2) := by decide +kernel
theorem dX10_init_118 : decode cX10_init 118 = .ok (.putfield 53, 3) := by decide +kernel
theorem dX10_init_121 : decode cX10_init 121 = .ok (.aload_n 0, 1) := by decide +kernel
theorem dX10_init_122 : decode cX10_init 122 = .ok (.iconst 5, 1) := by decide +kernel
theorem dX10_init_123 : decode cX10_init 123 = .ok (.newarray .int, 2) := by decide +kernel
theorem dX10_init_125 : decode cX10_init 125 = .ok (.putfield 56, 3) := by decide +kernel
theorem dX10_init_128 : decode cX10_init 128 = .ok (.aload_n 0, 1) := by decide +kernel
theorem dX10_init_129 : decode cX10_init 129 = .ok (.iconst 4, 1) := by decide +kernel
theorem dX10_init_130 : decode cX10_init 130 = .ok (.newarray .int, 2) := by decide +kernel
theorem dX10_init_132 : decode cX10_init 132 = .ok (.putfield 59, 3) := by decide +kernel
theorem dX10_init_135 : decode cX10_init 135 = .ok (.aload_n 0, 1) := by decide +kernel
theorem dX10_init_136 : decode cX10_init 136 = .ok (.sipush 160, 3) := by decide +kernel
theorem dX10_init_139 : decode cX10_init 139 = .ok (.newarray .int, 2) := by decide +kernel
theorem dX10_init_141 : decode cX10_init 141 = .ok (.putfield 62, 3) := by decide +kernel
theorem dX10_init_144 : decode cX10_init 144 = .ok (.aload_n 0, 1) := by decide +kernel
theorem dX10_init_145 : decode cX10_init 145 = .ok (.bipush 30, 2) := by decide +kernel
theorem dX10_init_147 : decode cX10_init 147 = .ok (.newarray .int, 2) := by decide +kernel
theorem dX10_init_149 : decode cX10_init 149 = .ok (.putfield 65, 3) := by decide +kernel
theorem dX10_init_152 : decode cX10_init 152 = .ok (.aload_n 0, 1) := by decide +kernel
theorem dX10_init_153 : decode cX10_init 153 = .ok (.bipush 30, 2) := by decide +kernel
theorem dX10_init_155 : decode cX10_init 155 = .ok (.newarray .int, 2) := by decide +kernel
theorem dX10_init_157 : decode cX10_init 157 = .ok (.putfield 68, 3) := by decide +kernel
theorem dX10_init_160 : decode cX10_init 160 = .ok (.aload_n 0, 1) := by decide +kernel
theorem dX10_init_161 : decode cX10_init 161 = .ok (.bipush 8, 2) := by decide +kernel
theorem dX10_init_163 : decode cX10_init 163 = .ok (.newarray .int, 2) := by decide +kernel
theorem dX10_init_165 : decode cX10_init 165 = .ok (.putfield 71, 3) := by decide +kernel
theorem dX10_init_168 : decode cX10_init 168 = .ok (.aload_n 0, 1) := by decide +kernel
theorem dX10_init_169 : decode cX10_init 169 = .ok (.bipush 8, 2) := by decide +kernel
theorem dX10_init_171 : decode cX10_init 171 = .ok (.newarray .int, 2) := by decide +kernel
theorem dX10_init_173 : decode cX10_init 173 = .ok (.putfield 74, 3) := by decide +kernel
theorem dX10_init_176 : decode cX10_init 176 = .ok (.aload_n 0, 1) := by decide +kernel
theorem dX10_init_177 : decode cX10_init 177 = .ok (.bipush 8, 2) := by decide +kernel
theorem dX10_init_179 : decode cX10_init 179 = .ok (.newarray .int, 2) := by decide +kernel
theorem dX10_init_181 : decode cX10_init 181 = .ok (.putfield 77, 3) := by decide +kernel
theorem dX10_init_184 : decode cX10_init 184 = .ok (.aload_n 0, 1) := by decide +kernel
theorem dX10_init_185 : decode cX10_init 185 = .ok (.iconst 4, 1) := by decide +kernel
theorem dX10_init_186 : decode cX10_init 186 = .ok (.newarray .int, 2) := by decide +kernel
theorem dX10_init_188 : decode cX10_init 188 = .ok (.putfield 80, 3) := by decide +kernel
theorem dX10_init_191 : decode cX10_init 191 = .ok (.aload_n 0, 1) := by decide +kernel
theorem dX10_init_192 : decode cX10_init 192 = .ok (.bipush 48, 2) := by decide +kernel
theorem dX10_init_194 : decode cX10_init 194 = .ok (.newarray .int, 2) := by decide +kernel
theorem dX10_init_196 : decode cX10_init 196 = .ok (.putfield 83, 3) := by decide +kernel
theorem dX10_init_199 : decode cX10_init 199 = .ok (.aload_n 0, 1) := by decide +kernel
theorem dX10_init_200 : decode cX10_init 200 = .ok (.bipush 48, 2) := by decide +kernel
theorem dX10_init_202 : decode cX10_init 202 = .ok (.newarray .boolean, 2) := by decide +kernel
theorem dX10_init_204 : decode cX10_init 204 = .ok (.putfield 86, 3) := by decide +kernel
theorem dX10_init_207 : decode cX10_init 207 = .ok (.aload_n 0, 1) := by decide +kernel
theorem dX10_init_208 : decode cX10_init 208 = .ok (.bipush 100, 2) := by decide +kernel
theorem dX10_init_210 : decode cX10_init 210 = .ok (.newarray .int, 2) := by decide +kernel
theorem dX10_init_212 : decode cX10_init 212 = .ok (.putfield 90, 3) := by decide +kernel
theorem dX10_init_215 : decode cX10_init 215 = .ok (.iconst 0, 1) := by decide +kernel
theorem dX10_init_216 : decode cX10_init 216 = .ok (.istore_n 1, 1) := by decide +kernel
theorem dX10_init_217 : decode cX10_init 217 = .ok (.iload_n 1, 1) := by decide +kernel
theorem dX10_init_218 : decode cX10_init 218 = .ok (.bipush 11, 2) := by decide +kernel
theorem dX10_init_220 : decode cX10_init 220 = .ok (.if_icmp .ge 16, 3) := by decide +kernel
theorem dX10_init_223 : decode cX10_init 223 = .ok (.aload_n 0, 1) := by decide +kernel
theorem dX10_init_224 : decode cX10_init 224 = .ok (.getfield 29, 3) := by decide +kernel
theorem dX10_init_227 : decode cX10_init 227 = .ok (.iload_n 1, 1) := by decide +kernel
theorem dX10_init_228 : decode cX10_init 228 = .ok (.iconst 5, 1) := by decide +kernel
theorem dX10_init_229 : decode cX10_init 229 = .ok (.iastore, 1) := by decide +kernel
theorem dX10_init_230 : decode cX10_init 230 = .ok (.iinc 1 1, 3) := by decide +kernel
theorem dX10_init_233 : decode cX10_init 233 = .ok (.goto (-16), 3) := by decide +kernel
theorem dX10_init_236 : decode cX10_init 236 = .ok (.iconst 0, 1) := by decide +kernel
theorem dX10_init_237 : decode cX10_init 237 = .ok (.istore_n 1, 1) := by decide +kernel
theorem dX10_init_238 : decode cX10_init 238 = .ok (.iload_n 1, 1) := by decide +kernel
theorem dX10_init_239 : decode cX10_init 239 = .ok (.bipush 48, 2) := by decide +kernel
theorem dX10_init_241 : decode cX10_init 241 = .ok (.if_icmp .ge 30, 3) := by decide +kernel
theorem dX10_init_244 : decode cX10_init 244 = .ok (.aload_n 0, 1) := by decide +kernel
theorem dX10_init_245 : decode cX10_init 245 = .ok (.getfield 32, 3) := by decide +kernel
theorem dX10_init_248 : decode cX10_init 248 = .ok (.iload_n 1, 1) := by decide +kernel
theorem dX10_init_249 : decode cX10_init 249 = .ok (.iconst (-1), 1) := by decide +kernel
theorem dX10_init_250 : decode cX10_init 250 = .ok (.iastore, 1) := by decide +kernel
theorem dX10_init_251 : decode cX10_init 251 = .ok (.aload_n 0, 1) := by decide +kernel
theorem dX10_init_252 : decode cX10_init 252 = .ok (.getfield 38, 3) := by decide +kernel
theorem dX10_init_255 : decode cX10_init 255 = .ok (.iload_n 1, 1) := by decide +kernel
theorem dX10_init_256 : decode cX10_init 256 = .ok (.iconst (-1), 1) := by decide +kernel
theorem dX10_init_257 : decode cX10_init 257 = .ok (.iastore, 1) := by decide +kernel
theorem dX10_init_258 : decode cX10_init 258 = .ok (.aload_n 0, 1) := by decide +kernel
theorem dX10_init_259 : decode cX10_init 259 = .ok (.getfield 44, 3) := by decide +kernel
theorem dX10_init_262 : decode cX10_init 262 = .ok (.iload_n 1, 1) := by decide +kernel
theorem dX10_init_263 : decode cX10_init 263 = .ok (.iconst (-1), 1) := by decide +kernel
theorem dX10_init_264 : decode cX10_init 264 = .ok (.iastore, 1) := by decide +kernel
theorem dX10_init_265 : decode cX10_init 265 = .ok (.iinc 1 1, 3) := by decide +kernel
theorem dX10_init_268 : decode cX10_init 268 = .ok (.goto (-30), 3) := by decide +kernel
theorem dX10_init_271 : decode cX10_init 271 = .ok (.iconst 0, 1) := by decide +kernel
theorem dX10_init_272 : decode cX10_init 272 = .ok (.istore_n 1, 1) := by decide +kernel
theorem dX10_init_273 : decode cX10_init 273 = .ok (.iload_n 1, 1) := by decide +kernel
theorem dX10_init_274 : decode cX10_init 274 = .ok (.bipush 8, 2) := by decide +kernel
theorem dX10_init_276 : decode cX10_init 276 = .ok (.if_icmp .ge 16, 3) := by decide +kernel
theorem dX10_init_279 : decode cX10_init 279 = .ok (.aload_n 0, 1) := by decide +kernel
theorem dX10_init_280 : decode cX10_init 280 = .ok (.getfield 47, 3) := by decide +kernel
theorem dX10_init_283 : decode cX10_init 283 = .ok (.iload_n 1, 1) := by decide +kernel
theorem dX10_init_284 : decode cX10_init 284 = .ok (.iconst (-1), 1) := by decide +kernel
theorem dX10_init_285 : decode cX10_init 285 = .ok (.iastore, 1) := by decide +kernel
theorem dX10_init_286 : decode cX10_init 286 = .ok (.iinc 1 1, 3) := by decide +kernel
theorem dX10_init_289 : decode cX10_init 289 = .ok (.goto (-16), 3) := by decide +kernel
theorem dX10_init_292 : decode cX10_init 292 = .ok (.return_, 1) := by decide +kernel
theorem yd_X10_init : yX10_init.cls ≠ "java/lang/invoke/MethodHandle" ∧ yX10_init.cls ≠ "java/lang/invoke/VarHandle" ∧ (parseMethodDescriptor yX10_init.desc).map (fun d => d.parameters.length) = some 0 := by decide +kernel
theorem fl_X10_47_10 : FLk RX10 47 10 14 "[I" := ⟨RX10, TX10, 39, "PalaceOfRoomsModel", rfl, by decide, (fun q => by have h1 := q.1; have h2 := q.2; omega), rfl, in_X10, Or.inl q993, Or.inl rfl⟩
theorem fl_X10_32_10 : FLk RX10 32 10 9 "[I" := ⟨RX10, TX10, 39, "PalaceOfRoomsModel", rfl, by decide, (fun q => by have h1 := q.1; have h2 := q.2; omega), rfl, in_X10, Or.inl q988, Or.inl rfl⟩
theorem fl_X10_38_10 : FLk RX10 38 10 11 "[I" := ⟨RX10, TX10, 39, "PalaceOfRoomsModel", rfl, by decide, (fun q => by have h1 := q.1; have h2 := q.2; omega), rfl, in_X10, Or.inl q990, Or.inl rfl⟩
theorem fl_X10_44_10 : FLk RX10 44 10 13 "[I" := ⟨RX10, TX10, 39, "PalaceOfRoomsModel", rfl, by decide, (fun q => by have h1 := q.1; have h2 := q.2; omega), rfl, in_X10, Or.inl q992, Or.inl rfl⟩
theorem fl_X10_29_10 : FLk RX10 29 10 8 "[I" := ⟨RX10, TX10, 39, "PalaceOfRoomsModel", rfl, by decide, (fun q => by have h1 := q.1; have h2 := q.2; omega), rfl, in_X10, Or.inl q987, Or.inl rfl⟩
theorem fp_X10_7_10 : FPk RX10 7 10 2 "[I" true := ⟨RX10, TX10, 39, "PalaceOfRoomsModel", tyX10, rfl, by decide, (fun q => by have h1 := q.1; have h2 := q.2; omega), rfl, in_X10, tyX10_ok, (fun a ha b hb h => Or.inl (nmX10 a ha b hb h)), rfl, fun _ => rfl, (Or.inl q981), Or.inl rfl⟩
theorem fp_X10_13_10 : FPk RX10 13 10 3 "[I" true := ⟨RX10, TX10, 39, "PalaceOfRoomsModel", tyX10, rfl, by decide, (fun q => by have h1 := q.1; have h2 := q.2; omega), rfl, in_X10, tyX10_ok, (fun a ha b hb h => Or.inl (nmX10 a ha b hb h)), rfl, fun _ => rfl, (Or.inl q982), Or.inl rfl⟩
theorem fp_X10_16_10 : FPk RX10 16 10 4 "[I" true := ⟨RX10, TX10, 39, "PalaceOfRoomsModel", tyX10, rfl, by decide, (fun q => by have h1 := q.1; have h2 := q.2; omega), rfl, in_X10, tyX10_ok, (fun a ha b hb h => Or.inl (nmX10 a ha b hb h)), rfl, fun _ => rfl, (Or.inl q983), Or.inl rfl⟩
theorem fp_X10_19_10 : FPk RX10 19 10 5 "[I" true := ⟨RX10, TX10, 39, "PalaceOfRoomsModel", tyX10, rfl, by decide, (fun q => by have h1 := q.1; have h2 := q.2; omega), rfl, in_X10, tyX10_ok, (fun a ha b hb h => Or.inl (nmX10 a ha b hb h)), rfl, fun _ => rfl, (Or.inl q984), Or.inl rfl⟩
theorem fp_X10_22_10 : FPk RX10 22 10 6 "I" false := ⟨RX10, TX10, 39, "PalaceOfRoomsModel", tyX10, rfl, by decide, (fun q => by have h1 := q.1; have h2 := q.2; omega), rfl, in_X10, tyX10_ok, (fun a ha b hb h => Or.inl (nmX10 a ha b hb h)), rfl, (fun q => by cases q), (Or.inl q985), Or.inl rfl⟩
theorem fp_X10_26_10 : FPk RX10 26 10 7 "I" false := ⟨RX10, TX10, 39, "PalaceOfRoomsModel", tyX10, rfl, by decide, (fun q => by have h1 := q.1; have h2 := q.2; omega), rfl, in_X10, tyX10_ok, (fun a ha b hb h => Or.inl (nmX10 a ha b hb h)), rfl, (fun q => by cases q), (Or.inl q986), Or.inl rfl⟩
theorem fp_X10_29_10 : FPk RX10 29 10 8 "[I" true := ⟨RX10, TX10, 39, "PalaceOfRoomsModel", tyX10, rfl, by decide, (fun q => by have h1 := q.1; have h2 := q.2; omega), rfl, in_X10, tyX10_ok, (fun a ha b hb h => Or.inl (nmX10 a ha b hb h)), rfl, fun _ => rfl, (Or.inl q987), Or.inl rfl⟩
theorem fp_X10_32_10 : FPk RX10 32 10 9 "[I" true := ⟨RX10, TX10, 39, "PalaceOfRoomsModel", tyX10, rfl, by decide, (fun q => by have h1 := q.1; have h2 := q.2; omega), rfl, in_X10, tyX10_ok, (fun a ha b hb h => Or.inl (nmX10 a ha b hb h)), rfl, fun _ => rfl, (Or.inl q988), Or.inl rfl⟩
theorem fp_X10_35_10 : FPk RX10 35 10 10 "[I" true := ⟨RX10, TX10, 39, "PalaceOfRoomsModel", tyX10, rfl, by decide, (fun q => by have h1 := q.1; have h2 := q.2; omega), rfl, in_X10, tyX10_ok, (fun a ha b hb h => Or.inl (nmX10 a ha b hb h)), rfl, fun _ => rfl, (Or.inl q989), Or.inl rfl⟩
theorem fp_X10_38_10 : FPk RX10 38 10 11 "[I" true := ⟨RX10, TX10, 39, "PalaceOfRoomsModel", tyX10, rfl, by decide, (fun q => by have h1 := q.1; have h2 := q.2; omega), rfl, in_X10, tyX10_ok, (fun a ha b hb h => Or.inl (nmX10 a ha b hb h)), rfl, fun _ => rfl, (Or.inl q990), Or.inl rfl⟩
theorem fp_X10_41_10 : FPk RX10 41 10 12 "[I" true := ⟨RX10, TX10, 39, "PalaceOfRoomsModel", tyX10, rfl, by decide, (fun q => by have h1 := q.1; have h2 := q.2; omega), rfl, in_X10, tyX10_ok, (fun a ha b hb h => Or.inl (nmX10 a ha b hb h)), rfl, fun _ => rfl, (Or.inl q991), Or.inl rfl⟩
theorem fp_X10_44_10 : FPk RX10 44 10 13 "[I" true := ⟨RX10, TX10, 39, "PalaceOfRoomsModel", tyX10, rfl, by decide, (fun q => by have h1 := q.1; have h2 := q.2; omega), rfl, in_X10, tyX10_ok, (fun a ha b hb h => Or.inl (nmX10 a ha b hb h)), rfl, fun _ => rfl, (Or.inl q992), Or.inl rfl⟩
theorem fp_X10_47_10 : FPk RX10 47 10 14 "[I" true := ⟨RX10, TX10, 39, "PalaceOfRoomsModel", tyX10, rfl, by decide, (fun q => by have h1 := q.1; have h2 := q.2; omega), rfl, in_X10, tyX10_ok, (fun a ha b hb h => Or.inl (nmX10 a ha b hb h)), rfl, fun _ => rfl, (Or.inl q993), Or.inl rfl⟩
theorem fp_X10_50_10 : FPk RX10 50 10 15 "[I" true := ⟨RX10, TX10, 39, "PalaceOfRoomsModel", tyX10, rfl, by decide, (fun q => by have h1 := q.1; have h2 := q.2; omega), rfl, in_X10, tyX10_ok, (fun a ha b hb h => Or.inl (nmX10 a ha b hb h)), rfl, fun _ => rfl, (Or.inl q994), Or.inl rfl⟩
theorem fp_X10_53_10 : FPk RX10 53 10 16 "[I" true := ⟨RX10, TX10, 39, "PalaceOfRoomsModel", tyX10, rfl, by decide, (fun q => by have h1 := q.1; have h2 := q.2; omega), rfl, in_X10, tyX10_ok, (fun a ha b hb h => Or.inl (nmX10 a ha b hb h)), rfl, fun _ => rfl, (Or.inl q995), Or.inl rfl⟩
theorem fp_X10_56_10 : FPk RX10 56 10 17 "[I" true := ⟨RX10, TX10, 39, "PalaceOfRoomsModel", tyX10, rfl, by decide, (fun q => by have h1 := q.1; have h2 := q.2; omega), rfl, in_X10, tyX10_ok, (fun a ha b hb h => Or.inl (nmX10 a ha b hb h)), rfl, fun _ => rfl, (Or.inl q996), Or.inl rfl⟩
theorem fp_X10_59_10 : FPk RX10 59 10 18 "[I" true := ⟨RX10, TX10, 39, "PalaceOfRoomsModel", tyX10, rfl, by decide, (fun q => by have h1 := q.1; have h2 := q.2; omega), rfl, in_X10, tyX10_ok, (fun a ha b hb h => Or.inl (nmX10 a ha b hb h)), rfl, fun _ => rfl, (Or.inl q997), Or.inl rfl⟩
theorem fp_X10_62_10 : FPk RX10 62 10 20 "[I" true := ⟨RX10, TX10, 39, "PalaceOfRoomsModel", tyX10, rfl, by decide, (fun q => by have h1 := q.1; have h2 := q.2; omega), rfl, in_X10, tyX10_ok, (fun a ha b hb h => Or.inl (nmX10 a ha b hb h)), rfl, fun _ => rfl, (Or.inl q999), Or.inl rfl⟩
theorem fp_X10_65_10 : FPk RX10 65 10 28 "[I" true := ⟨RX10, TX10, 39, "PalaceOfRoomsModel", tyX10, rfl, by decide, (fun q => by have h1 := q.1; have h2 := q.2; omega), rfl, in_X10, tyX10_ok, (fun a ha b hb h => Or.inl (nmX10 a ha b hb h)), rfl, fun _ => rfl, (Or.inl q1007), Or.inl rfl⟩
theorem fp_X10_68_10 : FPk RX10 68 10 30 "[I" true := ⟨RX10, TX10, 39, "PalaceOfRoomsModel", tyX10, rfl, by decide, (fun q => by have h1 := q.1; have h2 := q.2; omega), rfl, in_X10, tyX10_ok, (fun a ha b hb h => Or.inl (nmX10 a ha b hb h)), rfl, fun _ => rfl, (Or.inl q1009), Or.inl rfl⟩
theorem fp_X10_71_10 : FPk RX10 71 10 31 "[I" true := ⟨RX10, TX10, 39, "PalaceOfRoomsModel", tyX10, rfl, by decide, (fun q => by have h1 := q.1; have h2 := q.2; omega), rfl, in_X10, tyX10_ok, (fun a ha b hb h => Or.inl (nmX10 a ha b hb h)), rfl, fun _ => rfl, (Or.inl q1010), Or.inl rfl⟩
theorem fp_X10_74_10 : FPk RX10 74 10 32 "[I" true := ⟨RX10, TX10, 39, "PalaceOfRoomsModel", tyX10, rfl, by decide, (fun q => by have h1 := q.1; have h2 := q.2; omega), rfl, in_X10, tyX10_ok, (fun a ha b hb h => Or.inl (nmX10 a ha b hb h)), rfl, fun _ => rfl, (Or.inl q1011), Or.inl rfl⟩
theorem fp_X10_77_10 : FPk RX10 77 10 33 "[I" true := ⟨RX10, TX10, 39, "PalaceOfRoomsModel", tyX10, rfl, by decide, (fun q => by have h1 := q.1; have h2 := q.2; omega), rfl, in_X10, tyX10_ok, (fun a ha b hb h => Or.inl (nmX10 a ha b hb h)), rfl, fun _ => rfl, (Or.inl q1012), Or.inl rfl⟩
theorem fp_X10_80_10 : FPk RX10 80 10 35 "[I" true := ⟨RX10, TX10, 39, "PalaceOfRoomsModel", tyX10, rfl, by decide, (fun q => by have h1 := q.1; have h2 := q.2; omega), rfl, in_X10, tyX10_ok, (fun a ha b hb h => Or.inl (nmX10 a ha b hb h)), rfl, fun _ => rfl, (Or.inl q1014), Or.inl rfl⟩
theorem fp_X10_83_10 : FPk RX10 83 10 36 "[I" true := ⟨RX10, TX10, 39, "PalaceOfRoomsModel", tyX10, rfl, by decide, (fun q => by have h1 := q.1; have h2 := q.2; omega), rfl, in_X10, tyX10_ok, (fun a ha b hb h => Or.inl (nmX10 a ha b hb h)), rfl, fun _ => rfl, (Or.inl q1015), Or.inl rfl⟩
theorem fp_X10_86_10 : FPk RX10 86 10 37 "[Z" true := ⟨RX10, TX10, 39, "PalaceOfRoomsModel", tyX10, rfl, by decide, (fun q => by have h1 := q.1; have h2 := q.2; omega), rfl, in_X10, tyX10_ok, (fun a ha b hb h => Or.inl (nmX10 a ha b hb h)), rfl, fun _ => rfl, (Or.inl q1016), Or.inl rfl⟩
theorem fp_X10_90_10 : FPk RX10 90 10 38 "[I" true := ⟨RX10, TX10, 39, "PalaceOfRoomsModel", tyX10, rfl, by decide, (fun q => by have h1 := q.1; have h2 := q.2; omega), rfl, in_X10, tyX10_ok, (fun a ha b hb h => Or.inl (nmX10 a ha b hb h)), rfl, fun _ => rfl, (Or.inl q1017), Or.inl rfl⟩
abbrev rm_X10_init : Room := { frames := 1, cells := 25, slots := 1252, locals := 20 }
set_option maxHeartbeats 4000000 in
theorem w_X10_init_273_b {p : Program} {l : Launch} {e : Env} {s : State} {m : MethodId} {args : Array Value} {below : List Frame} {meth : Method} {c : Code} {g : Gl} (X : FX g p m c s args meth cX10_init 2 RX10 none "<init>") {r : Hp} {rec273 : Hp × Int32 → Option (Hp)} {x0 : Nat} {σ : Hp} {x1 : Int32} (hr273 : ∀ (st : Hp × Int32), rec273 st = some r → ∀ (H : Heap) (locs : List Loc) (ls : Array Slot), HV g st.1 H → FR g locs → lv_has ls 2 [(0, .ref x0), (1, .int st.2)] → W p l e rm_X10_init s m args below meth c H locs 25 1252 (MQ below (Qv g r) args s 25 1252 (frN g)) (F0 m 273 ls [])) {H : Heap} {locs : List Loc} {ls : Array Slot} (h : B_X10_init_273 x0 rec273 σ x1 = some r) (hV : HV g σ H) (hF : FR g locs) (hl : lv_has ls 2 [(0, .ref x0), (1, .int x1)]) : W p l e rm_X10_init s m args below meth c H locs 25 1252 (MQ below (Qv g r) args s 25 1252 (frN g)) (F0 m 273 ls []) := by
  unfold B_X10_init_273 at h
  refine lv_iload_n X.1 X.2.1 dX10_init_273 rfl (lv_at hl 1 rfl) ?_
  refine lv_bipush (v := 8) X.1 X.2.1 dX10_init_274 (by decide) ?_
  refine r_ge (tgt := 292) X.1 X.2.1 dX10_init_276 (by decide) h (fun h => ?_) (fun h => ?_)
  · exact r_vret X hV hF h dX10_init_292
  · refine lv_aload_n X.1 X.2.1 dX10_init_279 rfl (lv_at hl 0 rfl) ?_
    refine r_gR X hV fl_X10_47_10 (by decide) dX10_init_280 h (fun v1 h => ?_)
    refine lv_iload_n X.1 X.2.1 dX10_init_283 rfl (lv_at hl 1 rfl) ?_
    refine lv_iconst (v := (-1)) X.1 X.2.1 dX10_init_284 (by decide) ?_
    refine r_is X hV hF dX10_init_285 h (fun s1 H locs hV hF h => ?_)
    refine lv_iinc (v := x1 + 1) (lv' := [(1, .int (x1 + 1)), (0, .ref x0)]) X.1 X.2.1 dX10_init_286 hl (k := 1) rfl rfl (by decide) rfl (fun ls hl => ?_)
    refine lv_goto (tgt := 273) X.1 X.2.1 dX10_init_289 (by decide) ?_
    exact hr273 (s1, x1 + 1) h _ _ _ hV hF (lv_sub hl [1, 0] rfl)
set_option maxHeartbeats 4000000 in
theorem w_X10_init_273 {p : Program} {l : Launch} {e : Env} {s : State} {m : MethodId} {args : Array Value} {below : List Frame} {meth : Method} {c : Code} {g : Gl} (X : FX g p m c s args meth cX10_init 2 RX10 none "<init>") {r : Hp} {x0 : Nat}  : ∀ (n : Nat) (st : Hp × Int32), L_X10_init_273 x0 n st = some r → ∀ (H : Heap) (locs : List Loc) (ls : Array Slot), HV g st.1 H → FR g locs → lv_has ls 2 [(0, .ref x0), (1, .int st.2)] → W p l e rm_X10_init s m args below meth c H locs 25 1252 (MQ below (Qv g r) args s 25 1252 (frN g)) (F0 m 273 ls []) := by
  intro n
  induction n with
  | zero =>
    intro st h
    rw [L_X10_init_273_0] at h
    cases h
  | succ n ih =>
    intro st h H locs ls hV hF hl
    rw [L_X10_init_273_s] at h
    exact w_X10_init_273_b X  ih h hV hF hl
set_option maxHeartbeats 4000000 in
theorem w_X10_init_238_b {p : Program} {l : Launch} {e : Env} {s : State} {m : MethodId} {args : Array Value} {below : List Frame} {meth : Method} {c : Code} {g : Gl} (X : FX g p m c s args meth cX10_init 2 RX10 none "<init>") {r : Hp} {rec238 : Hp × Int32 → Option (Hp)} {x0 : Nat} {σ : Hp} {x1 : Int32} (hr238 : ∀ (st : Hp × Int32), rec238 st = some r → ∀ (H : Heap) (locs : List Loc) (ls : Array Slot), HV g st.1 H → FR g locs → lv_has ls 2 [(0, .ref x0), (1, .int st.2)] → W p l e rm_X10_init s m args below meth c H locs 25 1252 (MQ below (Qv g r) args s 25 1252 (frN g)) (F0 m 238 ls [])) {H : Heap} {locs : List Loc} {ls : Array Slot} (h : B_X10_init_238 x0 rec238 σ x1 = some r) (hV : HV g σ H) (hF : FR g locs) (hl : lv_has ls 2 [(0, .ref x0), (1, .int x1)]) : W p l e rm_X10_init s m args below meth c H locs 25 1252 (MQ below (Qv g r) args s 25 1252 (frN g)) (F0 m 238 ls []) := by
  unfold B_X10_init_238 at h
  refine lv_iload_n X.1 X.2.1 dX10_init_238 rfl (lv_at hl 1 rfl) ?_
  refine lv_bipush (v := 48) X.1 X.2.1 dX10_init_239 (by decide) ?_
  refine r_ge (tgt := 271) X.1 X.2.1 dX10_init_241 (by decide) h (fun h => ?_) (fun h => ?_)
  · refine lv_iconst (v := 0) X.1 X.2.1 dX10_init_271 (by decide) ?_
    refine lv_istore_n (lv' := [(1, .int 0), (0, .ref x0)]) X.1 X.2.1 dX10_init_272 rfl hl (by decide) rfl (fun ls hl => ?_)
    exact w_X10_init_273 X  FU (σ, 0) h _ _ _ hV hF (lv_sub hl [1, 0] rfl)
  · refine lv_aload_n X.1 X.2.1 dX10_init_244 rfl (lv_at hl 0 rfl) ?_
    refine r_gR X hV fl_X10_32_10 (by decide) dX10_init_245 h (fun v1 h => ?_)
    refine lv_iload_n X.1 X.2.1 dX10_init_248 rfl (lv_at hl 1 rfl) ?_
    refine lv_iconst (v := (-1)) X.1 X.2.1 dX10_init_249 (by decide) ?_
    refine r_is X hV hF dX10_init_250 h (fun s1 H locs hV hF h => ?_)
    refine lv_aload_n X.1 X.2.1 dX10_init_251 rfl (lv_at hl 0 rfl) ?_
    refine r_gR X hV fl_X10_38_10 (by decide) dX10_init_252 h (fun v2 h => ?_)
    refine lv_iload_n X.1 X.2.1 dX10_init_255 rfl (lv_at hl 1 rfl) ?_
    refine lv_iconst (v := (-1)) X.1 X.2.1 dX10_init_256 (by decide) ?_
    refine r_is X hV hF dX10_init_257 h (fun s2 H locs hV hF h => ?_)
    refine lv_aload_n X.1 X.2.1 dX10_init_258 rfl (lv_at hl 0 rfl) ?_
    refine r_gR X hV fl_X10_44_10 (by decide) dX10_init_259 h (fun v3 h => ?_)
    refine lv_iload_n X.1 X.2.1 dX10_init_262 rfl (lv_at hl 1 rfl) ?_
    refine lv_iconst (v := (-1)) X.1 X.2.1 dX10_init_263 (by decide) ?_
    refine r_is X hV hF dX10_init_264 h (fun s3 H locs hV hF h => ?_)
    refine lv_iinc (v := x1 + 1) (lv' := [(1, .int (x1 + 1)), (0, .ref x0)]) X.1 X.2.1 dX10_init_265 hl (k := 1) rfl rfl (by decide) rfl (fun ls hl => ?_)
    refine lv_goto (tgt := 238) X.1 X.2.1 dX10_init_268 (by decide) ?_
    exact hr238 (s3, x1 + 1) h _ _ _ hV hF (lv_sub hl [1, 0] rfl)
set_option maxHeartbeats 4000000 in
theorem w_X10_init_238 {p : Program} {l : Launch} {e : Env} {s : State} {m : MethodId} {args : Array Value} {below : List Frame} {meth : Method} {c : Code} {g : Gl} (X : FX g p m c s args meth cX10_init 2 RX10 none "<init>") {r : Hp} {x0 : Nat}  : ∀ (n : Nat) (st : Hp × Int32), L_X10_init_238 x0 n st = some r → ∀ (H : Heap) (locs : List Loc) (ls : Array Slot), HV g st.1 H → FR g locs → lv_has ls 2 [(0, .ref x0), (1, .int st.2)] → W p l e rm_X10_init s m args below meth c H locs 25 1252 (MQ below (Qv g r) args s 25 1252 (frN g)) (F0 m 238 ls []) := by
  intro n
  induction n with
  | zero =>
    intro st h
    rw [L_X10_init_238_0] at h
    cases h
  | succ n ih =>
    intro st h H locs ls hV hF hl
    rw [L_X10_init_238_s] at h
    exact w_X10_init_238_b X  ih h hV hF hl
set_option maxHeartbeats 4000000 in
theorem w_X10_init_217_b {p : Program} {l : Launch} {e : Env} {s : State} {m : MethodId} {args : Array Value} {below : List Frame} {meth : Method} {c : Code} {g : Gl} (X : FX g p m c s args meth cX10_init 2 RX10 none "<init>") {r : Hp} {rec217 : Hp × Int32 → Option (Hp)} {x0 : Nat} {σ : Hp} {x1 : Int32} (hr217 : ∀ (st : Hp × Int32), rec217 st = some r → ∀ (H : Heap) (locs : List Loc) (ls : Array Slot), HV g st.1 H → FR g locs → lv_has ls 2 [(0, .ref x0), (1, .int st.2)] → W p l e rm_X10_init s m args below meth c H locs 25 1252 (MQ below (Qv g r) args s 25 1252 (frN g)) (F0 m 217 ls [])) {H : Heap} {locs : List Loc} {ls : Array Slot} (h : B_X10_init_217 x0 rec217 σ x1 = some r) (hV : HV g σ H) (hF : FR g locs) (hl : lv_has ls 2 [(0, .ref x0), (1, .int x1)]) : W p l e rm_X10_init s m args below meth c H locs 25 1252 (MQ below (Qv g r) args s 25 1252 (frN g)) (F0 m 217 ls []) := by
  unfold B_X10_init_217 at h
  refine lv_iload_n X.1 X.2.1 dX10_init_217 rfl (lv_at hl 1 rfl) ?_
  refine lv_bipush (v := 11) X.1 X.2.1 dX10_init_218 (by decide) ?_
  refine r_ge (tgt := 236) X.1 X.2.1 dX10_init_220 (by decide) h (fun h => ?_) (fun h => ?_)
  · refine lv_iconst (v := 0) X.1 X.2.1 dX10_init_236 (by decide) ?_
    refine lv_istore_n (lv' := [(1, .int 0), (0, .ref x0)]) X.1 X.2.1 dX10_init_237 rfl hl (by decide) rfl (fun ls hl => ?_)
    exact w_X10_init_238 X  FU (σ, 0) h _ _ _ hV hF (lv_sub hl [1, 0] rfl)
  · refine lv_aload_n X.1 X.2.1 dX10_init_223 rfl (lv_at hl 0 rfl) ?_
    refine r_gR X hV fl_X10_29_10 (by decide) dX10_init_224 h (fun v1 h => ?_)
    refine lv_iload_n X.1 X.2.1 dX10_init_227 rfl (lv_at hl 1 rfl) ?_
    refine lv_iconst (v := 5) X.1 X.2.1 dX10_init_228 (by decide) ?_
    refine r_is X hV hF dX10_init_229 h (fun s1 H locs hV hF h => ?_)
    refine lv_iinc (v := x1 + 1) (lv' := [(1, .int (x1 + 1)), (0, .ref x0)]) X.1 X.2.1 dX10_init_230 hl (k := 1) rfl rfl (by decide) rfl (fun ls hl => ?_)
    refine lv_goto (tgt := 217) X.1 X.2.1 dX10_init_233 (by decide) ?_
    exact hr217 (s1, x1 + 1) h _ _ _ hV hF (lv_sub hl [1, 0] rfl)
set_option maxHeartbeats 4000000 in
theorem w_X10_init_217 {p : Program} {l : Launch} {e : Env} {s : State} {m : MethodId} {args : Array Value} {below : List Frame} {meth : Method} {c : Code} {g : Gl} (X : FX g p m c s args meth cX10_init 2 RX10 none "<init>") {r : Hp} {x0 : Nat}  : ∀ (n : Nat) (st : Hp × Int32), L_X10_init_217 x0 n st = some r → ∀ (H : Heap) (locs : List Loc) (ls : Array Slot), HV g st.1 H → FR g locs → lv_has ls 2 [(0, .ref x0), (1, .int st.2)] → W p l e rm_X10_init s m args below meth c H locs 25 1252 (MQ below (Qv g r) args s 25 1252 (frN g)) (F0 m 217 ls []) := by
  intro n
  induction n with
  | zero =>
    intro st h
    rw [L_X10_init_217_0] at h
    cases h
  | succ n ih =>
    intro st h H locs ls hV hF hl
    rw [L_X10_init_217_s] at h
    exact w_X10_init_217_b X  ih h hV hF hl
set_option maxHeartbeats 4000000 in
theorem c_X10_init (l : Launch) {g : Gl} {σ : Hp} {x0 : Nat} {r : Hp} (h : F_X10_init σ x0 = some r) : Met l yX10_init (ws_ yX10_init cX10_init 2 none) rm_X10_init (va_Pc [.ref x0] (WV g σ)) (Qv g r) 25 1252 (frN g) := by
  refine ct_of (by decide) (Nat.le_of_ble_eq_true rfl) ?_
  intro p e s m below meth c ls X hV hl
  have hF : FR g [] := FR_nil
  unfold F_X10_init at h
  have hl : lv_has ls 2 [(0, .ref x0)] := hl
  have X : FX g p m c s _ meth cX10_init 2 RX10 none "<init>" := X
  refine lv_aload_n X.1 X.2.1 dX10_init_0 rfl (lv_at hl 0 rfl) ?_
  refine W.objInit X.1 X.2.1 X.2.2.2.1 (X.2.2.2.2.1 _ q978) (X.2.2.2.2.1 _ q83) (X.2.2.2.2.1 _ q84) rfl (by rw [X.2.2.1]; exact hl.1) rfl dX10_init_1 (Nat.le_of_ble_eq_true rfl) (Nat.le_of_ble_eq_true rfl) ?_
  refine W.eq (g2 := F0 m 4 ls []) rfl ?_
  refine lv_aload_n X.1 X.2.1 dX10_init_4 rfl (lv_at hl 0 rfl) ?_
  refine lv_bipush (v := 14) X.1 X.2.1 dX10_init_5 (by decide) ?_
  refine r_newa (t := 0) (N := 14) X hV (by decide) rfl rfl q131 (by decide) (by decide) (by decide) (Nat.le_of_ble_eq_true rfl) (Nat.le_of_ble_eq_true rfl) dX10_init_7 (fun H hV => ?_)
  refine r_pR X hV hF fp_X10_7_10 (fun _ => rfl) (by decide) (ty := (.array .int)) (by decide +kernel) dX10_init_9 rfl rfl h (fun s1 H locs hV hF h => ?_)
  refine lv_aload_n X.1 X.2.1 dX10_init_12 rfl (lv_at hl 0 rfl) ?_
  refine lv_bipush (v := 14) X.1 X.2.1 dX10_init_13 (by decide) ?_
  refine r_newa (t := 0) (N := 14) X hV (by decide) rfl rfl q131 (by decide) (by decide) (by decide) (Nat.le_of_ble_eq_true rfl) (Nat.le_of_ble_eq_true rfl) dX10_init_15 (fun H hV => ?_)
  refine r_pR X hV hF fp_X10_13_10 (fun _ => rfl) (by decide) (ty := (.array .int)) (by decide +kernel) dX10_init_17 rfl rfl h (fun s2 H locs hV hF h => ?_)
  refine lv_aload_n X.1 X.2.1 dX10_init_20 rfl (lv_at hl 0 rfl) ?_
  refine lv_bipush (v := 8) X.1 X.2.1 dX10_init_21 (by decide) ?_
  refine r_newa (t := 0) (N := 8) X hV (by decide) rfl rfl q131 (by decide) (by decide) (by decide) (Nat.le_of_ble_eq_true rfl) (Nat.le_of_ble_eq_true rfl) dX10_init_23 (fun H hV => ?_)
  refine r_pR X hV hF fp_X10_16_10 (fun _ => rfl) (by decide) (ty := (.array .int)) (by decide +kernel) dX10_init_25 rfl rfl h (fun s3 H locs hV hF h => ?_)
  refine lv_aload_n X.1 X.2.1 dX10_init_28 rfl (lv_at hl 0 rfl) ?_
  refine lv_bipush (v := 24) X.1 X.2.1 dX10_init_29 (by decide) ?_
  refine r_newa (t := 0) (N := 24) X hV (by decide) rfl rfl q131 (by decide) (by decide) (by decide) (Nat.le_of_ble_eq_true rfl) (Nat.le_of_ble_eq_true rfl) dX10_init_31 (fun H hV => ?_)
  refine r_pR X hV hF fp_X10_19_10 (fun _ => rfl) (by decide) (ty := (.array .int)) (by decide +kernel) dX10_init_33 rfl rfl h (fun s4 H locs hV hF h => ?_)
  refine lv_aload_n X.1 X.2.1 dX10_init_36 rfl (lv_at hl 0 rfl) ?_
  refine lv_iconst (v := 4) X.1 X.2.1 dX10_init_37 (by decide) ?_
  refine r_pI X hV hF fp_X10_22_10 (fun q => by cases q) dX10_init_38 h (fun s5 H locs hV hF h => ?_)
  refine lv_aload_n X.1 X.2.1 dX10_init_41 rfl (lv_at hl 0 rfl) ?_
  refine lv_bipush (v := 50) X.1 X.2.1 dX10_init_42 (by decide) ?_
  refine r_pI X hV hF fp_X10_26_10 (fun q => by cases q) dX10_init_44 h (fun s6 H locs hV hF h => ?_)
  refine lv_aload_n X.1 X.2.1 dX10_init_47 rfl (lv_at hl 0 rfl) ?_
  refine lv_bipush (v := 11) X.1 X.2.1 dX10_init_48 (by decide) ?_
  refine r_newa (t := 0) (N := 11) X hV (by decide) rfl rfl q131 (by decide) (by decide) (by decide) (Nat.le_of_ble_eq_true rfl) (Nat.le_of_ble_eq_true rfl) dX10_init_50 (fun H hV => ?_)
  refine r_pR X hV hF fp_X10_29_10 (fun _ => rfl) (by decide) (ty := (.array .int)) (by decide +kernel) dX10_init_52 rfl rfl h (fun s7 H locs hV hF h => ?_)
  refine lv_aload_n X.1 X.2.1 dX10_init_55 rfl (lv_at hl 0 rfl) ?_
  refine lv_bipush (v := 48) X.1 X.2.1 dX10_init_56 (by decide) ?_
  refine r_newa (t := 0) (N := 48) X hV (by decide) rfl rfl q131 (by decide) (by decide) (by decide) (Nat.le_of_ble_eq_true rfl) (Nat.le_of_ble_eq_true rfl) dX10_init_58 (fun H hV => ?_)
  refine r_pR X hV hF fp_X10_32_10 (fun _ => rfl) (by decide) (ty := (.array .int)) (by decide +kernel) dX10_init_60 rfl rfl h (fun s8 H locs hV hF h => ?_)
  refine lv_aload_n X.1 X.2.1 dX10_init_63 rfl (lv_at hl 0 rfl) ?_
  refine lv_bipush (v := 48) X.1 X.2.1 dX10_init_64 (by decide) ?_
  refine r_newa (t := 0) (N := 48) X hV (by decide) rfl rfl q131 (by decide) (by decide) (by decide) (Nat.le_of_ble_eq_true rfl) (Nat.le_of_ble_eq_true rfl) dX10_init_66 (fun H hV => ?_)
  refine r_pR X hV hF fp_X10_35_10 (fun _ => rfl) (by decide) (ty := (.array .int)) (by decide +kernel) dX10_init_68 rfl rfl h (fun s9 H locs hV hF h => ?_)
  refine lv_aload_n X.1 X.2.1 dX10_init_71 rfl (lv_at hl 0 rfl) ?_
  refine lv_bipush (v := 48) X.1 X.2.1 dX10_init_72 (by decide) ?_
  refine r_newa (t := 0) (N := 48) X hV (by decide) rfl rfl q131 (by decide) (by decide) (by decide) (Nat.le_of_ble_eq_true rfl) (Nat.le_of_ble_eq_true rfl) dX10_init_74 (fun H hV => ?_)
  refine r_pR X hV hF fp_X10_38_10 (fun _ => rfl) (by decide) (ty := (.array .int)) (by decide +kernel) dX10_init_76 rfl rfl h (fun s10 H locs hV hF h => ?_)
  refine lv_aload_n X.1 X.2.1 dX10_init_79 rfl (lv_at hl 0 rfl) ?_
  refine lv_bipush (v := 48) X.1 X.2.1 dX10_init_80 (by decide) ?_
  refine r_newa (t := 0) (N := 48) X hV (by decide) rfl rfl q131 (by decide) (by decide) (by decide) (Nat.le_of_ble_eq_true rfl) (Nat.le_of_ble_eq_true rfl) dX10_init_82 (fun H hV => ?_)
  refine r_pR X hV hF fp_X10_41_10 (fun _ => rfl) (by decide) (ty := (.array .int)) (by decide +kernel) dX10_init_84 rfl rfl h (fun s11 H locs hV hF h => ?_)
  refine lv_aload_n X.1 X.2.1 dX10_init_87 rfl (lv_at hl 0 rfl) ?_
  refine lv_bipush (v := 48) X.1 X.2.1 dX10_init_88 (by decide) ?_
  refine r_newa (t := 0) (N := 48) X hV (by decide) rfl rfl q131 (by decide) (by decide) (by decide) (Nat.le_of_ble_eq_true rfl) (Nat.le_of_ble_eq_true rfl) dX10_init_90 (fun H hV => ?_)
  refine r_pR X hV hF fp_X10_44_10 (fun _ => rfl) (by decide) (ty := (.array .int)) (by decide +kernel) dX10_init_92 rfl rfl h (fun s12 H locs hV hF h => ?_)
  refine lv_aload_n X.1 X.2.1 dX10_init_95 rfl (lv_at hl 0 rfl) ?_
  refine lv_bipush (v := 8) X.1 X.2.1 dX10_init_96 (by decide) ?_
  refine r_newa (t := 0) (N := 8) X hV (by decide) rfl rfl q131 (by decide) (by decide) (by decide) (Nat.le_of_ble_eq_true rfl) (Nat.le_of_ble_eq_true rfl) dX10_init_98 (fun H hV => ?_)
  refine r_pR X hV hF fp_X10_47_10 (fun _ => rfl) (by decide) (ty := (.array .int)) (by decide +kernel) dX10_init_100 rfl rfl h (fun s13 H locs hV hF h => ?_)
  refine lv_aload_n X.1 X.2.1 dX10_init_103 rfl (lv_at hl 0 rfl) ?_
  refine lv_sipush (v := 240) X.1 X.2.1 dX10_init_104 (by decide) ?_
  refine r_newa (t := 0) (N := 240) X hV (by decide) rfl rfl q131 (by decide) (by decide) (by decide) (Nat.le_of_ble_eq_true rfl) (Nat.le_of_ble_eq_true rfl) dX10_init_107 (fun H hV => ?_)
  refine r_pR X hV hF fp_X10_50_10 (fun _ => rfl) (by decide) (ty := (.array .int)) (by decide +kernel) dX10_init_109 rfl rfl h (fun s14 H locs hV hF h => ?_)
  refine lv_aload_n X.1 X.2.1 dX10_init_112 rfl (lv_at hl 0 rfl) ?_
  refine lv_sipush (v := 240) X.1 X.2.1 dX10_init_113 (by decide) ?_
  refine r_newa (t := 0) (N := 240) X hV (by decide) rfl rfl q131 (by decide) (by decide) (by decide) (Nat.le_of_ble_eq_true rfl) (Nat.le_of_ble_eq_true rfl) dX10_init_116 (fun H hV => ?_)
  refine r_pR X hV hF fp_X10_53_10 (fun _ => rfl) (by decide) (ty := (.array .int)) (by decide +kernel) dX10_init_118 rfl rfl h (fun s15 H locs hV hF h => ?_)
  refine lv_aload_n X.1 X.2.1 dX10_init_121 rfl (lv_at hl 0 rfl) ?_
  refine lv_iconst (v := 5) X.1 X.2.1 dX10_init_122 (by decide) ?_
  refine r_newa (t := 0) (N := 5) X hV (by decide) rfl rfl q131 (by decide) (by decide) (by decide) (Nat.le_of_ble_eq_true rfl) (Nat.le_of_ble_eq_true rfl) dX10_init_123 (fun H hV => ?_)
  refine r_pR X hV hF fp_X10_56_10 (fun _ => rfl) (by decide) (ty := (.array .int)) (by decide +kernel) dX10_init_125 rfl rfl h (fun s16 H locs hV hF h => ?_)
  refine lv_aload_n X.1 X.2.1 dX10_init_128 rfl (lv_at hl 0 rfl) ?_
  refine lv_iconst (v := 4) X.1 X.2.1 dX10_init_129 (by decide) ?_
  refine r_newa (t := 0) (N := 4) X hV (by decide) rfl rfl q131 (by decide) (by decide) (by decide) (Nat.le_of_ble_eq_true rfl) (Nat.le_of_ble_eq_true rfl) dX10_init_130 (fun H hV => ?_)
  refine r_pR X hV hF fp_X10_59_10 (fun _ => rfl) (by decide) (ty := (.array .int)) (by decide +kernel) dX10_init_132 rfl rfl h (fun s17 H locs hV hF h => ?_)
  refine lv_aload_n X.1 X.2.1 dX10_init_135 rfl (lv_at hl 0 rfl) ?_
  refine lv_sipush (v := 160) X.1 X.2.1 dX10_init_136 (by decide) ?_
  refine r_newa (t := 0) (N := 160) X hV (by decide) rfl rfl q131 (by decide) (by decide) (by decide) (Nat.le_of_ble_eq_true rfl) (Nat.le_of_ble_eq_true rfl) dX10_init_139 (fun H hV => ?_)
  refine r_pR X hV hF fp_X10_62_10 (fun _ => rfl) (by decide) (ty := (.array .int)) (by decide +kernel) dX10_init_141 rfl rfl h (fun s18 H locs hV hF h => ?_)
  refine lv_aload_n X.1 X.2.1 dX10_init_144 rfl (lv_at hl 0 rfl) ?_
  refine lv_bipush (v := 30) X.1 X.2.1 dX10_init_145 (by decide) ?_
  refine r_newa (t := 0) (N := 30) X hV (by decide) rfl rfl q131 (by decide) (by decide) (by decide) (Nat.le_of_ble_eq_true rfl) (Nat.le_of_ble_eq_true rfl) dX10_init_147 (fun H hV => ?_)
  refine r_pR X hV hF fp_X10_65_10 (fun _ => rfl) (by decide) (ty := (.array .int)) (by decide +kernel) dX10_init_149 rfl rfl h (fun s19 H locs hV hF h => ?_)
  refine lv_aload_n X.1 X.2.1 dX10_init_152 rfl (lv_at hl 0 rfl) ?_
  refine lv_bipush (v := 30) X.1 X.2.1 dX10_init_153 (by decide) ?_
  refine r_newa (t := 0) (N := 30) X hV (by decide) rfl rfl q131 (by decide) (by decide) (by decide) (Nat.le_of_ble_eq_true rfl) (Nat.le_of_ble_eq_true rfl) dX10_init_155 (fun H hV => ?_)
  refine r_pR X hV hF fp_X10_68_10 (fun _ => rfl) (by decide) (ty := (.array .int)) (by decide +kernel) dX10_init_157 rfl rfl h (fun s20 H locs hV hF h => ?_)
  refine lv_aload_n X.1 X.2.1 dX10_init_160 rfl (lv_at hl 0 rfl) ?_
  refine lv_bipush (v := 8) X.1 X.2.1 dX10_init_161 (by decide) ?_
  refine r_newa (t := 0) (N := 8) X hV (by decide) rfl rfl q131 (by decide) (by decide) (by decide) (Nat.le_of_ble_eq_true rfl) (Nat.le_of_ble_eq_true rfl) dX10_init_163 (fun H hV => ?_)
  refine r_pR X hV hF fp_X10_71_10 (fun _ => rfl) (by decide) (ty := (.array .int)) (by decide +kernel) dX10_init_165 rfl rfl h (fun s21 H locs hV hF h => ?_)
  refine lv_aload_n X.1 X.2.1 dX10_init_168 rfl (lv_at hl 0 rfl) ?_
  refine lv_bipush (v := 8) X.1 X.2.1 dX10_init_169 (by decide) ?_
  refine r_newa (t := 0) (N := 8) X hV (by decide) rfl rfl q131 (by decide) (by decide) (by decide) (Nat.le_of_ble_eq_true rfl) (Nat.le_of_ble_eq_true rfl) dX10_init_171 (fun H hV => ?_)
  refine r_pR X hV hF fp_X10_74_10 (fun _ => rfl) (by decide) (ty := (.array .int)) (by decide +kernel) dX10_init_173 rfl rfl h (fun s22 H locs hV hF h => ?_)
  refine lv_aload_n X.1 X.2.1 dX10_init_176 rfl (lv_at hl 0 rfl) ?_
  refine lv_bipush (v := 8) X.1 X.2.1 dX10_init_177 (by decide) ?_
  refine r_newa (t := 0) (N := 8) X hV (by decide) rfl rfl q131 (by decide) (by decide) (by decide) (Nat.le_of_ble_eq_true rfl) (Nat.le_of_ble_eq_true rfl) dX10_init_179 (fun H hV => ?_)
  refine r_pR X hV hF fp_X10_77_10 (fun _ => rfl) (by decide) (ty := (.array .int)) (by decide +kernel) dX10_init_181 rfl rfl h (fun s23 H locs hV hF h => ?_)
  refine lv_aload_n X.1 X.2.1 dX10_init_184 rfl (lv_at hl 0 rfl) ?_
  refine lv_iconst (v := 4) X.1 X.2.1 dX10_init_185 (by decide) ?_
  refine r_newa (t := 0) (N := 4) X hV (by decide) rfl rfl q131 (by decide) (by decide) (by decide) (Nat.le_of_ble_eq_true rfl) (Nat.le_of_ble_eq_true rfl) dX10_init_186 (fun H hV => ?_)
  refine r_pR X hV hF fp_X10_80_10 (fun _ => rfl) (by decide) (ty := (.array .int)) (by decide +kernel) dX10_init_188 rfl rfl h (fun s24 H locs hV hF h => ?_)
  refine lv_aload_n X.1 X.2.1 dX10_init_191 rfl (lv_at hl 0 rfl) ?_
  refine lv_bipush (v := 48) X.1 X.2.1 dX10_init_192 (by decide) ?_
  refine r_newa (t := 0) (N := 48) X hV (by decide) rfl rfl q131 (by decide) (by decide) (by decide) (Nat.le_of_ble_eq_true rfl) (Nat.le_of_ble_eq_true rfl) dX10_init_194 (fun H hV => ?_)
  refine r_pR X hV hF fp_X10_83_10 (fun _ => rfl) (by decide) (ty := (.array .int)) (by decide +kernel) dX10_init_196 rfl rfl h (fun s25 H locs hV hF h => ?_)
  refine lv_aload_n X.1 X.2.1 dX10_init_199 rfl (lv_at hl 0 rfl) ?_
  refine lv_bipush (v := 48) X.1 X.2.1 dX10_init_200 (by decide) ?_
  refine r_newa (t := 1) (N := 48) X hV (by decide) rfl rfl q130 (by decide) (by decide) (by decide) (Nat.le_of_ble_eq_true rfl) (Nat.le_of_ble_eq_true rfl) dX10_init_202 (fun H hV => ?_)
  refine r_pR X hV hF fp_X10_86_10 (fun _ => rfl) (by decide) (ty := (.array .boolean)) (by decide +kernel) dX10_init_204 rfl rfl h (fun s26 H locs hV hF h => ?_)
  refine lv_aload_n X.1 X.2.1 dX10_init_207 rfl (lv_at hl 0 rfl) ?_
  refine lv_bipush (v := 100) X.1 X.2.1 dX10_init_208 (by decide) ?_
  refine r_newa (t := 0) (N := 100) X hV (by decide) rfl rfl q131 (by decide) (by decide) (by decide) (Nat.le_of_ble_eq_true rfl) (Nat.le_of_ble_eq_true rfl) dX10_init_210 (fun H hV => ?_)
  refine r_pR X hV hF fp_X10_90_10 (fun _ => rfl) (by decide) (ty := (.array .int)) (by decide +kernel) dX10_init_212 rfl rfl h (fun s27 H locs hV hF h => ?_)
  refine lv_iconst (v := 0) X.1 X.2.1 dX10_init_215 (by decide) ?_
  refine lv_istore_n (lv' := [(1, .int 0), (0, .ref x0)]) X.1 X.2.1 dX10_init_216 rfl hl (by decide) rfl (fun ls hl => ?_)
  exact w_X10_init_217 X  FU (s27, 0) h _ _ _ hV hF (lv_sub hl [1, 0] rfl)
/-! PalaceOfRoomsModel.in -/
theorem dX10_in_0 : decode cX10_in 0 = .ok (.iload_n 0, 1) := by decide +kernel
theorem dX10_in_1 : decode cX10_in 1 = .ok (.iload_n 1, 1) := by decide +kernel
theorem dX10_in_2 : decode cX10_in 2 = .ok (.if_icmp .lt 12, 3) := by decide +kernel
theorem dX10_in_5 : decode cX10_in 5 = .ok (.iload_n 0, 1) := by decide +kernel
theorem dX10_in_6 : decode cX10_in 6 = .ok (.iload_n 2, 1) := by decide +kernel
theorem dX10_in_7 : decode cX10_in 7 = .ok (.if_icmp .gt 7, 3) := by decide +kernel
theorem dX10_in_10 : decode cX10_in 10 = .ok (.iconst 1, 1) := by decide +kernel
theorem dX10_in_11 : decode cX10_in 11 = .ok (.goto 4, 3) := by decide +kernel
theorem dX10_in_14 : decode cX10_in 14 = .ok (.iconst 0, 1) := by decide +kernel
theorem dX10_in_15 : decode cX10_in 15 = .ok (.ireturn, 1) := by decide +kernel
theorem yd_X10_in : yX10_in.cls ≠ "java/lang/invoke/MethodHandle" ∧ yX10_in.cls ≠ "java/lang/invoke/VarHandle" ∧ (parseMethodDescriptor yX10_in.desc).map (fun d => d.parameters.length) = some 3 := by decide +kernel
abbrev rm_X10_in : Room := { frames := 0, cells := 0, slots := 0, locals := 0 }
set_option maxHeartbeats 4000000 in
theorem c_X10_in (l : Launch) {g : Gl} {σ : Hp} {x0 : Int32} {x1 : Int32} {x2 : Int32} {r : Int32 × Hp} (h : F_X10_in σ x0 x1 x2 = some r) : Met l yX10_in (ws_ yX10_in cX10_in 3 (some .boolean)) rm_X10_in (va_Pc [.int x0, .int x1, .int x2] (WV g σ)) (Qi g r) 0 0 (frN g) := by
  refine ct_of (by decide) (Nat.le_of_ble_eq_true rfl) ?_
  intro p e s m below meth c ls X hV hl
  have hF : FR g [] := FR_nil
  unfold F_X10_in at h
  have hl : lv_has ls 3 [(0, .int x0), (1, .int x1), (2, .int x2)] := hl
  have X : FX g p m c s _ meth cX10_in 3 RX10 (some .boolean) "in" := X
  refine lv_iload_n X.1 X.2.1 dX10_in_0 rfl (lv_at hl 0 rfl) ?_
  refine lv_iload_n X.1 X.2.1 dX10_in_1 rfl (lv_at hl 1 rfl) ?_
  refine r_lt (tgt := 14) X.1 X.2.1 dX10_in_2 (by decide) h (fun h => ?_) (fun h => ?_)
  · refine lv_iconst (v := 0) X.1 X.2.1 dX10_in_14 (by decide) ?_
    exact r_zret X hV hF h rfl dX10_in_15
  · refine lv_iload_n X.1 X.2.1 dX10_in_5 rfl (lv_at hl 0 rfl) ?_
    refine lv_iload_n X.1 X.2.1 dX10_in_6 rfl (lv_at hl 2 rfl) ?_
    refine r_gt (tgt := 14) X.1 X.2.1 dX10_in_7 (by decide) h (fun h => ?_) (fun h => ?_)
    · refine lv_iconst (v := 0) X.1 X.2.1 dX10_in_14 (by decide) ?_
      exact r_zret X hV hF h rfl dX10_in_15
    · refine lv_iconst (v := 1) X.1 X.2.1 dX10_in_10 (by decide) ?_
      refine lv_goto (tgt := 15) X.1 X.2.1 dX10_in_11 (by decide) ?_
      exact r_zret X hV hF h rfl dX10_in_15
/-! PalaceOfRoomsModel.isRoom -/
theorem dX10_isRoom_0 : decode cX10_isRoom 0 = .ok (.iload_n 0, 1) := by decide +kernel
theorem dX10_isRoom_1 : decode cX10_isRoom 1 = .ok (.iconst 0, 1) := by decide +kernel
theorem dX10_isRoom_2 : decode cX10_isRoom 2 = .ok (.bipush 7, 2) := by decide +kernel
theorem dX10_isRoom_4 : decode cX10_isRoom 4 = .ok (.invokestatic 93, 3) := by decide +kernel
theorem dX10_isRoom_7 : decode cX10_isRoom 7 = .ok (.ireturn, 1) := by decide +kernel
theorem yd_X10_isRoom : yX10_isRoom.cls ≠ "java/lang/invoke/MethodHandle" ∧ yX10_isRoom.cls ≠ "java/lang/invoke/VarHandle" ∧ (parseMethodDescriptor yX10_isRoom.desc).map (fun d => d.parameters.length) = some 1 := by decide +kernel
abbrev rm_X10_isRoom : Room := { frames := 1, cells := 0, slots := 0, locals := 22 }
set_option maxHeartbeats 4000000 in
theorem c_X10_isRoom (l : Launch) {g : Gl} {σ : Hp} {x0 : Int32} {r : Int32 × Hp} (h : F_X10_isRoom σ x0 = some r) : Met l yX10_isRoom (ws_ yX10_isRoom cX10_isRoom 1 (some .boolean)) rm_X10_isRoom (va_Pc [.int x0] (WV g σ)) (Qi g r) 0 0 (frN g) := by
  refine ct_of (by decide) (Nat.le_of_ble_eq_true rfl) ?_
  intro p e s m below meth c ls X hV hl
  have hF : FR g [] := FR_nil
  unfold F_X10_isRoom at h
  have hl : lv_has ls 1 [(0, .int x0)] := hl
  have X : FX g p m c s _ meth cX10_isRoom 1 RX10 (some .boolean) "isRoom" := X
  refine lv_iload_n X.1 X.2.1 dX10_isRoom_0 rfl (lv_at hl 0 rfl) ?_
  refine lv_iconst (v := 0) X.1 X.2.1 dX10_isRoom_1 (by decide) ?_
  refine lv_bipush (v := 7) X.1 X.2.1 dX10_isRoom_2 (by decide) ?_
  obtain ⟨v1, s1, hc, h⟩ := b2_inv h
  refine r_ci (va_runS (As := [.int x0, .int 0, .int 7]) (rest := []) (cfX X) (c_X10_in l hc) (va_cwS 3 X.2.2.2.2.1 (lw_S q1104 q1105 q59 q1106) rfl rfl rfl yd_X10_in ⟨Nat.le_of_ble_eq_true rfl, Nat.le_of_ble_eq_true rfl⟩) (preS X hV) rfl rfl hl.1 rfl (lv_room (Nat.le_of_ble_eq_true rfl)) dX10_isRoom_4 ⟨(Nat.le_of_ble_eq_true rfl), (Nat.le_of_ble_eq_true rfl)⟩) hF (fun H locs hV hF => ?_)
  exact r_zrv X hV hF h dX10_isRoom_7
/-! PalaceOfRoomsModel.areJoined -/
theorem dX10_areJoined_0 : decode cX10_areJoined 0 = .ok (.iconst 0, 1) := by decide +kernel
theorem dX10_areJoined_1 : decode cX10_areJoined 1 = .ok (.istore_n 3, 1) := by decide +kernel
theorem dX10_areJoined_2 : decode cX10_areJoined 2 = .ok (.iconst 0, 1) := by decide +kernel
theorem dX10_areJoined_3 : decode cX10_areJoined 3 = .ok (.istore 4, 2) := by decide +kernel
theorem dX10_areJoined_5 : decode cX10_areJoined 5 = .ok (.iload 4, 2) := by decide +kernel
theorem dX10_areJoined_7 : decode cX10_areJoined 7 = .ok (.aload_n 0, 1) := by decide +kernel
theorem dX10_areJoined_8 : decode cX10_areJoined 8 = .ok (.getfield 97, 3) := by decide +kernel
theorem dX10_areJoined_11 : decode cX10_areJoined 11 = .ok (.if_icmp .ge 63, 3) := by decide +kernel
theorem dX10_areJoined_14 : decode cX10_areJoined 14 = .ok (.iload_n 3, 1) := by decide +kernel
theorem dX10_areJoined_15 : decode cX10_areJoined 15 = .ok (.ifCond .ne 47, 3) := by decide +kernel
theorem dX10_areJoined_18 : decode cX10_areJoined 18 = .ok (.aload_n 0, 1) := by decide +kernel
theorem dX10_areJoined_19 : decode cX10_areJoined 19 = .ok (.getfield 7, 3) := by decide +kernel
theorem dX10_areJoined_22 : decode cX10_areJoined 22 = .ok (.iload 4, 2) := by decide +kernel
theorem dX10_areJoined_24 : decode cX10_areJoined 24 = .ok (.iaload, 1) := by decide +kernel
theorem dX10_areJoined_25 : decode cX10_areJoined 25 = .ok (.iload_n 1, 1) := by decide +kernel
theorem dX10_areJoined_26 : decode cX10_areJoined 26 = .ok (.if_icmp .ne 14, 3) := by decide +kernel
theorem dX10_areJoined_29 : decode cX10_areJoined 29 = .ok (.aload_n 0, 1) := by decide +kernel
theorem dX10_areJoined_30 : decode cX10_areJoined 30 = .ok (.getfield 13, 3) := by decide +kernel
theorem dX10_areJoined_33 : decode cX10_areJoined 33 = .ok (.iload 4, 2) := by decide +kernel
theorem dX10_areJoined_35 : decode cX10_areJoined 35 = .ok (.iaload, 1) := by decide +kernel
theorem dX10_areJoined_36 : decode cX10_areJoined 36 = .ok (.iload_n 2, 1) := by decide +kernel
theorem dX10_areJoined_37 : decode cX10_areJoined 37 = .ok (.if_icmp .eq 25, 3) := by decide +kernel
theorem dX10_areJoined_40 : decode cX10_areJoined 40 = .ok (.aload_n 0, 1) := by decide +kernel
theorem dX10_areJoined_41 : decode cX10_areJoined 41 = .ok (.getfield 7, 3) := by decide +kernel
theorem dX10_areJoined_44 : decode cX10_areJoined 44 = .ok (.iload 4, 2) := by decide +kernel
theorem dX10_areJoined_46 : decode cX10_areJoined 46 = .ok (.iaload, 1) := by decide +kernel
theorem dX10_areJoined_47 : decode cX10_areJoined 47 = .ok (.iload_n 2, 1) := by decide +kernel
theorem dX10_areJoined_48 : decode cX10_areJoined 48 = .ok (.if_icmp .ne 18, 3) := by decide +kernel
theorem dX10_areJoined_51 : decode cX10_areJoined 51 = .ok (.aload_n 0, 1) := by decide +kernel
theorem dX10_areJoined_52 : decode cX10_areJoined 52 = .ok (.getfield 13, 3) := by decide +kernel
theorem dX10_areJoined_55 : decode cX10_areJoined 55 = .ok (.iload 4, 2) := by decide +kernel
theorem dX10_areJoined_57 : decode cX10_areJoined 57 = .ok (.iaload, 1) := by decide +kernel
theorem dX10_areJoined_58 : decode cX10_areJoined 58 = .ok (.iload_n 1, 1) := by decide +kernel
theorem dX10_areJoined_59 : decode cX10_areJoined 59 = .ok (.if_icmp .ne 7, 3) := by decide +kernel
theorem dX10_areJoined_62 : decode cX10_areJoined 62 = .ok (.iconst 1, 1) := by decide +kernel
theorem dX10_areJoined_63 : decode cX10_areJoined 63 = .ok (.goto 4, 3) := by decide +kernel
theorem dX10_areJoined_66 : decode cX10_areJoined 66 = .ok (.iconst 0, 1) := by decide +kernel
theorem dX10_areJoined_67 : decode cX10_areJoined 67 = .ok (.istore_n 3, 1) := by decide +kernel
theorem dX10_areJoined_68 : decode cX10_areJoined 68 = .ok (.iinc 4 1, 3) := by decide +kernel
theorem dX10_areJoined_71 : decode cX10_areJoined 71 = .ok (.goto (-66), 3) := by decide +kernel
theorem dX10_areJoined_74 : decode cX10_areJoined 74 = .ok (.iload_n 3, 1) := by decide +kernel
theorem dX10_areJoined_75 : decode cX10_areJoined 75 = .ok (.ireturn, 1) := by decide +kernel
theorem yd_X10_areJoined : yX10_areJoined.cls ≠ "java/lang/invoke/MethodHandle" ∧ yX10_areJoined.cls ≠ "java/lang/invoke/VarHandle" ∧ (parseMethodDescriptor yX10_areJoined.desc).map (fun d => d.parameters.length) = some 2 := by decide +kernel
theorem fl_X10_7_10 : FLk RX10 7 10 2 "[I" := ⟨RX10, TX10, 39, "PalaceOfRoomsModel", rfl, by decide, (fun q => by have h1 := q.1; have h2 := q.2; omega), rfl, in_X10, Or.inl q981, Or.inl rfl⟩
theorem fl_X10_13_10 : FLk RX10 13 10 3 "[I" := ⟨RX10, TX10, 39, "PalaceOfRoomsModel", rfl, by decide, (fun q => by have h1 := q.1; have h2 := q.2; omega), rfl, in_X10, Or.inl q982, Or.inl rfl⟩
theorem fl_X10_97_10 : FLk RX10 97 10 1 "I" := ⟨RX10, TX10, 39, "PalaceOfRoomsModel", rfl, by decide, (fun q => by have h1 := q.1; have h2 := q.2; omega), rfl, in_X10, Or.inl q980, Or.inl rfl⟩
abbrev rm_X10_areJoined : Room := { frames := 0, cells := 0, slots := 0, locals := 0 }
set_option maxHeartbeats 4000000 in
theorem w_X10_areJoined_40 {p : Program} {l : Launch} {e : Env} {s : State} {m : MethodId} {args : Array Value} {below : List Frame} {meth : Method} {c : Code} {g : Gl} (X : FX g p m c s args meth cX10_areJoined 5 RX10 (some .boolean) "areJoined") {r : Int32 × Hp} {rec5 : Int32 × Int32 → Option (Int32 × Hp)} {σ : Hp} {x0 : Nat} {x1 : Int32} {x2 : Int32} {x4 : Int32} (hr5 : ∀ (st : Int32 × Int32), rec5 st = some r → ∀ (H : Heap) (locs : List Loc) (ls : Array Slot), HV g σ H → FR g locs → lv_has ls 5 [(0, .ref x0), (1, .int x1), (2, .int x2), (3, .int st.1), (4, .int st.2)] → W p l e rm_X10_areJoined s m args below meth c H locs 0 0 (MQ below (Qi g r) args s 0 0 (frN g)) (F0 m 5 ls [])) {H : Heap} {locs : List Loc} {ls : Array Slot} (h : F_X10_areJoined_40 rec5 σ x0 x1 x2 x4 = some r) (hV : HV g σ H) (hF : FR g locs) (hl : lv_has ls 5 [(0, .ref x0), (1, .int x1), (2, .int x2), (4, .int x4)]) : W p l e rm_X10_areJoined s m args below meth c H locs 0 0 (MQ below (Qi g r) args s 0 0 (frN g)) (F0 m 40 ls []) := by
  unfold F_X10_areJoined_40 at h
  refine lv_aload_n X.1 X.2.1 dX10_areJoined_40 rfl (lv_at hl 0 rfl) ?_
  refine r_gR X hV fl_X10_7_10 (by decide) dX10_areJoined_41 h (fun v1 h => ?_)
  refine lv_iload X.1 X.2.1 dX10_areJoined_44 (lv_at hl 3 rfl) ?_
  refine r_ia X hV dX10_areJoined_46 h (fun v2 h => ?_)
  refine lv_iload_n X.1 X.2.1 dX10_areJoined_47 rfl (lv_at hl 2 rfl) ?_
  refine r_ne (tgt := 66) X.1 X.2.1 dX10_areJoined_48 (by decide) h (fun h => ?_) (fun h => ?_)
  · refine lv_iconst (v := 0) X.1 X.2.1 dX10_areJoined_66 (by decide) ?_
    refine lv_istore_n (lv' := [(3, .int 0), (0, .ref x0), (1, .int x1), (2, .int x2), (4, .int x4)]) X.1 X.2.1 dX10_areJoined_67 rfl hl (by decide) rfl (fun ls hl => ?_)
    refine lv_iinc (v := x4 + 1) (lv' := [(4, .int (x4 + 1)), (3, .int 0), (0, .ref x0), (1, .int x1), (2, .int x2)]) X.1 X.2.1 dX10_areJoined_68 hl (k := 4) rfl rfl (by decide) rfl (fun ls hl => ?_)
    refine lv_goto (tgt := 5) X.1 X.2.1 dX10_areJoined_71 (by decide) ?_
    exact hr5 (0, x4 + 1) h _ _ _ hV hF (lv_sub hl [2, 3, 4, 1, 0] rfl)
  · refine lv_aload_n X.1 X.2.1 dX10_areJoined_51 rfl (lv_at hl 0 rfl) ?_
    refine r_gR X hV fl_X10_13_10 (by decide) dX10_areJoined_52 h (fun v3 h => ?_)
    refine lv_iload X.1 X.2.1 dX10_areJoined_55 (lv_at hl 3 rfl) ?_
    refine r_ia X hV dX10_areJoined_57 h (fun v4 h => ?_)
    refine lv_iload_n X.1 X.2.1 dX10_areJoined_58 rfl (lv_at hl 1 rfl) ?_
    refine r_ne (tgt := 66) X.1 X.2.1 dX10_areJoined_59 (by decide) h (fun h => ?_) (fun h => ?_)
    · refine lv_iconst (v := 0) X.1 X.2.1 dX10_areJoined_66 (by decide) ?_
      refine lv_istore_n (lv' := [(3, .int 0), (0, .ref x0), (1, .int x1), (2, .int x2), (4, .int x4)]) X.1 X.2.1 dX10_areJoined_67 rfl hl (by decide) rfl (fun ls hl => ?_)
      refine lv_iinc (v := x4 + 1) (lv' := [(4, .int (x4 + 1)), (3, .int 0), (0, .ref x0), (1, .int x1), (2, .int x2)]) X.1 X.2.1 dX10_areJoined_68 hl (k := 4) rfl rfl (by decide) rfl (fun ls hl => ?_)
      refine lv_goto (tgt := 5) X.1 X.2.1 dX10_areJoined_71 (by decide) ?_
      exact hr5 (0, x4 + 1) h _ _ _ hV hF (lv_sub hl [2, 3, 4, 1, 0] rfl)
    · refine lv_iconst (v := 1) X.1 X.2.1 dX10_areJoined_62 (by decide) ?_
      refine lv_goto (tgt := 67) X.1 X.2.1 dX10_areJoined_63 (by decide) ?_
      refine lv_istore_n (lv' := [(3, .int 1), (0, .ref x0), (1, .int x1), (2, .int x2), (4, .int x4)]) X.1 X.2.1 dX10_areJoined_67 rfl hl (by decide) rfl (fun ls hl => ?_)
      refine lv_iinc (v := x4 + 1) (lv' := [(4, .int (x4 + 1)), (3, .int 1), (0, .ref x0), (1, .int x1), (2, .int x2)]) X.1 X.2.1 dX10_areJoined_68 hl (k := 4) rfl rfl (by decide) rfl (fun ls hl => ?_)
      refine lv_goto (tgt := 5) X.1 X.2.1 dX10_areJoined_71 (by decide) ?_
      exact hr5 (1, x4 + 1) h _ _ _ hV hF (lv_sub hl [2, 3, 4, 1, 0] rfl)
set_option maxHeartbeats 4000000 in
theorem w_X10_areJoined_5_b {p : Program} {l : Launch} {e : Env} {s : State} {m : MethodId} {args : Array Value} {below : List Frame} {meth : Method} {c : Code} {g : Gl} (X : FX g p m c s args meth cX10_areJoined 5 RX10 (some .boolean) "areJoined") {r : Int32 × Hp} {rec5 : Int32 × Int32 → Option (Int32 × Hp)} {σ : Hp} {x0 : Nat} {x1 : Int32} {x2 : Int32} {x3 : Int32} {x4 : Int32} (hr5 : ∀ (st : Int32 × Int32), rec5 st = some r → ∀ (H : Heap) (locs : List Loc) (ls : Array Slot), HV g σ H → FR g locs → lv_has ls 5 [(0, .ref x0), (1, .int x1), (2, .int x2), (3, .int st.1), (4, .int st.2)] → W p l e rm_X10_areJoined s m args below meth c H locs 0 0 (MQ below (Qi g r) args s 0 0 (frN g)) (F0 m 5 ls [])) {H : Heap} {locs : List Loc} {ls : Array Slot} (h : B_X10_areJoined_5 σ x0 x1 x2 rec5 x3 x4 = some r) (hV : HV g σ H) (hF : FR g locs) (hl : lv_has ls 5 [(0, .ref x0), (1, .int x1), (2, .int x2), (3, .int x3), (4, .int x4)]) : W p l e rm_X10_areJoined s m args below meth c H locs 0 0 (MQ below (Qi g r) args s 0 0 (frN g)) (F0 m 5 ls []) := by
  unfold B_X10_areJoined_5 at h
  refine lv_iload X.1 X.2.1 dX10_areJoined_5 (lv_at hl 4 rfl) ?_
  refine lv_aload_n X.1 X.2.1 dX10_areJoined_7 rfl (lv_at hl 0 rfl) ?_
  refine r_gI X hV fl_X10_97_10 dX10_areJoined_8 h (fun v1 h => ?_)
  refine r_ge (tgt := 74) X.1 X.2.1 dX10_areJoined_11 (by decide) h (fun h => ?_) (fun h => ?_)
  · refine lv_iload_n X.1 X.2.1 dX10_areJoined_74 rfl (lv_at hl 3 rfl) ?_
    exact r_zrv X hV hF h dX10_areJoined_75
  · refine lv_iload_n X.1 X.2.1 dX10_areJoined_14 rfl (lv_at hl 3 rfl) ?_
    refine r_ifne (tgt := 62) X.1 X.2.1 dX10_areJoined_15 (by decide) h (fun h => ?_) (fun h => ?_)
    · refine lv_iconst (v := 1) X.1 X.2.1 dX10_areJoined_62 (by decide) ?_
      refine lv_goto (tgt := 67) X.1 X.2.1 dX10_areJoined_63 (by decide) ?_
      refine lv_istore_n (lv' := [(3, .int 1), (0, .ref x0), (1, .int x1), (2, .int x2), (4, .int x4)]) X.1 X.2.1 dX10_areJoined_67 rfl hl (by decide) rfl (fun ls hl => ?_)
      refine lv_iinc (v := x4 + 1) (lv' := [(4, .int (x4 + 1)), (3, .int 1), (0, .ref x0), (1, .int x1), (2, .int x2)]) X.1 X.2.1 dX10_areJoined_68 hl (k := 4) rfl rfl (by decide) rfl (fun ls hl => ?_)
      refine lv_goto (tgt := 5) X.1 X.2.1 dX10_areJoined_71 (by decide) ?_
      exact hr5 (1, x4 + 1) h _ _ _ hV hF (lv_sub hl [2, 3, 4, 1, 0] rfl)
    · refine lv_aload_n X.1 X.2.1 dX10_areJoined_18 rfl (lv_at hl 0 rfl) ?_
      refine r_gR X hV fl_X10_7_10 (by decide) dX10_areJoined_19 h (fun v2 h => ?_)
      refine lv_iload X.1 X.2.1 dX10_areJoined_22 (lv_at hl 4 rfl) ?_
      refine r_ia X hV dX10_areJoined_24 h (fun v3 h => ?_)
      refine lv_iload_n X.1 X.2.1 dX10_areJoined_25 rfl (lv_at hl 1 rfl) ?_
      refine r_ne (tgt := 40) X.1 X.2.1 dX10_areJoined_26 (by decide) h (fun h => ?_) (fun h => ?_)
      · exact w_X10_areJoined_40 X hr5 h hV hF (lv_sub hl [0, 1, 2, 4] rfl)
      · refine lv_aload_n X.1 X.2.1 dX10_areJoined_29 rfl (lv_at hl 0 rfl) ?_
        refine r_gR X hV fl_X10_13_10 (by decide) dX10_areJoined_30 h (fun v4 h => ?_)
        refine lv_iload X.1 X.2.1 dX10_areJoined_33 (lv_at hl 4 rfl) ?_
        refine r_ia X hV dX10_areJoined_35 h (fun v5 h => ?_)
        refine lv_iload_n X.1 X.2.1 dX10_areJoined_36 rfl (lv_at hl 2 rfl) ?_
        refine r_eq (tgt := 62) X.1 X.2.1 dX10_areJoined_37 (by decide) h (fun h => ?_) (fun h => ?_)
        · refine lv_iconst (v := 1) X.1 X.2.1 dX10_areJoined_62 (by decide) ?_
          refine lv_goto (tgt := 67) X.1 X.2.1 dX10_areJoined_63 (by decide) ?_
          refine lv_istore_n (lv' := [(3, .int 1), (0, .ref x0), (1, .int x1), (2, .int x2), (4, .int x4)]) X.1 X.2.1 dX10_areJoined_67 rfl hl (by decide) rfl (fun ls hl => ?_)
          refine lv_iinc (v := x4 + 1) (lv' := [(4, .int (x4 + 1)), (3, .int 1), (0, .ref x0), (1, .int x1), (2, .int x2)]) X.1 X.2.1 dX10_areJoined_68 hl (k := 4) rfl rfl (by decide) rfl (fun ls hl => ?_)
          refine lv_goto (tgt := 5) X.1 X.2.1 dX10_areJoined_71 (by decide) ?_
          exact hr5 (1, x4 + 1) h _ _ _ hV hF (lv_sub hl [2, 3, 4, 1, 0] rfl)
        · exact w_X10_areJoined_40 X hr5 h hV hF (lv_sub hl [0, 1, 2, 4] rfl)
set_option maxHeartbeats 4000000 in
theorem w_X10_areJoined_5 {p : Program} {l : Launch} {e : Env} {s : State} {m : MethodId} {args : Array Value} {below : List Frame} {meth : Method} {c : Code} {g : Gl} (X : FX g p m c s args meth cX10_areJoined 5 RX10 (some .boolean) "areJoined") {r : Int32 × Hp} {σ : Hp} {x0 : Nat} {x1 : Int32} {x2 : Int32}  : ∀ (n : Nat) (st : Int32 × Int32), L_X10_areJoined_5 σ x0 x1 x2 n st = some r → ∀ (H : Heap) (locs : List Loc) (ls : Array Slot), HV g σ H → FR g locs → lv_has ls 5 [(0, .ref x0), (1, .int x1), (2, .int x2), (3, .int st.1), (4, .int st.2)] → W p l e rm_X10_areJoined s m args below meth c H locs 0 0 (MQ below (Qi g r) args s 0 0 (frN g)) (F0 m 5 ls []) := by
  intro n
  induction n with
  | zero =>
    intro st h
    rw [L_X10_areJoined_5_0] at h
    cases h
  | succ n ih =>
    intro st h H locs ls hV hF hl
    rw [L_X10_areJoined_5_s] at h
    exact w_X10_areJoined_5_b X  ih h hV hF hl
set_option maxHeartbeats 4000000 in
theorem c_X10_areJoined (l : Launch) {g : Gl} {σ : Hp} {x0 : Nat} {x1 : Int32} {x2 : Int32} {r : Int32 × Hp} (h : F_X10_areJoined σ x0 x1 x2 = some r) : Met l yX10_areJoined (ws_ yX10_areJoined cX10_areJoined 5 (some .boolean)) rm_X10_areJoined (va_Pc [.ref x0, .int x1, .int x2] (WV g σ)) (Qi g r) 0 0 (frN g) := by
  refine ct_of (by decide) (Nat.le_of_ble_eq_true rfl) ?_
  intro p e s m below meth c ls X hV hl
  have hF : FR g [] := FR_nil
  unfold F_X10_areJoined at h
  have hl : lv_has ls 5 [(0, .ref x0), (1, .int x1), (2, .int x2)] := hl
  have X : FX g p m c s _ meth cX10_areJoined 5 RX10 (some .boolean) "areJoined" := X
  obtain ⟨-, h⟩ := gd_inv h
  refine lv_iconst (v := 0) X.1 X.2.1 dX10_areJoined_0 (by decide) ?_
  refine lv_istore_n (lv' := [(3, .int 0), (0, .ref x0), (1, .int x1), (2, .int x2)]) X.1 X.2.1 dX10_areJoined_1 rfl hl (by decide) rfl (fun ls hl => ?_)
  refine lv_iconst (v := 0) X.1 X.2.1 dX10_areJoined_2 (by decide) ?_
  refine lv_istore (lv' := [(4, .int 0), (3, .int 0), (0, .ref x0), (1, .int x1), (2, .int x2)]) X.1 X.2.1 dX10_areJoined_3 hl (by decide) rfl (fun ls hl => ?_)
  exact w_X10_areJoined_5 X  FU (0, 0) h _ _ _ hV hF (lv_sub hl [2, 3, 4, 1, 0] rfl)
/-! PalaceOfRoomsModel.door -/
theorem dX10_door_0 : decode cX10_door 0 = .ok (.iload_n 1, 1) := by decide +kernel
theorem dX10_door_1 : decode cX10_door 1 = .ok (.invokestatic 100, 3) := by decide +kernel
theorem dX10_door_4 : decode cX10_door 4 = .ok (.ifCond .eq 15, 3) := by decide +kernel
theorem dX10_door_7 : decode cX10_door 7 = .ok (.iload_n 2, 1) := by decide +kernel
theorem dX10_door_8 : decode cX10_door 8 = .ok (.invokestatic 100, 3) := by decide +kernel
theorem dX10_door_11 : decode cX10_door 11 = .ok (.ifCond .eq 8, 3) := by decide +kernel
theorem dX10_door_14 : decode cX10_door 14 = .ok (.iload_n 1, 1) := by decide +kernel
theorem dX10_door_15 : decode cX10_door 15 = .ok (.iload_n 2, 1) := by decide +kernel
theorem dX10_door_16 : decode cX10_door 16 = .ok (.if_icmp .ne 6, 3) := by decide +kernel
theorem dX10_door_19 : decode cX10_door 19 = .ok (.bipush (-2), 2) := by decide +kernel
theorem dX10_door_21 : decode cX10_door 21 = .ok (.ireturn, 1) := by decide +kernel
theorem dX10_door_22 : decode cX10_door 22 = .ok (.aload_n 0, 1) := by decide +kernel
theorem dX10_door_23 : decode cX10_door 23 = .ok (.iload_n 1, 1) := by decide +kernel
theorem dX10_door_24 : decode cX10_door 24 = .ok (.iload_n 2, 1) := by decide +kernel
theorem dX10_door_25 : decode cX10_door 25 = .ok (.invokevirtual 104, 3) := by decide +kernel
theorem dX10_door_28 : decode cX10_door 28 = .ok (.ifCond .eq 6, 3) := by decide +kernel
theorem dX10_door_31 : decode cX10_door 31 = .ok (.bipush (-4), 2) := by decide +kernel
theorem dX10_door_33 : decode cX10_door 33 = .ok (.ireturn, 1) := by decide +kernel
theorem dX10_door_34 : decode cX10_door 34 = .ok (.aload_n 0, 1) := by decide +kernel
theorem dX10_door_35 : decode cX10_door 35 = .ok (.getfield 97, 3) := by decide +kernel
theorem dX10_door_38 : decode cX10_door 38 = .ok (.bipush 14, 2) := by decide +kernel
theorem dX10_door_40 : decode cX10_door 40 = .ok (.if_icmp .ne 6, 3) := by decide +kernel
theorem dX10_door_43 : decode cX10_door 43 = .ok (.bipush (-5), 2) := by decide +kernel
theorem dX10_door_45 : decode cX10_door 45 = .ok (.ireturn, 1) := by decide +kernel
theorem dX10_door_46 : decode cX10_door 46 = .ok (.aload_n 0, 1) := by decide +kernel
theorem dX10_door_47 : decode cX10_door 47 = .ok (.getfield 7, 3) := by decide +kernel
theorem dX10_door_50 : decode cX10_door 50 = .ok (.aload_n 0, 1) := by decide +kernel
theorem dX10_door_51 : decode cX10_door 51 = .ok (.getfield 97, 3) := by decide +kernel
theorem dX10_door_54 : decode cX10_door 54 = .ok (.iload_n 1, 1) := by decide +kernel
theorem dX10_door_55 : decode cX10_door 55 = .ok (.iastore, 1) := by decide +kernel
theorem dX10_door_56 : decode cX10_door 56 = .ok (.aload_n 0, 1) := by decide +kernel
theorem dX10_door_57 : decode cX10_door 57 = .ok (.getfield 13, 3) := by decide +kernel
theorem dX10_door_60 : decode cX10_door 60 = .ok (.aload_n 0, 1) := by decide +kernel
theorem dX10_door_61 : decode cX10_door 61 = .ok (.getfield 97, 3) := by decide +kernel
theorem dX10_door_64 : decode cX10_door 64 = .ok (.iload_n 2, 1) := by decide +kernel
theorem dX10_door_65 : decode cX10_door 65 = .ok (.iastore, 1) := by decide +kernel
theorem dX10_door_66 : decode cX10_door 66 = .ok (.aload_n 0, 1) := by decide +kernel
theorem dX10_door_67 : decode cX10_door 67 = .ok (.dup, 1) := by decide +kernel
theorem dX10_door_68 : decode cX10_door 68 = .ok (.getfield 97, 3) := by decide +kernel
theorem dX10_door_71 : decode cX10_door 71 = .ok (.iconst 1, 1) := by decide +kernel
theorem dX10_door_72 : decode cX10_door 72 = .ok (.iadd, 1) := by decide +kernel
theorem dX10_door_73 : decode cX10_door 73 = .ok (.putfield 97, 3) := by decide +kernel
theorem dX10_door_76 : decode cX10_door 76 = .ok (.aload_n 0, 1) := by decide +kernel
theorem dX10_door_77 : decode cX10_door 77 = .ok (.getfield 97, 3) := by decide +kernel
theorem dX10_door_80 : decode cX10_door 80 = .ok (.ireturn, 1) := by decide +kernel
theorem yd_X10_door : yX10_door.cls ≠ "java/lang/invoke/MethodHandle" ∧ yX10_door.cls ≠ "java/lang/invoke/VarHandle" ∧ (parseMethodDescriptor yX10_door.desc).map (fun d => d.parameters.length) = some 2 := by decide +kernel
theorem fp_X10_97_10 : FPk RX10 97 10 1 "I" false := ⟨RX10, TX10, 39, "PalaceOfRoomsModel", tyX10, rfl, by decide, (fun q => by have h1 := q.1; have h2 := q.2; omega), rfl, in_X10, tyX10_ok, (fun a ha b hb h => Or.inl (nmX10 a ha b hb h)), rfl, (fun q => by cases q), (Or.inl q980), Or.inl rfl⟩
abbrev rm_X10_door : Room := { frames := 2, cells := 0, slots := 0, locals := 42 }
set_option maxHeartbeats 4000000 in
theorem c_X10_door (l : Launch) {g : Gl} {σ : Hp} {x0 : Nat} {x1 : Int32} {x2 : Int32} {r : Int32 × Hp} (h : F_X10_door σ x0 x1 x2 = some r) : Met l yX10_door (ws_ yX10_door cX10_door 3 (some .int)) rm_X10_door (va_Pc [.ref x0, .int x1, .int x2] (WV g σ)) (Qi g r) 0 0 (frN g) := by
  refine ct_of (by decide) (Nat.le_of_ble_eq_true rfl) ?_
  intro p e s m below meth c ls X hV hl
  have hF : FR g [] := FR_nil
  unfold F_X10_door at h
  have hl : lv_has ls 3 [(0, .ref x0), (1, .int x1), (2, .int x2)] := hl
  have X : FX g p m c s _ meth cX10_door 3 RX10 (some .int) "door" := X
  obtain ⟨-, h⟩ := gd_inv h
  refine lv_iload_n X.1 X.2.1 dX10_door_0 rfl (lv_at hl 1 rfl) ?_
  obtain ⟨v1, s1, hc, h⟩ := b2_inv h
  refine r_ci (va_runS (As := [.int x1]) (rest := []) (cfX X) (c_X10_isRoom l hc) (va_cwS 1 X.2.2.2.2.1 (lw_S q1101 q1102 q59 q1103) rfl rfl rfl yd_X10_isRoom ⟨Nat.le_of_ble_eq_true rfl, Nat.le_of_ble_eq_true rfl⟩) (preS X hV) rfl rfl hl.1 rfl (lv_room (Nat.le_of_ble_eq_true rfl)) dX10_door_1 ⟨(Nat.le_of_ble_eq_true rfl), (Nat.le_of_ble_eq_true rfl)⟩) hF (fun H locs hV hF => ?_)
  refine r_ifeq (tgt := 19) X.1 X.2.1 dX10_door_4 (by decide) h (fun h => ?_) (fun h => ?_)
  · refine lv_bipush (v := (-2)) X.1 X.2.1 dX10_door_19 (by decide) ?_
    exact r_iret X hV hF h dX10_door_21
  · refine lv_iload_n X.1 X.2.1 dX10_door_7 rfl (lv_at hl 2 rfl) ?_
    obtain ⟨v2, s2, hc, h⟩ := b2_inv h
    refine r_ci (va_runS (As := [.int x2]) (rest := []) (cfX X) (c_X10_isRoom l hc) (va_cwS 1 X.2.2.2.2.1 (lw_S q1101 q1102 q59 q1103) rfl rfl rfl yd_X10_isRoom ⟨Nat.le_of_ble_eq_true rfl, Nat.le_of_ble_eq_true rfl⟩) (preS X hV) rfl rfl hl.1 rfl (lv_room (Nat.le_of_ble_eq_true rfl)) dX10_door_8 ⟨(Nat.le_of_ble_eq_true rfl), (Nat.le_of_ble_eq_true rfl)⟩) hF (fun H locs hV hF => ?_)
    refine r_ifeq (tgt := 19) X.1 X.2.1 dX10_door_11 (by decide) h (fun h => ?_) (fun h => ?_)
    · refine lv_bipush (v := (-2)) X.1 X.2.1 dX10_door_19 (by decide) ?_
      exact r_iret X hV hF h dX10_door_21
    · refine lv_iload_n X.1 X.2.1 dX10_door_14 rfl (lv_at hl 1 rfl) ?_
      refine lv_iload_n X.1 X.2.1 dX10_door_15 rfl (lv_at hl 2 rfl) ?_
      refine r_ne (tgt := 22) X.1 X.2.1 dX10_door_16 (by decide) h (fun h => ?_) (fun h => ?_)
      · refine lv_aload_n X.1 X.2.1 dX10_door_22 rfl (lv_at hl 0 rfl) ?_
        refine lv_iload_n X.1 X.2.1 dX10_door_23 rfl (lv_at hl 1 rfl) ?_
        refine lv_iload_n X.1 X.2.1 dX10_door_24 rfl (lv_at hl 2 rfl) ?_
        obtain ⟨v3, s3, hc, h⟩ := b2_inv h
        refine r_ci (va_runV (C := RX10) (As := [.int x1, .int x2]) (rest := []) (cfX X) (c_X10_areJoined l hc) (cwV 2 X.2.2.2.2.1 (lw_V q1107 q1109 qs22 q59 q1110) rfl rfl rfl ⟨rfl, yd_X10_areJoined⟩ ⟨Nat.le_of_ble_eq_true rfl, Nat.le_of_ble_eq_true rfl⟩) (preV X hV (F_X10_areJoined_g hc) rfl) rfl rfl hl.1 rfl (lv_room (Nat.le_of_ble_eq_true rfl)) dX10_door_25 ⟨(Nat.le_of_ble_eq_true rfl), (Nat.le_of_ble_eq_true rfl)⟩) hF (fun H locs hV hF => ?_)
        refine r_ifeq (tgt := 34) X.1 X.2.1 dX10_door_28 (by decide) h (fun h => ?_) (fun h => ?_)
        · refine lv_aload_n X.1 X.2.1 dX10_door_34 rfl (lv_at hl 0 rfl) ?_
          refine r_gI X hV fl_X10_97_10 dX10_door_35 h (fun v4 h => ?_)
          refine lv_bipush (v := 14) X.1 X.2.1 dX10_door_38 (by decide) ?_
          refine r_ne (tgt := 46) X.1 X.2.1 dX10_door_40 (by decide) h (fun h => ?_) (fun h => ?_)
          · refine lv_aload_n X.1 X.2.1 dX10_door_46 rfl (lv_at hl 0 rfl) ?_
            refine r_gR X hV fl_X10_7_10 (by decide) dX10_door_47 h (fun v5 h => ?_)
            refine lv_aload_n X.1 X.2.1 dX10_door_50 rfl (lv_at hl 0 rfl) ?_
            refine r_gI X hV fl_X10_97_10 dX10_door_51 h (fun v6 h => ?_)
            refine lv_iload_n X.1 X.2.1 dX10_door_54 rfl (lv_at hl 1 rfl) ?_
            refine r_is X hV hF dX10_door_55 h (fun s4 H locs hV hF h => ?_)
            refine lv_aload_n X.1 X.2.1 dX10_door_56 rfl (lv_at hl 0 rfl) ?_
            refine r_gR X hV fl_X10_13_10 (by decide) dX10_door_57 h (fun v7 h => ?_)
            refine lv_aload_n X.1 X.2.1 dX10_door_60 rfl (lv_at hl 0 rfl) ?_
            refine r_gI X hV fl_X10_97_10 dX10_door_61 h (fun v8 h => ?_)
            refine lv_iload_n X.1 X.2.1 dX10_door_64 rfl (lv_at hl 2 rfl) ?_
            refine r_is X hV hF dX10_door_65 h (fun s5 H locs hV hF h => ?_)
            refine lv_aload_n X.1 X.2.1 dX10_door_66 rfl (lv_at hl 0 rfl) ?_
            refine lv_dup X.1 X.2.1 dX10_door_67 rfl ?_
            refine r_gI X hV fl_X10_97_10 dX10_door_68 h (fun v9 h => ?_)
            refine lv_iconst (v := 1) X.1 X.2.1 dX10_door_71 (by decide) ?_
            refine lv_iadd X.1 X.2.1 dX10_door_72 ?_
            refine r_pI X hV hF fp_X10_97_10 (fun q => by cases q) dX10_door_73 h (fun s6 H locs hV hF h => ?_)
            refine lv_aload_n X.1 X.2.1 dX10_door_76 rfl (lv_at hl 0 rfl) ?_
            refine r_gI X hV fl_X10_97_10 dX10_door_77 h (fun v10 h => ?_)
            exact r_iret X hV hF h dX10_door_80
          · refine lv_bipush (v := (-5)) X.1 X.2.1 dX10_door_43 (by decide) ?_
            exact r_iret X hV hF h dX10_door_45
        · refine lv_bipush (v := (-4)) X.1 X.2.1 dX10_door_31 (by decide) ?_
          exact r_iret X hV hF h dX10_door_33
      · refine lv_bipush (v := (-2)) X.1 X.2.1 dX10_door_19 (by decide) ?_
        exact r_iret X hV hF h dX10_door_21
