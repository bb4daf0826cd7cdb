set_option maxRecDepth 100000
abbrev cL_law : ByteArray := code
abbrev RL : String := "PalaceOfRoomsLaw"
theorem dL_law_0 : decode cL_law 0 = .ok (.new 7, 3) := by decide +kernel
theorem dL_law_3 : decode cL_law 3 = .ok (.dup, 1) := by decide +kernel
theorem dL_law_4 : decode cL_law 4 = .ok (.invokespecial 9, 3) := by decide +kernel
theorem dL_law_7 : decode cL_law 7 = .ok (.astore_n 1, 1) := by decide +kernel
theorem dL_law_8 : decode cL_law 8 = .ok (.new 10, 3) := by decide +kernel
theorem dL_law_11 : decode cL_law 11 = .ok (.dup, 1) := by decide +kernel
theorem dL_law_12 : decode cL_law 12 = .ok (.invokespecial 12, 3) := by decide +kernel
theorem dL_law_15 : decode cL_law 15 = .ok (.astore_n 2, 1) := by decide +kernel
theorem dL_law_16 : decode cL_law 16 = .ok (.iconst 0, 1) := by decide +kernel
theorem dL_law_17 : decode cL_law 17 = .ok (.istore_n 3, 1) := by decide +kernel
theorem dL_law_18 : decode cL_law 18 = .ok (.iload_n 3, 1) := by decide +kernel
theorem dL_law_19 : decode cL_law 19 = .ok (.aload_n 0, 1) := by decide +kernel
theorem dL_law_20 : decode cL_law 20 = .ok (.arraylength, 1) := by decide +kernel
theorem dL_law_21 : decode cL_law 21 = .ok (.iconst 5, 1) := by decide +kernel
theorem dL_law_22 : decode cL_law 22 = .ok (.isub, 1) := by decide +kernel
theorem dL_law_23 : decode cL_law 23 = .ok (.if_icmp .gt 1231, 3) := by decide +kernel
theorem dL_law_26 : decode cL_law 26 = .ok (.aload_n 0, 1) := by decide +kernel
theorem dL_law_27 : decode cL_law 27 = .ok (.iload_n 3, 1) := by decide +kernel
theorem dL_law_28 : decode cL_law 28 = .ok (.iaload, 1) := by decide +kernel
theorem dL_law_29 : decode cL_law 29 = .ok (.bipush 31, 2) := by decide +kernel
theorem dL_law_31 : decode cL_law 31 = .ok (.iand, 1) := by decide +kernel
theorem dL_law_32 : decode cL_law 32 = .ok (.tableswitch 1216 0 31 #[144, 177, 210, 243, 276, 309, 342, 375, 398, 431, 454, 477, 500, 563, 576, 589, 602, 635, 648, 721, 744, 787, 830, 863, 896, 929, 962, 1021, 1054, 1097, 1170, 1193], 144) := by decide +kernel
theorem dL_law_176 : decode cL_law 176 = .ok (.aload_n 1, 1) := by decide +kernel
theorem dL_law_177 : decode cL_law 177 = .ok (.aload_n 0, 1) := by decide +kernel
theorem dL_law_178 : decode cL_law 178 = .ok (.iload_n 3, 1) := by decide +kernel
theorem dL_law_179 : decode cL_law 179 = .ok (.iconst 1, 1) := by decide +kernel
theorem dL_law_180 : decode cL_law 180 = .ok (.iadd, 1) := by decide +kernel
theorem dL_law_181 : decode cL_law 181 = .ok (.iaload, 1) := by decide +kernel
theorem dL_law_182 : decode cL_law 182 = .ok (.aload_n 0, 1) := by decide +kernel
theorem dL_law_183 : decode cL_law 183 = .ok (.iload_n 3, 1) := by decide +kernel
theorem dL_law_184 : decode cL_law 184 = .ok (.iconst 2, 1) := by decide +kernel
theorem dL_law_185 : decode cL_law 185 = .ok (.iadd, 1) := by decide +kernel
theorem dL_law_186 : decode cL_law 186 = .ok (.iaload, 1) := by decide +kernel
theorem dL_law_187 : decode cL_law 187 = .ok (.invokevirtual 13, 3) := by decide +kernel
theorem dL_law_190 : decode cL_law 190 = .ok (.aload_n 2, 1) := by decide +kernel
theorem dL_law_191 : decode cL_law 191 = .ok (.aload_n 0, 1) := by decide +kernel
theorem dL_law_192 : decode cL_law 192 = .ok (.iload_n 3, 1) := by decide +kernel
theorem dL_law_193 : decode cL_law 193 = .ok (.iconst 1, 1) := by decide +kernel
theorem dL_law_194 : decode cL_law 194 = .ok (.iadd, 1) := by decide +kernel
theorem dL_law_195 : decode cL_law 195 = .ok (.iaload, 1) := by decide +kernel
theorem dL_law_196 : decode cL_law 196 = .ok (.aload_n 0, 1) := by decide +kernel
theorem dL_law_197 : decode cL_law 197 = .ok (.iload_n 3, 1) := by decide +kernel
theorem dL_law_198 : decode cL_law 198 = .ok (.iconst 2, 1) := by decide +kernel
theorem dL_law_199 : decode cL_law 199 = .ok (.iadd, 1) := by decide +kernel
theorem dL_law_200 : decode cL_law 200 = .ok (.iaload, 1) := by decide +kernel
theorem dL_law_201 : decode cL_law 201 = .ok (.invokevirtual 17, 3) := by decide +kernel
theorem dL_law_204 : decode cL_law 204 = .ok (.if_icmp .eq 1044, 3) := by decide +kernel
theorem dL_law_209 : decode cL_law 209 = .ok (.aload_n 1, 1) := by decide +kernel
theorem dL_law_210 : decode cL_law 210 = .ok (.aload_n 0, 1) := by decide +kernel
theorem dL_law_211 : decode cL_law 211 = .ok (.iload_n 3, 1) := by decide +kernel
theorem dL_law_212 : decode cL_law 212 = .ok (.iconst 1, 1) := by decide +kernel
theorem dL_law_213 : decode cL_law 213 = .ok (.iadd, 1) := by decide +kernel
theorem dL_law_214 : decode cL_law 214 = .ok (.iaload, 1) := by decide +kernel
theorem dL_law_215 : decode cL_law 215 = .ok (.aload_n 0, 1) := by decide +kernel
theorem dL_law_216 : decode cL_law 216 = .ok (.iload_n 3, 1) := by decide +kernel
theorem dL_law_217 : decode cL_law 217 = .ok (.iconst 2, 1) := by decide +kernel
theorem dL_law_218 : decode cL_law 218 = .ok (.iadd, 1) := by decide +kernel
theorem dL_law_219 : decode cL_law 219 = .ok (.iaload, 1) := by decide +kernel
theorem dL_law_220 : decode cL_law 220 = .ok (.invokevirtual 18, 3) := by decide +kernel
theorem dL_law_223 : decode cL_law 223 = .ok (.aload_n 2, 1) := by decide +kernel
theorem dL_law_224 : decode cL_law 224 = .ok (.aload_n 0, 1) := by decide +kernel
theorem dL_law_225 : decode cL_law 225 = .ok (.iload_n 3, 1) := by decide +kernel
theorem dL_law_226 : decode cL_law 226 = .ok (.iconst 1, 1) := by decide +kernel
theorem dL_law_227 : decode cL_law 227 = .ok (.iadd, 1) := by decide +kernel
theorem dL_law_228 : decode cL_law 228 = .ok (.iaload, 1) := by decide +kernel
theorem dL_law_229 : decode cL_law 229 = .ok (.aload_n 0, 1) := by decide +kernel
theorem dL_law_230 : decode cL_law 230 = .ok (.iload_n 3, 1) := by decide +kernel
theorem dL_law_231 : decode cL_law 231 = .ok (.iconst 2, 1) := by decide +kernel
theorem dL_law_232 : decode cL_law 232 = .ok (.iadd, 1) := by decide +kernel
theorem dL_law_233 : decode cL_law 233 = .ok (.iaload, 1) := by decide +kernel
theorem dL_law_234 : decode cL_law 234 = .ok (.invokevirtual 21, 3) := by decide +kernel
theorem dL_law_237 : decode cL_law 237 = .ok (.if_icmp .eq 1011, 3) := by decide +kernel
theorem dL_law_242 : decode cL_law 242 = .ok (.aload_n 1, 1) := by decide +kernel
theorem dL_law_243 : decode cL_law 243 = .ok (.aload_n 0, 1) := by decide +kernel
theorem dL_law_244 : decode cL_law 244 = .ok (.iload_n 3, 1) := by decide +kernel
theorem dL_law_245 : decode cL_law 245 = .ok (.iconst 1, 1) := by decide +kernel
theorem dL_law_246 : decode cL_law 246 = .ok (.iadd, 1) := by decide +kernel
theorem dL_law_247 : decode cL_law 247 = .ok (.iaload, 1) := by decide +kernel
theorem dL_law_248 : decode cL_law 248 = .ok (.aload_n 0, 1) := by decide +kernel
theorem dL_law_249 : decode cL_law 249 = .ok (.iload_n 3, 1) := by decide +kernel
theorem dL_law_250 : decode cL_law 250 = .ok (.iconst 2, 1) := by decide +kernel
theorem dL_law_251 : decode cL_law 251 = .ok (.iadd, 1) := by decide +kernel
theorem dL_law_252 : decode cL_law 252 = .ok (.iaload, 1) := by decide +kernel
theorem dL_law_253 : decode cL_law 253 = .ok (.invokevirtual 22, 3) := by decide +kernel
theorem dL_law_256 : decode cL_law 256 = .ok (.aload_n 2, 1) := by decide +kernel
theorem dL_law_257 : decode cL_law 257 = .ok (.aload_n 0, 1) := by decide +kernel
theorem dL_law_258 : decode cL_law 258 = .ok (.iload_n 3, 1) := by decide +kernel
theorem dL_law_259 : decode cL_law 259 = .ok (.iconst 1, 1) := by decide +kernel
theorem dL_law_260 : decode cL_law 260 = .ok (.iadd, 1) := by decide +kernel
theorem dL_law_261 : decode cL_law 261 = .ok (.iaload, 1) := by decide +kernel
theorem dL_law_262 : decode cL_law 262 = .ok (.aload_n 0, 1) := by decide +kernel
theorem dL_law_263 : decode cL_law 263 = .ok (.iload_n 3, 1) := by decide +kernel
theorem dL_law_264 : decode cL_law 264 = .ok (.iconst 2, 1) := by decide +kernel
theorem dL_law_265 : decode cL_law 265 = .ok (.iadd, 1) := by decide +kernel
theorem dL_law_266 : decode cL_law 266 = .ok (.iaload, 1) := by decide +kernel
theorem dL_law_267 : decode cL_law 267 = .ok (.invokevirtual 25, 3) := by decide +kernel
theorem dL_law_270 : decode cL_law 270 = .ok (.if_icmp .eq 978, 3) := by decide +kernel
theorem dL_law_275 : decode cL_law 275 = .ok (.aload_n 1, 1) := by decide +kernel
theorem dL_law_276 : decode cL_law 276 = .ok (.aload_n 0, 1) := by decide +kernel
theorem dL_law_277 : decode cL_law 277 = .ok (.iload_n 3, 1) := by decide +kernel
theorem dL_law_278 : decode cL_law 278 = .ok (.iconst 1, 1) := by decide +kernel
theorem dL_law_279 : decode cL_law 279 = .ok (.iadd, 1) := by decide +kernel
theorem dL_law_280 : decode cL_law 280 = .ok (.iaload, 1) := by decide +kernel
theorem dL_law_281 : decode cL_law 281 = .ok (.aload_n 0, 1) := by decide +kernel
theorem dL_law_282 : decode cL_law 282 = .ok (.iload_n 3, 1) := by decide +kernel
theorem dL_law_283 : decode cL_law 283 = .ok (.iconst 2, 1) := by decide +kernel
theorem dL_law_284 : decode cL_law 284 = .ok (.iadd, 1) := by decide +kernel
theorem dL_law_285 : decode cL_law 285 = .ok (.iaload, 1) := by decide +kernel
theorem dL_law_286 : decode cL_law 286 = .ok (.invokevirtual 26, 3) := by decide +kernel
theorem dL_law_289 : decode cL_law 289 = .ok (.aload_n 2, 1) := by decide +kernel
theorem dL_law_290 : decode cL_law 290 = .ok (.aload_n 0, 1) := by decide +kernel
theorem dL_law_291 : decode cL_law 291 = .ok (.iload_n 3, 1) := by decide +kernel
theorem dL_law_292 : decode cL_law 292 = .ok (.iconst 1, 1) := by decide +kernel
theorem dL_law_293 : decode cL_law 293 = .ok (.iadd, 1) := by decide +kernel
theorem dL_law_294 : decode cL_law 294 = .ok (.iaload, 1) := by decide +kernel
theorem dL_law_295 : decode cL_law 295 = .ok (.aload_n 0, 1) := by decide +kernel
theorem dL_law_296 : decode cL_law 296 = .ok (.iload_n 3, 1) := by decide +kernel
theorem dL_law_297 : decode cL_law 297 = .ok (.iconst 2, 1) := by decide +kernel
theorem dL_law_298 : decode cL_law 298 = .ok (.iadd, 1) := by decide +kernel
theorem dL_law_299 : decode cL_law 299 = .ok (.iaload, 1) := by decide +kernel
theorem dL_law_300 : decode cL_law 300 = .ok (.invokevirtual 29, 3) := by decide +kernel
theorem dL_law_303 : decode cL_law 303 = .ok (.if_icmp .eq 945, 3) := by decide +kernel
theorem dL_law_308 : decode cL_law 308 = .ok (.aload_n 1, 1) := by decide +kernel
theorem dL_law_309 : decode cL_law 309 = .ok (.aload_n 0, 1) := by decide +kernel
theorem dL_law_310 : decode cL_law 310 = .ok (.iload_n 3, 1) := by decide +kernel
theorem dL_law_311 : decode cL_law 311 = .ok (.iconst 1, 1) := by decide +kernel
theorem dL_law_312 : decode cL_law 312 = .ok (.iadd, 1) := by decide +kernel
theorem dL_law_313 : decode cL_law 313 = .ok (.iaload, 1) := by decide +kernel
theorem dL_law_314 : decode cL_law 314 = .ok (.aload_n 0, 1) := by decide +kernel
theorem dL_law_315 : decode cL_law 315 = .ok (.iload_n 3, 1) := by decide +kernel
theorem dL_law_316 : decode cL_law 316 = .ok (.iconst 2, 1) := by decide +kernel
theorem dL_law_317 : decode cL_law 317 = .ok (.iadd, 1) := by decide +kernel
theorem dL_law_318 : decode cL_law 318 = .ok (.iaload, 1) := by decide +kernel
theorem dL_law_319 : decode cL_law 319 = .ok (.invokevirtual 30, 3) := by decide +kernel
theorem dL_law_322 : decode cL_law 322 = .ok (.aload_n 2, 1) := by decide +kernel
theorem dL_law_323 : decode cL_law 323 = .ok (.aload_n 0, 1) := by decide +kernel
theorem dL_law_324 : decode cL_law 324 = .ok (.iload_n 3, 1) := by decide +kernel
theorem dL_law_325 : decode cL_law 325 = .ok (.iconst 1, 1) := by decide +kernel
theorem dL_law_326 : decode cL_law 326 = .ok (.iadd, 1) := by decide +kernel
theorem dL_law_327 : decode cL_law 327 = .ok (.iaload, 1) := by decide +kernel
theorem dL_law_328 : decode cL_law 328 = .ok (.aload_n 0, 1) := by decide +kernel
theorem dL_law_329 : decode cL_law 329 = .ok (.iload_n 3, 1) := by decide +kernel
theorem dL_law_330 : decode cL_law 330 = .ok (.iconst 2, 1) := by decide +kernel
theorem dL_law_331 : decode cL_law 331 = .ok (.iadd, 1) := by decide +kernel
theorem dL_law_332 : decode cL_law 332 = .ok (.iaload, 1) := by decide +kernel
theorem dL_law_333 : decode cL_law 333 = .ok (.invokevirtual 33, 3) := by decide +kernel
theorem dL_law_336 : decode cL_law 336 = .ok (.if_icmp .eq 912, 3) := by decide +kernel
theorem dL_law_341 : decode cL_law 341 = .ok (.aload_n 1, 1) := by decide +kernel
theorem dL_law_342 : decode cL_law 342 = .ok (.aload_n 0, 1) := by decide +kernel
theorem dL_law_343 : decode cL_law 343 = .ok (.iload_n 3, 1) := by decide +kernel
theorem dL_law_344 : decode cL_law 344 = .ok (.iconst 1, 1) := by decide +kernel
theorem dL_law_345 : decode cL_law 345 = .ok (.iadd, 1) := by decide +kernel
theorem dL_law_346 : decode cL_law 346 = .ok (.iaload, 1) := by decide +kernel
theorem dL_law_347 : decode cL_law 347 = .ok (.aload_n 0, 1) := by decide +kernel
theorem dL_law_348 : decode cL_law 348 = .ok (.iload_n 3, 1) := by decide +kernel
theorem dL_law_349 : decode cL_law 349 = .ok (.iconst 2, 1) := by decide +kernel
theorem dL_law_350 : decode cL_law 350 = .ok (.iadd, 1) := by decide +kernel
theorem dL_law_351 : decode cL_law 351 = .ok (.iaload, 1) := by decide +kernel
theorem dL_law_352 : decode cL_law 352 = .ok (.invokevirtual 34, 3) := by decide +kernel
theorem dL_law_355 : decode cL_law 355 = .ok (.aload_n 2, 1) := by decide +kernel
theorem dL_law_356 : decode cL_law 356 = .ok (.aload_n 0, 1) := by decide +kernel
theorem dL_law_357 : decode cL_law 357 = .ok (.iload_n 3, 1) := by decide +kernel
theorem dL_law_358 : decode cL_law 358 = .ok (.iconst 1, 1) := by decide +kernel
theorem dL_law_359 : decode cL_law 359 = .ok (.iadd, 1) := by decide +kernel
theorem dL_law_360 : decode cL_law 360 = .ok (.iaload, 1) := by decide +kernel
theorem dL_law_361 : decode cL_law 361 = .ok (.aload_n 0, 1) := by decide +kernel
theorem dL_law_362 : decode cL_law 362 = .ok (.iload_n 3, 1) := by decide +kernel
theorem dL_law_363 : decode cL_law 363 = .ok (.iconst 2, 1) := by decide +kernel
theorem dL_law_364 : decode cL_law 364 = .ok (.iadd, 1) := by decide +kernel
theorem dL_law_365 : decode cL_law 365 = .ok (.iaload, 1) := by decide +kernel
theorem dL_law_366 : decode cL_law 366 = .ok (.invokevirtual 37, 3) := by decide +kernel
theorem dL_law_369 : decode cL_law 369 = .ok (.if_icmp .eq 879, 3) := by decide +kernel
theorem dL_law_374 : decode cL_law 374 = .ok (.aload_n 1, 1) := by decide +kernel
theorem dL_law_375 : decode cL_law 375 = .ok (.aload_n 0, 1) := by decide +kernel
theorem dL_law_376 : decode cL_law 376 = .ok (.iload_n 3, 1) := by decide +kernel
theorem dL_law_377 : decode cL_law 377 = .ok (.iconst 1, 1) := by decide +kernel
theorem dL_law_378 : decode cL_law 378 = .ok (.iadd, 1) := by decide +kernel
theorem dL_law_379 : decode cL_law 379 = .ok (.iaload, 1) := by decide +kernel
theorem dL_law_380 : decode cL_law 380 = .ok (.aload_n 0, 1) := by decide +kernel
theorem dL_law_381 : decode cL_law 381 = .ok (.iload_n 3, 1) := by decide +kernel
theorem dL_law_382 : decode cL_law 382 = .ok (.iconst 2, 1) := by decide +kernel
theorem dL_law_383 : decode cL_law 383 = .ok (.iadd, 1) := by decide +kernel
theorem dL_law_384 : decode cL_law 384 = .ok (.iaload, 1) := by decide +kernel
theorem dL_law_385 : decode cL_law 385 = .ok (.invokevirtual 38, 3) := by decide +kernel
theorem dL_law_388 : decode cL_law 388 = .ok (.aload_n 2, 1) := by decide +kernel
theorem dL_law_389 : decode cL_law 389 = .ok (.aload_n 0, 1) := by decide +kernel
theorem dL_law_390 : decode cL_law 390 = .ok (.iload_n 3, 1) := by decide +kernel
theorem dL_law_391 : decode cL_law 391 = .ok (.iconst 1, 1) := by decide +kernel
theorem dL_law_392 : decode cL_law 392 = .ok (.iadd, 1) := by decide +kernel
theorem dL_law_393 : decode cL_law 393 = .ok (.iaload, 1) := by decide +kernel
theorem dL_law_394 : decode cL_law 394 = .ok (.aload_n 0, 1) := by decide +kernel
theorem dL_law_395 : decode cL_law 395 = .ok (.iload_n 3, 1) := by decide +kernel
theorem dL_law_396 : decode cL_law 396 = .ok (.iconst 2, 1) := by decide +kernel
theorem dL_law_397 : decode cL_law 397 = .ok (.iadd, 1) := by decide +kernel
theorem dL_law_398 : decode cL_law 398 = .ok (.iaload, 1) := by decide +kernel
theorem dL_law_399 : decode cL_law 399 = .ok (.invokevirtual 41, 3) := by decide +kernel
theorem dL_law_402 : decode cL_law 402 = .ok (.if_icmp .eq 846, 3) := by decide +kernel
theorem dL_law_407 : decode cL_law 407 = .ok (.aload_n 1, 1) := by decide +kernel
theorem dL_law_408 : decode cL_law 408 = .ok (.aload_n 0, 1) := by decide +kernel
theorem dL_law_409 : decode cL_law 409 = .ok (.iload_n 3, 1) := by decide +kernel
theorem dL_law_410 : decode cL_law 410 = .ok (.iconst 1, 1) := by decide +kernel
theorem dL_law_411 : decode cL_law 411 = .ok (.iadd, 1) := by decide +kernel
theorem dL_law_412 : decode cL_law 412 = .ok (.iaload, 1) := by decide +kernel
theorem dL_law_413 : decode cL_law 413 = .ok (.invokevirtual 42, 3) := by decide +kernel
theorem dL_law_416 : decode cL_law 416 = .ok (.aload_n 2, 1) := by decide +kernel
theorem dL_law_417 : decode cL_law 417 = .ok (.aload_n 0, 1) := by decide +kernel
theorem dL_law_418 : decode cL_law 418 = .ok (.iload_n 3, 1) := by decide +kernel
theorem dL_law_419 : decode cL_law 419 = .ok (.iconst 1, 1) := by decide +kernel
theorem dL_law_420 : decode cL_law 420 = .ok (.iadd, 1) := by decide +kernel
theorem dL_law_421 : decode cL_law 421 = .ok (.iaload, 1) := by decide +kernel
theorem dL_law_422 : decode cL_law 422 = .ok (.invokevirtual 46, 3) := by decide +kernel
theorem dL_law_425 : decode cL_law 425 = .ok (.if_icmp .eq 823, 3) := by decide +kernel
theorem dL_law_430 : decode cL_law 430 = .ok (.aload_n 1, 1) := by decide +kernel
theorem dL_law_431 : decode cL_law 431 = .ok (.aload_n 0, 1) := by decide +kernel
theorem dL_law_432 : decode cL_law 432 = .ok (.iload_n 3, 1) := by decide +kernel
theorem dL_law_433 : decode cL_law 433 = .ok (.iconst 1, 1) := by decide +kernel
theorem dL_law_434 : decode cL_law 434 = .ok (.iadd, 1) := by decide +kernel
theorem dL_law_435 : decode cL_law 435 = .ok (.iaload, 1) := by decide +kernel
theorem dL_law_436 : decode cL_law 436 = .ok (.aload_n 0, 1) := by decide +kernel
theorem dL_law_437 : decode cL_law 437 = .ok (.iload_n 3, 1) := by decide +kernel
theorem dL_law_438 : decode cL_law 438 = .ok (.iconst 2, 1) := by decide +kernel
theorem dL_law_439 : decode cL_law 439 = .ok (.iadd, 1) := by decide +kernel
theorem dL_law_440 : decode cL_law 440 = .ok (.iaload, 1) := by decide +kernel
theorem dL_law_441 : decode cL_law 441 = .ok (.invokevirtual 47, 3) := by decide +kernel
theorem dL_law_444 : decode cL_law 444 = .ok (.aload_n 2, 1) := by decide +kernel
theorem dL_law_445 : decode cL_law 445 = .ok (.aload_n 0, 1) := by decide +kernel
theorem dL_law_446 : decode cL_law 446 = .ok (.iload_n 3, 1) := by decide +kernel
theorem dL_law_447 : decode cL_law 447 = .ok (.iconst 1, 1) := by decide +kernel
theorem dL_law_448 : decode cL_law 448 = .ok (.iadd, 1) := by decide +kernel
theorem dL_law_449 : decode cL_law 449 = .ok (.iaload, 1) := by decide +kernel
theorem dL_law_450 : decode cL_law 450 = .ok (.aload_n 0, 1) := by decide +kernel
theorem dL_law_451 : decode cL_law 451 = .ok (.iload_n 3, 1) := by decide +kernel
theorem dL_law_452 : decode cL_law 452 = .ok (.iconst 2, 1) := by decide +kernel
theorem dL_law_453 : decode cL_law 453 = .ok (.iadd, 1) := by decide +kernel
theorem dL_law_454 : decode cL_law 454 = .ok (.iaload, 1) := by decide +kernel
theorem dL_law_455 : decode cL_law 455 = .ok (.invokevirtual 50, 3) := by decide +kernel
theorem dL_law_458 : decode cL_law 458 = .ok (.if_icmp .eq 790, 3) := by decide +kernel
theorem dL_law_463 : decode cL_law 463 = .ok (.aload_n 1, 1) := by decide +kernel
theorem dL_law_464 : decode cL_law 464 = .ok (.aload_n 0, 1) := by decide +kernel
theorem dL_law_465 : decode cL_law 465 = .ok (.iload_n 3, 1) := by decide +kernel
theorem dL_law_466 : decode cL_law 466 = .ok (.iconst 1, 1) := by decide +kernel
theorem dL_law_467 : decode cL_law 467 = .ok (.iadd, 1) := by decide +kernel
theorem dL_law_468 : decode cL_law 468 = .ok (.iaload, 1) := by decide +kernel
theorem dL_law_469 : decode cL_law 469 = .ok (.invokevirtual 51, 3) := by decide +kernel
theorem dL_law_472 : decode cL_law 472 = .ok (.aload_n 2, 1) := by decide +kernel
theorem dL_law_473 : decode cL_law 473 = .ok (.aload_n 0, 1) := by decide +kernel
theorem dL_law_474 : decode cL_law 474 = .ok (.iload_n 3, 1) := by decide +kernel
theorem dL_law_475 : decode cL_law 475 = .ok (.iconst 1, 1) := by decide +kernel
theorem dL_law_476 : decode cL_law 476 = .ok (.iadd, 1) := by decide +kernel
theorem dL_law_477 : decode cL_law 477 = .ok (.iaload, 1) := by decide +kernel
theorem dL_law_478 : decode cL_law 478 = .ok (.invokevirtual 54, 3) := by decide +kernel
theorem dL_law_481 : decode cL_law 481 = .ok (.if_icmp .eq 767, 3) := by decide +kernel
theorem dL_law_486 : decode cL_law 486 = .ok (.aload_n 1, 1) := by decide +kernel
theorem dL_law_487 : decode cL_law 487 = .ok (.aload_n 0, 1) := by decide +kernel
theorem dL_law_488 : decode cL_law 488 = .ok (.iload_n 3, 1) := by decide +kernel
theorem dL_law_489 : decode cL_law 489 = .ok (.iconst 1, 1) := by decide +kernel
theorem dL_law_490 : decode cL_law 490 = .ok (.iadd, 1) := by decide +kernel
theorem dL_law_491 : decode cL_law 491 = .ok (.iaload, 1) := by decide +kernel
theorem dL_law_492 : decode cL_law 492 = .ok (.invokevirtual 55, 3) := by decide +kernel
theorem dL_law_495 : decode cL_law 495 = .ok (.aload_n 2, 1) := by decide +kernel
theorem dL_law_496 : decode cL_law 496 = .ok (.aload_n 0, 1) := by decide +kernel
theorem dL_law_497 : decode cL_law 497 = .ok (.iload_n 3, 1) := by decide +kernel
theorem dL_law_498 : decode cL_law 498 = .ok (.iconst 1, 1) := by decide +kernel
theorem dL_law_499 : decode cL_law 499 = .ok (.iadd, 1) := by decide +kernel
theorem dL_law_500 : decode cL_law 500 = .ok (.iaload, 1) := by decide +kernel
theorem dL_law_501 : decode cL_law 501 = .ok (.invokevirtual 58, 3) := by decide +kernel
theorem dL_law_504 : decode cL_law 504 = .ok (.if_icmp .eq 744, 3) := by decide +kernel
theorem dL_law_509 : decode cL_law 509 = .ok (.aload_n 1, 1) := by decide +kernel
theorem dL_law_510 : decode cL_law 510 = .ok (.aload_n 0, 1) := by decide +kernel
theorem dL_law_511 : decode cL_law 511 = .ok (.iload_n 3, 1) := by decide +kernel
theorem dL_law_512 : decode cL_law 512 = .ok (.iconst 1, 1) := by decide +kernel
theorem dL_law_513 : decode cL_law 513 = .ok (.iadd, 1) := by decide +kernel
theorem dL_law_514 : decode cL_law 514 = .ok (.iaload, 1) := by decide +kernel
theorem dL_law_515 : decode cL_law 515 = .ok (.invokevirtual 59, 3) := by decide +kernel
theorem dL_law_518 : decode cL_law 518 = .ok (.aload_n 2, 1) := by decide +kernel
theorem dL_law_519 : decode cL_law 519 = .ok (.aload_n 0, 1) := by decide +kernel
theorem dL_law_520 : decode cL_law 520 = .ok (.iload_n 3, 1) := by decide +kernel
theorem dL_law_521 : decode cL_law 521 = .ok (.iconst 1, 1) := by decide +kernel
theorem dL_law_522 : decode cL_law 522 = .ok (.iadd, 1) := by decide +kernel
theorem dL_law_523 : decode cL_law 523 = .ok (.iaload, 1) := by decide +kernel
theorem dL_law_524 : decode cL_law 524 = .ok (.invokevirtual 62, 3) := by decide +kernel
theorem dL_law_527 : decode cL_law 527 = .ok (.if_icmp .eq 721, 3) := by decide +kernel
theorem dL_law_532 : decode cL_law 532 = .ok (.aload_n 1, 1) := by decide +kernel
theorem dL_law_533 : decode cL_law 533 = .ok (.aload_n 0, 1) := by decide +kernel
theorem dL_law_534 : decode cL_law 534 = .ok (.iload_n 3, 1) := by decide +kernel
theorem dL_law_535 : decode cL_law 535 = .ok (.iconst 1, 1) := by decide +kernel
theorem dL_law_536 : decode cL_law 536 = .ok (.iadd, 1) := by decide +kernel
theorem dL_law_537 : decode cL_law 537 = .ok (.iaload, 1) := by decide +kernel
theorem dL_law_538 : decode cL_law 538 = .ok (.i2l, 1) := by decide +kernel
theorem dL_law_539 : decode cL_law 539 = .ok (.bipush 32, 2) := by decide +kernel
theorem dL_law_541 : decode cL_law 541 = .ok (.lshl, 1) := by decide +kernel
theorem dL_law_542 : decode cL_law 542 = .ok (.aload_n 0, 1) := by decide +kernel
theorem dL_law_543 : decode cL_law 543 = .ok (.iload_n 3, 1) := by decide +kernel
theorem dL_law_544 : decode cL_law 544 = .ok (.iconst 2, 1) := by decide +kernel
theorem dL_law_545 : decode cL_law 545 = .ok (.iadd, 1) := by decide +kernel
theorem dL_law_546 : decode cL_law 546 = .ok (.iaload, 1) := by decide +kernel
theorem dL_law_547 : decode cL_law 547 = .ok (.i2l, 1) := by decide +kernel
theorem dL_law_548 : decode cL_law 548 = .ok (.ldc2_w 63, 3) := by decide +kernel
theorem dL_law_551 : decode cL_law 551 = .ok (.land, 1) := by decide +kernel
theorem dL_law_552 : decode cL_law 552 = .ok (.lor, 1) := by decide +kernel
theorem dL_law_553 : decode cL_law 553 = .ok (.aload_n 0, 1) := by decide +kernel
theorem dL_law_554 : decode cL_law 554 = .ok (.iload_n 3, 1) := by decide +kernel
theorem dL_law_555 : decode cL_law 555 = .ok (.iconst 3, 1) := by decide +kernel
theorem dL_law_556 : decode cL_law 556 = .ok (.iadd, 1) := by decide +kernel
theorem dL_law_557 : decode cL_law 557 = .ok (.iaload, 1) := by decide +kernel
theorem dL_law_558 : decode cL_law 558 = .ok (.invokevirtual 65, 3) := by decide +kernel
theorem dL_law_561 : decode cL_law 561 = .ok (.aload_n 2, 1) := by decide +kernel
theorem dL_law_562 : decode cL_law 562 = .ok (.aload_n 0, 1) := by decide +kernel
theorem dL_law_563 : decode cL_law 563 = .ok (.iload_n 3, 1) := by decide +kernel
theorem dL_law_564 : decode cL_law 564 = .ok (.iconst 1, 1) := by decide +kernel
theorem dL_law_565 : decode cL_law 565 = .ok (.iadd, 1) := by decide +kernel
theorem dL_law_566 : decode cL_law 566 = .ok (.iaload, 1) := by decide +kernel
theorem dL_law_567 : decode cL_law 567 = .ok (.i2l, 1) := by decide +kernel
theorem dL_law_568 : decode cL_law 568 = .ok (.bipush 32, 2) := by decide +kernel
theorem dL_law_570 : decode cL_law 570 = .ok (.lshl, 1) := by decide +kernel
theorem dL_law_571 : decode cL_law 571 = .ok (.aload_n 0, 1) := by decide +kernel
theorem dL_law_572 : decode cL_law 572 = .ok (.iload_n 3, 1) := by decide +kernel
theorem dL_law_573 : decode cL_law 573 = .ok (.iconst 2, 1) := by decide +kernel
theorem dL_law_574 : decode cL_law 574 = .ok (.iadd, 1) := by decide +kernel
theorem dL_law_575 : decode cL_law 575 = .ok (.iaload, 1) := by decide +kernel
theorem dL_law_576 : decode cL_law 576 = .ok (.i2l, 1) := by decide +kernel
theorem dL_law_577 : decode cL_law 577 = .ok (.ldc2_w 63, 3) := by decide +kernel
theorem dL_law_580 : decode cL_law 580 = .ok (.land, 1) := by decide +kernel
theorem dL_law_581 : decode cL_law 581 = .ok (.lor, 1) := by decide +kernel
theorem dL_law_582 : decode cL_law 582 = .ok (.aload_n 0, 1) := by decide +kernel
theorem dL_law_583 : decode cL_law 583 = .ok (.iload_n 3, 1) := by decide +kernel
theorem dL_law_584 : decode cL_law 584 = .ok (.iconst 3, 1) := by decide +kernel
theorem dL_law_585 : decode cL_law 585 = .ok (.iadd, 1) := by decide +kernel
theorem dL_law_586 : decode cL_law 586 = .ok (.iaload, 1) := by decide +kernel
theorem dL_law_587 : decode cL_law 587 = .ok (.invokevirtual 69, 3) := by decide +kernel
theorem dL_law_590 : decode cL_law 590 = .ok (.if_icmp .eq 658, 3) := by decide +kernel
theorem dL_law_595 : decode cL_law 595 = .ok (.aload_n 1, 1) := by decide +kernel
theorem dL_law_596 : decode cL_law 596 = .ok (.invokevirtual 70, 3) := by decide +kernel
theorem dL_law_599 : decode cL_law 599 = .ok (.aload_n 2, 1) := by decide +kernel
theorem dL_law_600 : decode cL_law 600 = .ok (.invokevirtual 74, 3) := by decide +kernel
theorem dL_law_603 : decode cL_law 603 = .ok (.if_icmp .eq 645, 3) := by decide +kernel
theorem dL_law_608 : decode cL_law 608 = .ok (.aload_n 1, 1) := by decide +kernel
theorem dL_law_609 : decode cL_law 609 = .ok (.invokevirtual 75, 3) := by decide +kernel
theorem dL_law_612 : decode cL_law 612 = .ok (.aload_n 2, 1) := by decide +kernel
theorem dL_law_613 : decode cL_law 613 = .ok (.invokevirtual 78, 3) := by decide +kernel
theorem dL_law_616 : decode cL_law 616 = .ok (.if_icmp .eq 632, 3) := by decide +kernel
theorem dL_law_621 : decode cL_law 621 = .ok (.aload_n 1, 1) := by decide +kernel
theorem dL_law_622 : decode cL_law 622 = .ok (.invokevirtual 79, 3) := by decide +kernel
theorem dL_law_625 : decode cL_law 625 = .ok (.aload_n 2, 1) := by decide +kernel
theorem dL_law_626 : decode cL_law 626 = .ok (.invokevirtual 82, 3) := by decide +kernel
theorem dL_law_629 : decode cL_law 629 = .ok (.if_icmp .eq 619, 3) := by decide +kernel
theorem dL_law_634 : decode cL_law 634 = .ok (.aload_n 1, 1) := by decide +kernel
theorem dL_law_635 : decode cL_law 635 = .ok (.aload_n 0, 1) := by decide +kernel
theorem dL_law_636 : decode cL_law 636 = .ok (.iload_n 3, 1) := by decide +kernel
theorem dL_law_637 : decode cL_law 637 = .ok (.iconst 1, 1) := by decide +kernel
theorem dL_law_638 : decode cL_law 638 = .ok (.iadd, 1) := by decide +kernel
theorem dL_law_639 : decode cL_law 639 = .ok (.iaload, 1) := by decide +kernel
theorem dL_law_640 : decode cL_law 640 = .ok (.aload_n 0, 1) := by decide +kernel
theorem dL_law_641 : decode cL_law 641 = .ok (.iload_n 3, 1) := by decide +kernel
theorem dL_law_642 : decode cL_law 642 = .ok (.iconst 2, 1) := by decide +kernel
theorem dL_law_643 : decode cL_law 643 = .ok (.iadd, 1) := by decide +kernel
theorem dL_law_644 : decode cL_law 644 = .ok (.iaload, 1) := by decide +kernel
theorem dL_law_645 : decode cL_law 645 = .ok (.invokevirtual 83, 3) := by decide +kernel
theorem dL_law_648 : decode cL_law 648 = .ok (.aload_n 2, 1) := by decide +kernel
theorem dL_law_649 : decode cL_law 649 = .ok (.aload_n 0, 1) := by decide +kernel
theorem dL_law_650 : decode cL_law 650 = .ok (.iload_n 3, 1) := by decide +kernel
theorem dL_law_651 : decode cL_law 651 = .ok (.iconst 1, 1) := by decide +kernel
theorem dL_law_652 : decode cL_law 652 = .ok (.iadd, 1) := by decide +kernel
theorem dL_law_653 : decode cL_law 653 = .ok (.iaload, 1) := by decide +kernel
theorem dL_law_654 : decode cL_law 654 = .ok (.aload_n 0, 1) := by decide +kernel
theorem dL_law_655 : decode cL_law 655 = .ok (.iload_n 3, 1) := by decide +kernel
theorem dL_law_656 : decode cL_law 656 = .ok (.iconst 2, 1) := by decide +kernel
theorem dL_law_657 : decode cL_law 657 = .ok (.iadd, 1) := by decide +kernel
theorem dL_law_658 : decode cL_law 658 = .ok (.iaload, 1) := by decide +kernel
theorem dL_law_659 : decode cL_law 659 = .ok (.invokevirtual 86, 3) := by decide +kernel
theorem dL_law_662 : decode cL_law 662 = .ok (.if_icmp .eq 586, 3) := by decide +kernel
theorem dL_law_667 : decode cL_law 667 = .ok (.aload_n 1, 1) := by decide +kernel
theorem dL_law_668 : decode cL_law 668 = .ok (.invokevirtual 87, 3) := by decide +kernel
theorem dL_law_671 : decode cL_law 671 = .ok (.aload_n 2, 1) := by decide +kernel
theorem dL_law_672 : decode cL_law 672 = .ok (.invokevirtual 90, 3) := by decide +kernel
theorem dL_law_675 : decode cL_law 675 = .ok (.if_icmp .eq 573, 3) := by decide +kernel
theorem dL_law_680 : decode cL_law 680 = .ok (.aload_n 1, 1) := by decide +kernel
theorem dL_law_681 : decode cL_law 681 = .ok (.aload_n 0, 1) := by decide +kernel
theorem dL_law_682 : decode cL_law 682 = .ok (.iload_n 3, 1) := by decide +kernel
theorem dL_law_683 : decode cL_law 683 = .ok (.iconst 1, 1) := by decide +kernel
theorem dL_law_684 : decode cL_law 684 = .ok (.iadd, 1) := by decide +kernel
theorem dL_law_685 : decode cL_law 685 = .ok (.iaload, 1) := by decide +kernel
theorem dL_law_686 : decode cL_law 686 = .ok (.i2l, 1) := by decide +kernel
theorem dL_law_687 : decode cL_law 687 = .ok (.bipush 32, 2) := by decide +kernel
theorem dL_law_689 : decode cL_law 689 = .ok (.lshl, 1) := by decide +kernel
theorem dL_law_690 : decode cL_law 690 = .ok (.aload_n 0, 1) := by decide +kernel
theorem dL_law_691 : decode cL_law 691 = .ok (.iload_n 3, 1) := by decide +kernel
theorem dL_law_692 : decode cL_law 692 = .ok (.iconst 2, 1) := by decide +kernel
theorem dL_law_693 : decode cL_law 693 = .ok (.iadd, 1) := by decide +kernel
theorem dL_law_694 : decode cL_law 694 = .ok (.iaload, 1) := by decide +kernel
theorem dL_law_695 : decode cL_law 695 = .ok (.i2l, 1) := by decide +kernel
theorem dL_law_696 : decode cL_law 696 = .ok (.ldc2_w 63, 3) := by decide +kernel
theorem dL_law_699 : decode cL_law 699 = .ok (.land, 1) := by decide +kernel
theorem dL_law_700 : decode cL_law 700 = .ok (.lor, 1) := by decide +kernel
theorem dL_law_701 : decode cL_law 701 = .ok (.aload_n 0, 1) := by decide +kernel
theorem dL_law_702 : decode cL_law 702 = .ok (.iload_n 3, 1) := by decide +kernel
theorem dL_law_703 : decode cL_law 703 = .ok (.iconst 3, 1) := by decide +kernel
theorem dL_law_704 : decode cL_law 704 = .ok (.iadd, 1) := by decide +kernel
theorem dL_law_705 : decode cL_law 705 = .ok (.iaload, 1) := by decide +kernel
theorem dL_law_706 : decode cL_law 706 = .ok (.aload_n 0, 1) := by decide +kernel
theorem dL_law_707 : decode cL_law 707 = .ok (.iload_n 3, 1) := by decide +kernel
theorem dL_law_708 : decode cL_law 708 = .ok (.iconst 4, 1) := by decide +kernel
theorem dL_law_709 : decode cL_law 709 = .ok (.iadd, 1) := by decide +kernel
theorem dL_law_710 : decode cL_law 710 = .ok (.iaload, 1) := by decide +kernel
theorem dL_law_711 : decode cL_law 711 = .ok (.invokevirtual 91, 3) := by decide +kernel
theorem dL_law_714 : decode cL_law 714 = .ok (.aload_n 2, 1) := by decide +kernel
theorem dL_law_715 : decode cL_law 715 = .ok (.aload_n 0, 1) := by decide +kernel
theorem dL_law_716 : decode cL_law 716 = .ok (.iload_n 3, 1) := by decide +kernel
theorem dL_law_717 : decode cL_law 717 = .ok (.iconst 1, 1) := by decide +kernel
theorem dL_law_718 : decode cL_law 718 = .ok (.iadd, 1) := by decide +kernel
theorem dL_law_719 : decode cL_law 719 = .ok (.iaload, 1) := by decide +kernel
theorem dL_law_720 : decode cL_law 720 = .ok (.i2l, 1) := by decide +kernel
theorem dL_law_721 : decode cL_law 721 = .ok (.bipush 32, 2) := by decide +kernel
theorem dL_law_723 : decode cL_law 723 = .ok (.lshl, 1) := by decide +kernel
theorem dL_law_724 : decode cL_law 724 = .ok (.aload_n 0, 1) := by decide +kernel
theorem dL_law_725 : decode cL_law 725 = .ok (.iload_n 3, 1) := by decide +kernel
theorem dL_law_726 : decode cL_law 726 = .ok (.iconst 2, 1) := by decide +kernel
theorem dL_law_727 : decode cL_law 727 = .ok (.iadd, 1) := by decide +kernel
theorem dL_law_728 : decode cL_law 728 = .ok (.iaload, 1) := by decide +kernel
theorem dL_law_729 : decode cL_law 729 = .ok (.i2l, 1) := by decide +kernel
theorem dL_law_730 : decode cL_law 730 = .ok (.ldc2_w 63, 3) := by decide +kernel
theorem dL_law_733 : decode cL_law 733 = .ok (.land, 1) := by decide +kernel
theorem dL_law_734 : decode cL_law 734 = .ok (.lor, 1) := by decide +kernel
theorem dL_law_735 : decode cL_law 735 = .ok (.aload_n 0, 1) := by decide +kernel
theorem dL_law_736 : decode cL_law 736 = .ok (.iload_n 3, 1) := by decide +kernel
theorem dL_law_737 : decode cL_law 737 = .ok (.iconst 3, 1) := by decide +kernel
theorem dL_law_738 : decode cL_law 738 = .ok (.iadd, 1) := by decide +kernel
theorem dL_law_739 : decode cL_law 739 = .ok (.iaload, 1) := by decide +kernel
theorem dL_law_740 : decode cL_law 740 = .ok (.aload_n 0, 1) := by decide +kernel
theorem dL_law_741 : decode cL_law 741 = .ok (.iload_n 3, 1) := by decide +kernel
theorem dL_law_742 : decode cL_law 742 = .ok (.iconst 4, 1) := by decide +kernel
theorem dL_law_743 : decode cL_law 743 = .ok (.iadd, 1) := by decide +kernel
theorem dL_law_744 : decode cL_law 744 = .ok (.iaload, 1) := by decide +kernel
theorem dL_law_745 : decode cL_law 745 = .ok (.invokevirtual 95, 3) := by decide +kernel
theorem dL_law_748 : decode cL_law 748 = .ok (.if_icmp .eq 500, 3) := by decide +kernel
theorem dL_law_753 : decode cL_law 753 = .ok (.aload_n 1, 1) := by decide +kernel
theorem dL_law_754 : decode cL_law 754 = .ok (.aload_n 0, 1) := by decide +kernel
theorem dL_law_755 : decode cL_law 755 = .ok (.iload_n 3, 1) := by decide +kernel
theorem dL_law_756 : decode cL_law 756 = .ok (.iconst 1, 1) := by decide +kernel
theorem dL_law_757 : decode cL_law 757 = .ok (.iadd, 1) := by decide +kernel
theorem dL_law_758 : decode cL_law 758 = .ok (.iaload, 1) := by decide +kernel
theorem dL_law_759 : decode cL_law 759 = .ok (.invokevirtual 96, 3) := by decide +kernel
theorem dL_law_762 : decode cL_law 762 = .ok (.aload_n 2, 1) := by decide +kernel
theorem dL_law_763 : decode cL_law 763 = .ok (.aload_n 0, 1) := by decide +kernel
theorem dL_law_764 : decode cL_law 764 = .ok (.iload_n 3, 1) := by decide +kernel
theorem dL_law_765 : decode cL_law 765 = .ok (.iconst 1, 1) := by decide +kernel
theorem dL_law_766 : decode cL_law 766 = .ok (.iadd, 1) := by decide +kernel
theorem dL_law_767 : decode cL_law 767 = .ok (.iaload, 1) := by decide +kernel
theorem dL_law_768 : decode cL_law 768 = .ok (.invokevirtual 99, 3) := by decide +kernel
theorem dL_law_771 : decode cL_law 771 = .ok (.if_icmp .eq 477, 3) := by decide +kernel
theorem dL_law_776 : decode cL_law 776 = .ok (.aload_n 1, 1) := by decide +kernel
theorem dL_law_777 : decode cL_law 777 = .ok (.aload_n 0, 1) := by decide +kernel
theorem dL_law_778 : decode cL_law 778 = .ok (.iload_n 3, 1) := by decide +kernel
theorem dL_law_779 : decode cL_law 779 = .ok (.iconst 1, 1) := by decide +kernel
theorem dL_law_780 : decode cL_law 780 = .ok (.iadd, 1) := by decide +kernel
theorem dL_law_781 : decode cL_law 781 = .ok (.iaload, 1) := by decide +kernel
theorem dL_law_782 : decode cL_law 782 = .ok (.aload_n 0, 1) := by decide +kernel
theorem dL_law_783 : decode cL_law 783 = .ok (.iload_n 3, 1) := by decide +kernel
theorem dL_law_784 : decode cL_law 784 = .ok (.iconst 2, 1) := by decide +kernel
theorem dL_law_785 : decode cL_law 785 = .ok (.iadd, 1) := by decide +kernel
theorem dL_law_786 : decode cL_law 786 = .ok (.iaload, 1) := by decide +kernel
theorem dL_law_787 : decode cL_law 787 = .ok (.aload_n 0, 1) := by decide +kernel
theorem dL_law_788 : decode cL_law 788 = .ok (.iload_n 3, 1) := by decide +kernel
theorem dL_law_789 : decode cL_law 789 = .ok (.iconst 3, 1) := by decide +kernel
theorem dL_law_790 : decode cL_law 790 = .ok (.iadd, 1) := by decide +kernel
theorem dL_law_791 : decode cL_law 791 = .ok (.iaload, 1) := by decide +kernel
theorem dL_law_792 : decode cL_law 792 = .ok (.invokevirtual 100, 3) := by decide +kernel
theorem dL_law_795 : decode cL_law 795 = .ok (.aload_n 2, 1) := by decide +kernel
theorem dL_law_796 : decode cL_law 796 = .ok (.aload_n 0, 1) := by decide +kernel
theorem dL_law_797 : decode cL_law 797 = .ok (.iload_n 3, 1) := by decide +kernel
theorem dL_law_798 : decode cL_law 798 = .ok (.iconst 1, 1) := by decide +kernel
theorem dL_law_799 : decode cL_law 799 = .ok (.iadd, 1) := by decide +kernel
theorem dL_law_800 : decode cL_law 800 = .ok (.iaload, 1) := by decide +kernel
theorem dL_law_801 : decode cL_law 801 = .ok (.aload_n 0, 1) := by decide +kernel
theorem dL_law_802 : decode cL_law 802 = .ok (.iload_n 3, 1) := by decide +kernel
theorem dL_law_803 : decode cL_law 803 = .ok (.iconst 2, 1) := by decide +kernel
theorem dL_law_804 : decode cL_law 804 = .ok (.iadd, 1) := by decide +kernel
theorem dL_law_805 : decode cL_law 805 = .ok (.iaload, 1) := by decide +kernel
theorem dL_law_806 : decode cL_law 806 = .ok (.aload_n 0, 1) := by decide +kernel
theorem dL_law_807 : decode cL_law 807 = .ok (.iload_n 3, 1) := by decide +kernel
theorem dL_law_808 : decode cL_law 808 = .ok (.iconst 3, 1) := by decide +kernel
theorem dL_law_809 : decode cL_law 809 = .ok (.iadd, 1) := by decide +kernel
theorem dL_law_810 : decode cL_law 810 = .ok (.iaload, 1) := by decide +kernel
theorem dL_law_811 : decode cL_law 811 = .ok (.invokevirtual 104, 3) := by decide +kernel
theorem dL_law_814 : decode cL_law 814 = .ok (.if_icmp .eq 434, 3) := by decide +kernel
theorem dL_law_819 : decode cL_law 819 = .ok (.aload_n 1, 1) := by decide +kernel
theorem dL_law_820 : decode cL_law 820 = .ok (.aload_n 0, 1) := by decide +kernel
theorem dL_law_821 : decode cL_law 821 = .ok (.iload_n 3, 1) := by decide +kernel
theorem dL_law_822 : decode cL_law 822 = .ok (.iconst 1, 1) := by decide +kernel
theorem dL_law_823 : decode cL_law 823 = .ok (.iadd, 1) := by decide +kernel
theorem dL_law_824 : decode cL_law 824 = .ok (.iaload, 1) := by decide +kernel
theorem dL_law_825 : decode cL_law 825 = .ok (.aload_n 0, 1) := by decide +kernel
theorem dL_law_826 : decode cL_law 826 = .ok (.iload_n 3, 1) := by decide +kernel
theorem dL_law_827 : decode cL_law 827 = .ok (.iconst 2, 1) := by decide +kernel
theorem dL_law_828 : decode cL_law 828 = .ok (.iadd, 1) := by decide +kernel
theorem dL_law_829 : decode cL_law 829 = .ok (.iaload, 1) := by decide +kernel
theorem dL_law_830 : decode cL_law 830 = .ok (.aload_n 0, 1) := by decide +kernel
theorem dL_law_831 : decode cL_law 831 = .ok (.iload_n 3, 1) := by decide +kernel
theorem dL_law_832 : decode cL_law 832 = .ok (.iconst 3, 1) := by decide +kernel
theorem dL_law_833 : decode cL_law 833 = .ok (.iadd, 1) := by decide +kernel
theorem dL_law_834 : decode cL_law 834 = .ok (.iaload, 1) := by decide +kernel
theorem dL_law_835 : decode cL_law 835 = .ok (.invokevirtual 105, 3) := by decide +kernel
theorem dL_law_838 : decode cL_law 838 = .ok (.aload_n 2, 1) := by decide +kernel
theorem dL_law_839 : decode cL_law 839 = .ok (.aload_n 0, 1) := by decide +kernel
theorem dL_law_840 : decode cL_law 840 = .ok (.iload_n 3, 1) := by decide +kernel
theorem dL_law_841 : decode cL_law 841 = .ok (.iconst 1, 1) := by decide +kernel
theorem dL_law_842 : decode cL_law 842 = .ok (.iadd, 1) := by decide +kernel
theorem dL_law_843 : decode cL_law 843 = .ok (.iaload, 1) := by decide +kernel
theorem dL_law_844 : decode cL_law 844 = .ok (.aload_n 0, 1) := by decide +kernel
theorem dL_law_845 : decode cL_law 845 = .ok (.iload_n 3, 1) := by decide +kernel
theorem dL_law_846 : decode cL_law 846 = .ok (.iconst 2, 1) := by decide +kernel
theorem dL_law_847 : decode cL_law 847 = .ok (.iadd, 1) := by decide +kernel
theorem dL_law_848 : decode cL_law 848 = .ok (.iaload, 1) := by decide +kernel
theorem dL_law_849 : decode cL_law 849 = .ok (.aload_n 0, 1) := by decide +kernel
theorem dL_law_850 : decode cL_law 850 = .ok (.iload_n 3, 1) := by decide +kernel
theorem dL_law_851 : decode cL_law 851 = .ok (.iconst 3, 1) := by decide +kernel
theorem dL_law_852 : decode cL_law 852 = .ok (.iadd, 1) := by decide +kernel
theorem dL_law_853 : decode cL_law 853 = .ok (.iaload, 1) := by decide +kernel
theorem dL_law_854 : decode cL_law 854 = .ok (.invokevirtual 108, 3) := by decide +kernel
theorem dL_law_857 : decode cL_law 857 = .ok (.if_icmp .eq 391, 3) := by decide +kernel
theorem dL_law_862 : decode cL_law 862 = .ok (.aload_n 1, 1) := by decide +kernel
theorem dL_law_863 : decode cL_law 863 = .ok (.aload_n 0, 1) := by decide +kernel
theorem dL_law_864 : decode cL_law 864 = .ok (.iload_n 3, 1) := by decide +kernel
theorem dL_law_865 : decode cL_law 865 = .ok (.iconst 1, 1) := by decide +kernel
theorem dL_law_866 : decode cL_law 866 = .ok (.iadd, 1) := by decide +kernel
theorem dL_law_867 : decode cL_law 867 = .ok (.iaload, 1) := by decide +kernel
theorem dL_law_868 : decode cL_law 868 = .ok (.aload_n 0, 1) := by decide +kernel
theorem dL_law_869 : decode cL_law 869 = .ok (.iload_n 3, 1) := by decide +kernel
theorem dL_law_870 : decode cL_law 870 = .ok (.iconst 2, 1) := by decide +kernel
theorem dL_law_871 : decode cL_law 871 = .ok (.iadd, 1) := by decide +kernel
theorem dL_law_872 : decode cL_law 872 = .ok (.iaload, 1) := by decide +kernel
theorem dL_law_873 : decode cL_law 873 = .ok (.invokevirtual 109, 3) := by decide +kernel
theorem dL_law_876 : decode cL_law 876 = .ok (.aload_n 2, 1) := by decide +kernel
theorem dL_law_877 : decode cL_law 877 = .ok (.aload_n 0, 1) := by decide +kernel
theorem dL_law_878 : decode cL_law 878 = .ok (.iload_n 3, 1) := by decide +kernel
theorem dL_law_879 : decode cL_law 879 = .ok (.iconst 1, 1) := by decide +kernel
theorem dL_law_880 : decode cL_law 880 = .ok (.iadd, 1) := by decide +kernel
theorem dL_law_881 : decode cL_law 881 = .ok (.iaload, 1) := by decide +kernel
theorem dL_law_882 : decode cL_law 882 = .ok (.aload_n 0, 1) := by decide +kernel
theorem dL_law_883 : decode cL_law 883 = .ok (.iload_n 3, 1) := by decide +kernel
theorem dL_law_884 : decode cL_law 884 = .ok (.iconst 2, 1) := by decide +kernel
theorem dL_law_885 : decode cL_law 885 = .ok (.iadd, 1) := by decide +kernel
theorem dL_law_886 : decode cL_law 886 = .ok (.iaload, 1) := by decide +kernel
theorem dL_law_887 : decode cL_law 887 = .ok (.invokevirtual 112, 3) := by decide +kernel
theorem dL_law_890 : decode cL_law 890 = .ok (.if_icmp .eq 358, 3) := by decide +kernel
theorem dL_law_895 : decode cL_law 895 = .ok (.aload_n 1, 1) := by decide +kernel
theorem dL_law_896 : decode cL_law 896 = .ok (.aload_n 0, 1) := by decide +kernel
theorem dL_law_897 : decode cL_law 897 = .ok (.iload_n 3, 1) := by decide +kernel
theorem dL_law_898 : decode cL_law 898 = .ok (.iconst 1, 1) := by decide +kernel
theorem dL_law_899 : decode cL_law 899 = .ok (.iadd, 1) := by decide +kernel
theorem dL_law_900 : decode cL_law 900 = .ok (.iaload, 1) := by decide +kernel
theorem dL_law_901 : decode cL_law 901 = .ok (.aload_n 0, 1) := by decide +kernel
theorem dL_law_902 : decode cL_law 902 = .ok (.iload_n 3, 1) := by decide +kernel
theorem dL_law_903 : decode cL_law 903 = .ok (.iconst 2, 1) := by decide +kernel
theorem dL_law_904 : decode cL_law 904 = .ok (.iadd, 1) := by decide +kernel
theorem dL_law_905 : decode cL_law 905 = .ok (.iaload, 1) := by decide +kernel
theorem dL_law_906 : decode cL_law 906 = .ok (.invokevirtual 113, 3) := by decide +kernel
theorem dL_law_909 : decode cL_law 909 = .ok (.aload_n 2, 1) := by decide +kernel
theorem dL_law_910 : decode cL_law 910 = .ok (.aload_n 0, 1) := by decide +kernel
theorem dL_law_911 : decode cL_law 911 = .ok (.iload_n 3, 1) := by decide +kernel
theorem dL_law_912 : decode cL_law 912 = .ok (.iconst 1, 1) := by decide +kernel
theorem dL_law_913 : decode cL_law 913 = .ok (.iadd, 1) := by decide +kernel
theorem dL_law_914 : decode cL_law 914 = .ok (.iaload, 1) := by decide +kernel
theorem dL_law_915 : decode cL_law 915 = .ok (.aload_n 0, 1) := by decide +kernel
theorem dL_law_916 : decode cL_law 916 = .ok (.iload_n 3, 1) := by decide +kernel
theorem dL_law_917 : decode cL_law 917 = .ok (.iconst 2, 1) := by decide +kernel
theorem dL_law_918 : decode cL_law 918 = .ok (.iadd, 1) := by decide +kernel
theorem dL_law_919 : decode cL_law 919 = .ok (.iaload, 1) := by decide +kernel
theorem dL_law_920 : decode cL_law 920 = .ok (.invokevirtual 116, 3) := by decide +kernel
theorem dL_law_923 : decode cL_law 923 = .ok (.if_icmp .eq 325, 3) := by decide +kernel
theorem dL_law_928 : decode cL_law 928 = .ok (.aload_n 1, 1) := by decide +kernel
theorem dL_law_929 : decode cL_law 929 = .ok (.aload_n 0, 1) := by decide +kernel
theorem dL_law_930 : decode cL_law 930 = .ok (.iload_n 3, 1) := by decide +kernel
theorem dL_law_931 : decode cL_law 931 = .ok (.iconst 1, 1) := by decide +kernel
theorem dL_law_932 : decode cL_law 932 = .ok (.iadd, 1) := by decide +kernel
theorem dL_law_933 : decode cL_law 933 = .ok (.iaload, 1) := by decide +kernel
theorem dL_law_934 : decode cL_law 934 = .ok (.aload_n 0, 1) := by decide +kernel
theorem dL_law_935 : decode cL_law 935 = .ok (.iload_n 3, 1) := by decide +kernel
theorem dL_law_936 : decode cL_law 936 = .ok (.iconst 2, 1) := by decide +kernel
theorem dL_law_937 : decode cL_law 937 = .ok (.iadd, 1) := by decide +kernel
theorem dL_law_938 : decode cL_law 938 = .ok (.iaload, 1) := by decide +kernel
theorem dL_law_939 : decode cL_law 939 = .ok (.invokevirtual 117, 3) := by decide +kernel
theorem dL_law_942 : decode cL_law 942 = .ok (.aload_n 2, 1) := by decide +kernel
theorem dL_law_943 : decode cL_law 943 = .ok (.aload_n 0, 1) := by decide +kernel
theorem dL_law_944 : decode cL_law 944 = .ok (.iload_n 3, 1) := by decide +kernel
theorem dL_law_945 : decode cL_law 945 = .ok (.iconst 1, 1) := by decide +kernel
theorem dL_law_946 : decode cL_law 946 = .ok (.iadd, 1) := by decide +kernel
theorem dL_law_947 : decode cL_law 947 = .ok (.iaload, 1) := by decide +kernel
theorem dL_law_948 : decode cL_law 948 = .ok (.aload_n 0, 1) := by decide +kernel
theorem dL_law_949 : decode cL_law 949 = .ok (.iload_n 3, 1) := by decide +kernel
theorem dL_law_950 : decode cL_law 950 = .ok (.iconst 2, 1) := by decide +kernel
theorem dL_law_951 : decode cL_law 951 = .ok (.iadd, 1) := by decide +kernel
theorem dL_law_952 : decode cL_law 952 = .ok (.iaload, 1) := by decide +kernel
theorem dL_law_953 : decode cL_law 953 = .ok (.invokevirtual 120, 3) := by decide +kernel
theorem dL_law_956 : decode cL_law 956 = .ok (.if_icmp .eq 292, 3) := by decide +kernel
theorem dL_law_961 : decode cL_law 961 = .ok (.aload_n 1, 1) := by decide +kernel
theorem dL_law_962 : decode cL_law 962 = .ok (.aload_n 0, 1) := by decide +kernel
theorem dL_law_963 : decode cL_law 963 = .ok (.iload_n 3, 1) := by decide +kernel
theorem dL_law_964 : decode cL_law 964 = .ok (.iconst 1, 1) := by decide +kernel
theorem dL_law_965 : decode cL_law 965 = .ok (.iadd, 1) := by decide +kernel
theorem dL_law_966 : decode cL_law 966 = .ok (.iaload, 1) := by decide +kernel
theorem dL_law_967 : decode cL_law 967 = .ok (.aload_n 0, 1) := by decide +kernel
theorem dL_law_968 : decode cL_law 968 = .ok (.iload_n 3, 1) := by decide +kernel
theorem dL_law_969 : decode cL_law 969 = .ok (.iconst 2, 1) := by decide +kernel
theorem dL_law_970 : decode cL_law 970 = .ok (.iadd, 1) := by decide +kernel
theorem dL_law_971 : decode cL_law 971 = .ok (.iaload, 1) := by decide +kernel
theorem dL_law_972 : decode cL_law 972 = .ok (.invokevirtual 121, 3) := by decide +kernel
theorem dL_law_975 : decode cL_law 975 = .ok (.aload_n 2, 1) := by decide +kernel
theorem dL_law_976 : decode cL_law 976 = .ok (.aload_n 0, 1) := by decide +kernel
theorem dL_law_977 : decode cL_law 977 = .ok (.iload_n 3, 1) := by decide +kernel
theorem dL_law_978 : decode cL_law 978 = .ok (.iconst 1, 1) := by decide +kernel
theorem dL_law_979 : decode cL_law 979 = .ok (.iadd, 1) := by decide +kernel
theorem dL_law_980 : decode cL_law 980 = .ok (.iaload, 1) := by decide +kernel
theorem dL_law_981 : decode cL_law 981 = .ok (.aload_n 0, 1) := by decide +kernel
theorem dL_law_982 : decode cL_law 982 = .ok (.iload_n 3, 1) := by decide +kernel
theorem dL_law_983 : decode cL_law 983 = .ok (.iconst 2, 1) := by decide +kernel
theorem dL_law_984 : decode cL_law 984 = .ok (.iadd, 1) := by decide +kernel
theorem dL_law_985 : decode cL_law 985 = .ok (.iaload, 1) := by decide +kernel
theorem dL_law_986 : decode cL_law 986 = .ok (.invokevirtual 124, 3) := by decide +kernel
theorem dL_law_989 : decode cL_law 989 = .ok (.if_icmp .eq 259, 3) := by decide +kernel
theorem dL_law_994 : decode cL_law 994 = .ok (.aload_n 1, 1) := by decide +kernel
theorem dL_law_995 : decode cL_law 995 = .ok (.aload_n 0, 1) := by decide +kernel
theorem dL_law_996 : decode cL_law 996 = .ok (.iload_n 3, 1) := by decide +kernel
theorem dL_law_997 : decode cL_law 997 = .ok (.iconst 1, 1) := by decide +kernel
theorem dL_law_998 : decode cL_law 998 = .ok (.iadd, 1) := by decide +kernel
theorem dL_law_999 : decode cL_law 999 = .ok (.iaload, 1) := by decide +kernel
theorem dL_law_1000 : decode cL_law 1000 = .ok (.aload_n 0, 1) := by decide +kernel
theorem dL_law_1001 : decode cL_law 1001 = .ok (.iload_n 3, 1) := by decide +kernel
theorem dL_law_1002 : decode cL_law 1002 = .ok (.iconst 2, 1) := by decide +kernel
theorem dL_law_1003 : decode cL_law 1003 = .ok (.iadd, 1) := by decide +kernel
theorem dL_law_1004 : decode cL_law 1004 = .ok (.iaload, 1) := by decide +kernel
theorem dL_law_1005 : decode cL_law 1005 = .ok (.aload_n 0, 1) := by decide +kernel
theorem dL_law_1006 : decode cL_law 1006 = .ok (.iload_n 3, 1) := by decide +kernel
theorem dL_law_1007 : decode cL_law 1007 = .ok (.iconst 3, 1) := by decide +kernel
theorem dL_law_1008 : decode cL_law 1008 = .ok (.iadd, 1) := by decide +kernel
theorem dL_law_1009 : decode cL_law 1009 = .ok (.iaload, 1) := by decide +kernel
theorem dL_law_1010 : decode cL_law 1010 = .ok (.ifCond .eq 7, 3) := by decide +kernel
theorem dL_law_1013 : decode cL_law 1013 = .ok (.iconst 1, 1) := by decide +kernel
theorem dL_law_1014 : decode cL_law 1014 = .ok (.goto 4, 3) := by decide +kernel
theorem dL_law_1017 : decode cL_law 1017 = .ok (.iconst 0, 1) := by decide +kernel
theorem dL_law_1018 : decode cL_law 1018 = .ok (.invokevirtual 125, 3) := by decide +kernel
theorem dL_law_1021 : decode cL_law 1021 = .ok (.aload_n 2, 1) := by decide +kernel
theorem dL_law_1022 : decode cL_law 1022 = .ok (.aload_n 0, 1) := by decide +kernel
theorem dL_law_1023 : decode cL_law 1023 = .ok (.iload_n 3, 1) := by decide +kernel
theorem dL_law_1024 : decode cL_law 1024 = .ok (.iconst 1, 1) := by decide +kernel
theorem dL_law_1025 : decode cL_law 1025 = .ok (.iadd, 1) := by decide +kernel
theorem dL_law_1026 : decode cL_law 1026 = .ok (.iaload, 1) := by decide +kernel
theorem dL_law_1027 : decode cL_law 1027 = .ok (.aload_n 0, 1) := by decide +kernel
theorem dL_law_1028 : decode cL_law 1028 = .ok (.iload_n 3, 1) := by decide +kernel
theorem dL_law_1029 : decode cL_law 1029 = .ok (.iconst 2, 1) := by decide +kernel
theorem dL_law_1030 : decode cL_law 1030 = .ok (.iadd, 1) := by decide +kernel
theorem dL_law_1031 : decode cL_law 1031 = .ok (.iaload, 1) := by decide +kernel
theorem dL_law_1032 : decode cL_law 1032 = .ok (.aload_n 0, 1) := by decide +kernel
theorem dL_law_1033 : decode cL_law 1033 = .ok (.iload_n 3, 1) := by decide +kernel
theorem dL_law_1034 : decode cL_law 1034 = .ok (.iconst 3, 1) := by decide +kernel
theorem dL_law_1035 : decode cL_law 1035 = .ok (.iadd, 1) := by decide +kernel
theorem dL_law_1036 : decode cL_law 1036 = .ok (.iaload, 1) := by decide +kernel
theorem dL_law_1037 : decode cL_law 1037 = .ok (.ifCond .eq 7, 3) := by decide +kernel
theorem dL_law_1040 : decode cL_law 1040 = .ok (.iconst 1, 1) := by decide +kernel
theorem dL_law_1041 : decode cL_law 1041 = .ok (.goto 4, 3) := by decide +kernel
theorem dL_law_1044 : decode cL_law 1044 = .ok (.iconst 0, 1) := by decide +kernel
theorem dL_law_1045 : decode cL_law 1045 = .ok (.invokevirtual 129, 3) := by decide +kernel
theorem dL_law_1048 : decode cL_law 1048 = .ok (.if_icmp .eq 200, 3) := by decide +kernel
theorem dL_law_1053 : decode cL_law 1053 = .ok (.aload_n 1, 1) := by decide +kernel
theorem dL_law_1054 : decode cL_law 1054 = .ok (.aload_n 0, 1) := by decide +kernel
theorem dL_law_1055 : decode cL_law 1055 = .ok (.iload_n 3, 1) := by decide +kernel
theorem dL_law_1056 : decode cL_law 1056 = .ok (.iconst 1, 1) := by decide +kernel
theorem dL_law_1057 : decode cL_law 1057 = .ok (.iadd, 1) := by decide +kernel
theorem dL_law_1058 : decode cL_law 1058 = .ok (.iaload, 1) := by decide +kernel
theorem dL_law_1059 : decode cL_law 1059 = .ok (.aload_n 0, 1) := by decide +kernel
theorem dL_law_1060 : decode cL_law 1060 = .ok (.iload_n 3, 1) := by decide +kernel
theorem dL_law_1061 : decode cL_law 1061 = .ok (.iconst 2, 1) := by decide +kernel
theorem dL_law_1062 : decode cL_law 1062 = .ok (.iadd, 1) := by decide +kernel
theorem dL_law_1063 : decode cL_law 1063 = .ok (.iaload, 1) := by decide +kernel
theorem dL_law_1064 : decode cL_law 1064 = .ok (.invokevirtual 130, 3) := by decide +kernel
theorem dL_law_1067 : decode cL_law 1067 = .ok (.aload_n 2, 1) := by decide +kernel
theorem dL_law_1068 : decode cL_law 1068 = .ok (.aload_n 0, 1) := by decide +kernel
theorem dL_law_1069 : decode cL_law 1069 = .ok (.iload_n 3, 1) := by decide +kernel
theorem dL_law_1070 : decode cL_law 1070 = .ok (.iconst 1, 1) := by decide +kernel
theorem dL_law_1071 : decode cL_law 1071 = .ok (.iadd, 1) := by decide +kernel
theorem dL_law_1072 : decode cL_law 1072 = .ok (.iaload, 1) := by decide +kernel
theorem dL_law_1073 : decode cL_law 1073 = .ok (.aload_n 0, 1) := by decide +kernel
theorem dL_law_1074 : decode cL_law 1074 = .ok (.iload_n 3, 1) := by decide +kernel
theorem dL_law_1075 : decode cL_law 1075 = .ok (.iconst 2, 1) := by decide +kernel
theorem dL_law_1076 : decode cL_law 1076 = .ok (.iadd, 1) := by decide +kernel
theorem dL_law_1077 : decode cL_law 1077 = .ok (.iaload, 1) := by decide +kernel
theorem dL_law_1078 : decode cL_law 1078 = .ok (.invokevirtual 133, 3) := by decide +kernel
theorem dL_law_1081 : decode cL_law 1081 = .ok (.if_icmp .eq 167, 3) := by decide +kernel
theorem dL_law_1086 : decode cL_law 1086 = .ok (.aload_n 1, 1) := by decide +kernel
theorem dL_law_1087 : decode cL_law 1087 = .ok (.aload_n 0, 1) := by decide +kernel
theorem dL_law_1088 : decode cL_law 1088 = .ok (.iload_n 3, 1) := by decide +kernel
theorem dL_law_1089 : decode cL_law 1089 = .ok (.iconst 1, 1) := by decide +kernel
theorem dL_law_1090 : decode cL_law 1090 = .ok (.iadd, 1) := by decide +kernel
theorem dL_law_1091 : decode cL_law 1091 = .ok (.iaload, 1) := by decide +kernel
theorem dL_law_1092 : decode cL_law 1092 = .ok (.aload_n 0, 1) := by decide +kernel
theorem dL_law_1093 : decode cL_law 1093 = .ok (.iload_n 3, 1) := by decide +kernel
theorem dL_law_1094 : decode cL_law 1094 = .ok (.iconst 2, 1) := by decide +kernel
theorem dL_law_1095 : decode cL_law 1095 = .ok (.iadd, 1) := by decide +kernel
theorem dL_law_1096 : decode cL_law 1096 = .ok (.iaload, 1) := by decide +kernel
theorem dL_law_1097 : decode cL_law 1097 = .ok (.aload_n 0, 1) := by decide +kernel
theorem dL_law_1098 : decode cL_law 1098 = .ok (.iload_n 3, 1) := by decide +kernel
theorem dL_law_1099 : decode cL_law 1099 = .ok (.iconst 3, 1) := by decide +kernel
theorem dL_law_1100 : decode cL_law 1100 = .ok (.iadd, 1) := by decide +kernel
theorem dL_law_1101 : decode cL_law 1101 = .ok (.iaload, 1) := by decide +kernel
theorem dL_law_1102 : decode cL_law 1102 = .ok (.invokevirtual 134, 3) := by decide +kernel
theorem dL_law_1105 : decode cL_law 1105 = .ok (.aload_n 2, 1) := by decide +kernel
theorem dL_law_1106 : decode cL_law 1106 = .ok (.aload_n 0, 1) := by decide +kernel
theorem dL_law_1107 : decode cL_law 1107 = .ok (.iload_n 3, 1) := by decide +kernel
theorem dL_law_1108 : decode cL_law 1108 = .ok (.iconst 1, 1) := by decide +kernel
theorem dL_law_1109 : decode cL_law 1109 = .ok (.iadd, 1) := by decide +kernel
theorem dL_law_1110 : decode cL_law 1110 = .ok (.iaload, 1) := by decide +kernel
theorem dL_law_1111 : decode cL_law 1111 = .ok (.aload_n 0, 1) := by decide +kernel
theorem dL_law_1112 : decode cL_law 1112 = .ok (.iload_n 3, 1) := by decide +kernel
theorem dL_law_1113 : decode cL_law 1113 = .ok (.iconst 2, 1) := by decide +kernel
theorem dL_law_1114 : decode cL_law 1114 = .ok (.iadd, 1) := by decide +kernel
theorem dL_law_1115 : decode cL_law 1115 = .ok (.iaload, 1) := by decide +kernel
theorem dL_law_1116 : decode cL_law 1116 = .ok (.aload_n 0, 1) := by decide +kernel
theorem dL_law_1117 : decode cL_law 1117 = .ok (.iload_n 3, 1) := by decide +kernel
theorem dL_law_1118 : decode cL_law 1118 = .ok (.iconst 3, 1) := by decide +kernel
theorem dL_law_1119 : decode cL_law 1119 = .ok (.iadd, 1) := by decide +kernel
theorem dL_law_1120 : decode cL_law 1120 = .ok (.iaload, 1) := by decide +kernel
theorem dL_law_1121 : decode cL_law 1121 = .ok (.invokevirtual 137, 3) := by decide +kernel
theorem dL_law_1124 : decode cL_law 1124 = .ok (.if_icmp .eq 124, 3) := by decide +kernel
theorem dL_law_1129 : decode cL_law 1129 = .ok (.aload_n 1, 1) := by decide +kernel
theorem dL_law_1130 : decode cL_law 1130 = .ok (.aload_n 0, 1) := by decide +kernel
theorem dL_law_1131 : decode cL_law 1131 = .ok (.iload_n 3, 1) := by decide +kernel
theorem dL_law_1132 : decode cL_law 1132 = .ok (.iconst 1, 1) := by decide +kernel
theorem dL_law_1133 : decode cL_law 1133 = .ok (.iadd, 1) := by decide +kernel
theorem dL_law_1134 : decode cL_law 1134 = .ok (.iaload, 1) := by decide +kernel
theorem dL_law_1135 : decode cL_law 1135 = .ok (.i2l, 1) := by decide +kernel
theorem dL_law_1136 : decode cL_law 1136 = .ok (.bipush 32, 2) := by decide +kernel
theorem dL_law_1138 : decode cL_law 1138 = .ok (.lshl, 1) := by decide +kernel
theorem dL_law_1139 : decode cL_law 1139 = .ok (.aload_n 0, 1) := by decide +kernel
theorem dL_law_1140 : decode cL_law 1140 = .ok (.iload_n 3, 1) := by decide +kernel
theorem dL_law_1141 : decode cL_law 1141 = .ok (.iconst 2, 1) := by decide +kernel
theorem dL_law_1142 : decode cL_law 1142 = .ok (.iadd, 1) := by decide +kernel
theorem dL_law_1143 : decode cL_law 1143 = .ok (.iaload, 1) := by decide +kernel
theorem dL_law_1144 : decode cL_law 1144 = .ok (.i2l, 1) := by decide +kernel
theorem dL_law_1145 : decode cL_law 1145 = .ok (.ldc2_w 63, 3) := by decide +kernel
theorem dL_law_1148 : decode cL_law 1148 = .ok (.land, 1) := by decide +kernel
theorem dL_law_1149 : decode cL_law 1149 = .ok (.lor, 1) := by decide +kernel
theorem dL_law_1150 : decode cL_law 1150 = .ok (.aload_n 0, 1) := by decide +kernel
theorem dL_law_1151 : decode cL_law 1151 = .ok (.iload_n 3, 1) := by decide +kernel
theorem dL_law_1152 : decode cL_law 1152 = .ok (.iconst 3, 1) := by decide +kernel
theorem dL_law_1153 : decode cL_law 1153 = .ok (.iadd, 1) := by decide +kernel
theorem dL_law_1154 : decode cL_law 1154 = .ok (.iaload, 1) := by decide +kernel
theorem dL_law_1155 : decode cL_law 1155 = .ok (.aload_n 0, 1) := by decide +kernel
theorem dL_law_1156 : decode cL_law 1156 = .ok (.iload_n 3, 1) := by decide +kernel
theorem dL_law_1157 : decode cL_law 1157 = .ok (.iconst 4, 1) := by decide +kernel
theorem dL_law_1158 : decode cL_law 1158 = .ok (.iadd, 1) := by decide +kernel
theorem dL_law_1159 : decode cL_law 1159 = .ok (.iaload, 1) := by decide +kernel
theorem dL_law_1160 : decode cL_law 1160 = .ok (.invokevirtual 138, 3) := by decide +kernel
theorem dL_law_1163 : decode cL_law 1163 = .ok (.aload_n 2, 1) := by decide +kernel
theorem dL_law_1164 : decode cL_law 1164 = .ok (.aload_n 0, 1) := by decide +kernel
theorem dL_law_1165 : decode cL_law 1165 = .ok (.iload_n 3, 1) := by decide +kernel
theorem dL_law_1166 : decode cL_law 1166 = .ok (.iconst 1, 1) := by decide +kernel
theorem dL_law_1167 : decode cL_law 1167 = .ok (.iadd, 1) := by decide +kernel
theorem dL_law_1168 : decode cL_law 1168 = .ok (.iaload, 1) := by decide +kernel
theorem dL_law_1169 : decode cL_law 1169 = .ok (.i2l, 1) := by decide +kernel
theorem dL_law_1170 : decode cL_law 1170 = .ok (.bipush 32, 2) := by decide +kernel
theorem dL_law_1172 : decode cL_law 1172 = .ok (.lshl, 1) := by decide +kernel
theorem dL_law_1173 : decode cL_law 1173 = .ok (.aload_n 0, 1) := by decide +kernel
theorem dL_law_1174 : decode cL_law 1174 = .ok (.iload_n 3, 1) := by decide +kernel
theorem dL_law_1175 : decode cL_law 1175 = .ok (.iconst 2, 1) := by decide +kernel
theorem dL_law_1176 : decode cL_law 1176 = .ok (.iadd, 1) := by decide +kernel
theorem dL_law_1177 : decode cL_law 1177 = .ok (.iaload, 1) := by decide +kernel
theorem dL_law_1178 : decode cL_law 1178 = .ok (.i2l, 1) := by decide +kernel
theorem dL_law_1179 : decode cL_law 1179 = .ok (.ldc2_w 63, 3) := by decide +kernel
theorem dL_law_1182 : decode cL_law 1182 = .ok (.land, 1) := by decide +kernel
theorem dL_law_1183 : decode cL_law 1183 = .ok (.lor, 1) := by decide +kernel
theorem dL_law_1184 : decode cL_law 1184 = .ok (.aload_n 0, 1) := by decide +kernel
theorem dL_law_1185 : decode cL_law 1185 = .ok (.iload_n 3, 1) := by decide +kernel
theorem dL_law_1186 : decode cL_law 1186 = .ok (.iconst 3, 1) := by decide +kernel
theorem dL_law_1187 : decode cL_law 1187 = .ok (.iadd, 1) := by decide +kernel
theorem dL_law_1188 : decode cL_law 1188 = .ok (.iaload, 1) := by decide +kernel
theorem dL_law_1189 : decode cL_law 1189 = .ok (.aload_n 0, 1) := by decide +kernel
theorem dL_law_1190 : decode cL_law 1190 = .ok (.iload_n 3, 1) := by decide +kernel
theorem dL_law_1191 : decode cL_law 1191 = .ok (.iconst 4, 1) := by decide +kernel
theorem dL_law_1192 : decode cL_law 1192 = .ok (.iadd, 1) := by decide +kernel
theorem dL_law_1193 : decode cL_law 1193 = .ok (.iaload, 1) := by decide +kernel
theorem dL_law_1194 : decode cL_law 1194 = .ok (.invokevirtual 141, 3) := by decide +kernel
theorem dL_law_1197 : decode cL_law 1197 = .ok (.if_icmp .eq 51, 3) := by decide +kernel
theorem dL_law_1202 : decode cL_law 1202 = .ok (.aload_n 1, 1) := by decide +kernel
theorem dL_law_1203 : decode cL_law 1203 = .ok (.aload_n 0, 1) := by decide +kernel
theorem dL_law_1204 : decode cL_law 1204 = .ok (.iload_n 3, 1) := by decide +kernel
theorem dL_law_1205 : decode cL_law 1205 = .ok (.iconst 1, 1) := by decide +kernel
theorem dL_law_1206 : decode cL_law 1206 = .ok (.iadd, 1) := by decide +kernel
theorem dL_law_1207 : decode cL_law 1207 = .ok (.iaload, 1) := by decide +kernel
theorem dL_law_1208 : decode cL_law 1208 = .ok (.invokevirtual 142, 3) := by decide +kernel
theorem dL_law_1211 : decode cL_law 1211 = .ok (.aload_n 2, 1) := by decide +kernel
theorem dL_law_1212 : decode cL_law 1212 = .ok (.aload_n 0, 1) := by decide +kernel
theorem dL_law_1213 : decode cL_law 1213 = .ok (.iload_n 3, 1) := by decide +kernel
theorem dL_law_1214 : decode cL_law 1214 = .ok (.iconst 1, 1) := by decide +kernel
theorem dL_law_1215 : decode cL_law 1215 = .ok (.iadd, 1) := by decide +kernel
theorem dL_law_1216 : decode cL_law 1216 = .ok (.iaload, 1) := by decide +kernel
theorem dL_law_1217 : decode cL_law 1217 = .ok (.invokevirtual 145, 3) := by decide +kernel
theorem dL_law_1220 : decode cL_law 1220 = .ok (.if_icmp .eq 28, 3) := by decide +kernel
theorem dL_law_1225 : decode cL_law 1225 = .ok (.aload_n 1, 1) := by decide +kernel
theorem dL_law_1226 : decode cL_law 1226 = .ok (.aload_n 0, 1) := by decide +kernel
theorem dL_law_1227 : decode cL_law 1227 = .ok (.iload_n 3, 1) := by decide +kernel
theorem dL_law_1228 : decode cL_law 1228 = .ok (.iconst 1, 1) := by decide +kernel
theorem dL_law_1229 : decode cL_law 1229 = .ok (.iadd, 1) := by decide +kernel
theorem dL_law_1230 : decode cL_law 1230 = .ok (.iaload, 1) := by decide +kernel
theorem dL_law_1231 : decode cL_law 1231 = .ok (.invokevirtual 146, 3) := by decide +kernel
theorem dL_law_1234 : decode cL_law 1234 = .ok (.aload_n 2, 1) := by decide +kernel
theorem dL_law_1235 : decode cL_law 1235 = .ok (.aload_n 0, 1) := by decide +kernel
theorem dL_law_1236 : decode cL_law 1236 = .ok (.iload_n 3, 1) := by decide +kernel
theorem dL_law_1237 : decode cL_law 1237 = .ok (.iconst 1, 1) := by decide +kernel
theorem dL_law_1238 : decode cL_law 1238 = .ok (.iadd, 1) := by decide +kernel
theorem dL_law_1239 : decode cL_law 1239 = .ok (.iaload, 1) := by decide +kernel
theorem dL_law_1240 : decode cL_law 1240 = .ok (.invokevirtual 149, 3) := by decide +kernel
theorem dL_law_1243 : decode cL_law 1243 = .ok (.if_icmp .eq 5, 3) := by decide +kernel
theorem dL_law_1248 : decode cL_law 1248 = .ok (.iinc 3 5, 3) := by decide +kernel
theorem dL_law_1251 : decode cL_law 1251 = .ok (.goto (-1233), 3) := by decide +kernel
theorem dL_law_1254 : decode cL_law 1254 = .ok (.iconst 1, 1) := by decide +kernel
theorem dL_law_1255 : decode cL_law 1255 = .ok (.ireturn, 1) := by decide +kernel
