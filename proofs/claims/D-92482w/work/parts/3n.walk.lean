set_option maxRecDepth 100000
/-! java/lang/Integer.bitCount -/
theorem dJ0_bitCount_0 : decode cJ0_bitCount 0 = .ok (.iload_n 0, 1) := by decide +kernel
theorem dJ0_bitCount_1 : decode cJ0_bitCount 1 = .ok (.iload_n 0, 1) := by decide +kernel
theorem dJ0_bitCount_2 : decode cJ0_bitCount 2 = .ok (.iconst 1, 1) := by decide +kernel
theorem dJ0_bitCount_3 : decode cJ0_bitCount 3 = .ok (.iushr, 1) := by decide +kernel
theorem dJ0_bitCount_4 : decode cJ0_bitCount 4 = .ok (.ldc_w 265, 3) := by decide +kernel
theorem dJ0_bitCount_7 : decode cJ0_bitCount 7 = .ok (.iand, 1) := by decide +kernel
theorem dJ0_bitCount_8 : decode cJ0_bitCount 8 = .ok (.isub, 1) := by decide +kernel
theorem dJ0_bitCount_9 : decode cJ0_bitCount 9 = .ok (.istore_n 0, 1) := by decide +kernel
theorem dJ0_bitCount_10 : decode cJ0_bitCount 10 = .ok (.iload_n 0, 1) := by decide +kernel
theorem dJ0_bitCount_11 : decode cJ0_bitCount 11 = .ok (.ldc_w 266, 3) := by decide +kernel
theorem dJ0_bitCount_14 : decode cJ0_bitCount 14 = .ok (.iand, 1) := by decide +kernel
theorem dJ0_bitCount_15 : decode cJ0_bitCount 15 = .ok (.iload_n 0, 1) := by decide +kernel
theorem dJ0_bitCount_16 : decode cJ0_bitCount 16 = .ok (.iconst 2, 1) := by decide +kernel
theorem dJ0_bitCount_17 : decode cJ0_bitCount 17 = .ok (.iushr, 1) := by decide +kernel
theorem dJ0_bitCount_18 : decode cJ0_bitCount 18 = .ok (.ldc_w 266, 3) := by decide +kernel
theorem dJ0_bitCount_21 : decode cJ0_bitCount 21 = .ok (.iand, 1) := by decide +kernel
theorem dJ0_bitCount_22 : decode cJ0_bitCount 22 = .ok (.iadd, 1) := by decide +kernel
theorem dJ0_bitCount_23 : decode cJ0_bitCount 23 = .ok (.istore_n 0, 1) := by decide +kernel
theorem dJ0_bitCount_24 : decode cJ0_bitCount 24 = .ok (.iload_n 0, 1) := by decide +kernel
theorem dJ0_bitCount_25 : decode cJ0_bitCount 25 = .ok (.iload_n 0, 1) := by decide +kernel
theorem dJ0_bitCount_26 : decode cJ0_bitCount 26 = .ok (.iconst 4, 1) := by decide +kernel
theorem dJ0_bitCount_27 : decode cJ0_bitCount 27 = .ok (.iushr, 1) := by decide +kernel
theorem dJ0_bitCount_28 : decode cJ0_bitCount 28 = .ok (.iadd, 1) := by decide +kernel
theorem dJ0_bitCount_29 : decode cJ0_bitCount 29 = .ok (.ldc_w 267, 3) := by decide +kernel
theorem dJ0_bitCount_32 : decode cJ0_bitCount 32 = .ok (.iand, 1) := by decide +kernel
theorem dJ0_bitCount_33 : decode cJ0_bitCount 33 = .ok (.istore_n 0, 1) := by decide +kernel
theorem dJ0_bitCount_34 : decode cJ0_bitCount 34 = .ok (.iload_n 0, 1) := by decide +kernel
theorem dJ0_bitCount_35 : decode cJ0_bitCount 35 = .ok (.iload_n 0, 1) := by decide +kernel
theorem dJ0_bitCount_36 : decode cJ0_bitCount 36 = .ok (.bipush 8, 2) := by decide +kernel
theorem dJ0_bitCount_38 : decode cJ0_bitCount 38 = .ok (.iushr, 1) := by decide +kernel
theorem dJ0_bitCount_39 : decode cJ0_bitCount 39 = .ok (.iadd, 1) := by decide +kernel
theorem dJ0_bitCount_40 : decode cJ0_bitCount 40 = .ok (.istore_n 0, 1) := by decide +kernel
theorem dJ0_bitCount_41 : decode cJ0_bitCount 41 = .ok (.iload_n 0, 1) := by decide +kernel
theorem dJ0_bitCount_42 : decode cJ0_bitCount 42 = .ok (.iload_n 0, 1) := by decide +kernel
theorem dJ0_bitCount_43 : decode cJ0_bitCount 43 = .ok (.bipush 16, 2) := by decide +kernel
theorem dJ0_bitCount_45 : decode cJ0_bitCount 45 = .ok (.iushr, 1) := by decide +kernel
theorem dJ0_bitCount_46 : decode cJ0_bitCount 46 = .ok (.iadd, 1) := by decide +kernel
theorem dJ0_bitCount_47 : decode cJ0_bitCount 47 = .ok (.istore_n 0, 1) := by decide +kernel
theorem dJ0_bitCount_48 : decode cJ0_bitCount 48 = .ok (.iload_n 0, 1) := by decide +kernel
theorem dJ0_bitCount_49 : decode cJ0_bitCount 49 = .ok (.bipush 63, 2) := by decide +kernel
theorem dJ0_bitCount_51 : decode cJ0_bitCount 51 = .ok (.iand, 1) := by decide +kernel
theorem dJ0_bitCount_52 : decode cJ0_bitCount 52 = .ok (.ireturn, 1) := by decide +kernel
theorem yd_J0_bitCount : yJ0_bitCount.cls ≠ "java/lang/invoke/MethodHandle" ∧ yJ0_bitCount.cls ≠ "java/lang/invoke/VarHandle" ∧ (parseMethodDescriptor yJ0_bitCount.desc).map (fun d => d.parameters.length) = some 1 := by decide +kernel
abbrev rm_J0_bitCount : Room := { frames := 0, cells := 0, slots := 0, locals := 0 }
set_option maxHeartbeats 4000000 in
theorem c_J0_bitCount (l : Launch) {g : Gl} {σ : Hp} {x0 : Int32} {r : Int32 × Hp} (h : F_J0_bitCount σ x0 = some r) : Met l yJ0_bitCount (ws_ yJ0_bitCount cJ0_bitCount 1 (some .int)) rm_J0_bitCount (va_Pc [.int x0] (WV g σ)) (Qi g r) 0 0 (frN g) := by
  refine ct_of (by decide) (Nat.le_of_ble_eq_true rfl) ?_
  intro p e s m below meth c ls X hV hl
  have hF : FR g [] := FR_nil
  unfold F_J0_bitCount at h
  have hl : lv_has ls 1 [(0, .int x0)] := hl
  have X : FX g p m c s _ meth cJ0_bitCount 1 RJ0 (some .int) "bitCount" := X
  refine lv_iload_n X.1 X.2.1 dJ0_bitCount_0 rfl (lv_at hl 0 rfl) ?_
  refine lv_iload_n X.1 X.2.1 dJ0_bitCount_1 rfl (lv_at hl 0 rfl) ?_
  refine lv_iconst (v := 1) X.1 X.2.1 dJ0_bitCount_2 (by decide) ?_
  refine lv_iushr (v := (x0.toUInt32 >>> ((1 : Int32).toUInt32 &&& Int32.toUInt32 31)).toInt32) X.1 X.2.1 dJ0_bitCount_3 rfl ?_
  refine lv_ldcw (v := 1431655765) X.1 X.2.1 X.2.2.2.1 (X.2.2.2.2.1 _ q362) dJ0_bitCount_4 ?_
  refine lv_iand X.1 X.2.1 dJ0_bitCount_7 ?_
  refine lv_isub X.1 X.2.1 dJ0_bitCount_8 ?_
  refine lv_istore_n (lv' := [(0, .int (x0 - (((x0.toUInt32 >>> ((1 : Int32).toUInt32 &&& Int32.toUInt32 31)).toInt32) &&& 1431655765)))]) X.1 X.2.1 dJ0_bitCount_9 rfl hl (by decide) rfl (fun ls hl => ?_)
  refine lv_iload_n X.1 X.2.1 dJ0_bitCount_10 rfl (lv_at hl 0 rfl) ?_
  refine lv_ldcw (v := 858993459) X.1 X.2.1 X.2.2.2.1 (X.2.2.2.2.1 _ q363) dJ0_bitCount_11 ?_
  refine lv_iand X.1 X.2.1 dJ0_bitCount_14 ?_
  refine lv_iload_n X.1 X.2.1 dJ0_bitCount_15 rfl (lv_at hl 0 rfl) ?_
  refine lv_iconst (v := 2) X.1 X.2.1 dJ0_bitCount_16 (by decide) ?_
  refine lv_iushr (v := ((x0 - (((x0.toUInt32 >>> ((1 : Int32).toUInt32 &&& Int32.toUInt32 31)).toInt32) &&& 1431655765)).toUInt32 >>> ((2 : Int32).toUInt32 &&& Int32.toUInt32 31)).toInt32) X.1 X.2.1 dJ0_bitCount_17 rfl ?_
  refine lv_ldcw (v := 858993459) X.1 X.2.1 X.2.2.2.1 (X.2.2.2.2.1 _ q363) dJ0_bitCount_18 ?_
  refine lv_iand X.1 X.2.1 dJ0_bitCount_21 ?_
  refine lv_iadd X.1 X.2.1 dJ0_bitCount_22 ?_
  refine lv_istore_n (lv' := [(0, .int (((x0 - (((x0.toUInt32 >>> ((1 : Int32).toUInt32 &&& Int32.toUInt32 31)).toInt32) &&& 1431655765)) &&& 858993459) + ((((x0 - (((x0.toUInt32 >>> ((1 : Int32).toUInt32 &&& Int32.toUInt32 31)).toInt32) &&& 1431655765)).toUInt32 >>> ((2 : Int32).toUInt32 &&& Int32.toUInt32 31)).toInt32) &&& 858993459)))]) X.1 X.2.1 dJ0_bitCount_23 rfl hl (by decide) rfl (fun ls hl => ?_)
  refine lv_iload_n X.1 X.2.1 dJ0_bitCount_24 rfl (lv_at hl 0 rfl) ?_
  refine lv_iload_n X.1 X.2.1 dJ0_bitCount_25 rfl (lv_at hl 0 rfl) ?_
  refine lv_iconst (v := 4) X.1 X.2.1 dJ0_bitCount_26 (by decide) ?_
  refine lv_iushr (v := ((((x0 - (((x0.toUInt32 >>> ((1 : Int32).toUInt32 &&& Int32.toUInt32 31)).toInt32) &&& 1431655765)) &&& 858993459) + ((((x0 - (((x0.toUInt32 >>> ((1 : Int32).toUInt32 &&& Int32.toUInt32 31)).toInt32) &&& 1431655765)).toUInt32 >>> ((2 : Int32).toUInt32 &&& Int32.toUInt32 31)).toInt32) &&& 858993459)).toUInt32 >>> ((4 : Int32).toUInt32 &&& Int32.toUInt32 31)).toInt32) X.1 X.2.1 dJ0_bitCount_27 rfl ?_
  refine lv_iadd X.1 X.2.1 dJ0_bitCount_28 ?_
  refine lv_ldcw (v := 252645135) X.1 X.2.1 X.2.2.2.1 (X.2.2.2.2.1 _ q364) dJ0_bitCount_29 ?_
  refine lv_iand X.1 X.2.1 dJ0_bitCount_32 ?_
  refine lv_istore_n (lv' := [(0, .int (((((x0 - (((x0.toUInt32 >>> ((1 : Int32).toUInt32 &&& Int32.toUInt32 31)).toInt32) &&& 1431655765)) &&& 858993459) + ((((x0 - (((x0.toUInt32 >>> ((1 : Int32).toUInt32 &&& Int32.toUInt32 31)).toInt32) &&& 1431655765)).toUInt32 >>> ((2 : Int32).toUInt32 &&& Int32.toUInt32 31)).toInt32) &&& 858993459)) + (((((x0 - (((x0.toUInt32 >>> ((1 : Int32).toUInt32 &&& Int32.toUInt32 31)).toInt32) &&& 1431655765)) &&& 858993459) + ((((x0 - (((x0.toUInt32 >>> ((1 : Int32).toUInt32 &&& Int32.toUInt32 31)).toInt32) &&& 1431655765)).toUInt32 >>> ((2 : Int32).toUInt32 &&& Int32.toUInt32 31)).toInt32) &&& 858993459)).toUInt32 >>> ((4 : Int32).toUInt32 &&& Int32.toUInt32 31)).toInt32)) &&& 252645135))]) X.1 X.2.1 dJ0_bitCount_33 rfl hl (by decide) rfl (fun ls hl => ?_)
  refine lv_iload_n X.1 X.2.1 dJ0_bitCount_34 rfl (lv_at hl 0 rfl) ?_
  refine lv_iload_n X.1 X.2.1 dJ0_bitCount_35 rfl (lv_at hl 0 rfl) ?_
  refine lv_bipush (v := 8) X.1 X.2.1 dJ0_bitCount_36 (by decide) ?_
  refine lv_iushr (v := ((((((x0 - (((x0.toUInt32 >>> ((1 : Int32).toUInt32 &&& Int32.toUInt32 31)).toInt32) &&& 1431655765)) &&& 858993459) + ((((x0 - (((x0.toUInt32 >>> ((1 : Int32).toUInt32 &&& Int32.toUInt32 31)).toInt32) &&& 1431655765)).toUInt32 >>> ((2 : Int32).toUInt32 &&& Int32.toUInt32 31)).toInt32) &&& 858993459)) + (((((x0 - (((x0.toUInt32 >>> ((1 : Int32).toUInt32 &&& Int32.toUInt32 31)).toInt32) &&& 1431655765)) &&& 858993459) + ((((x0 - (((x0.toUInt32 >>> ((1 : Int32).toUInt32 &&& Int32.toUInt32 31)).toInt32) &&& 1431655765)).toUInt32 >>> ((2 : Int32).toUInt32 &&& Int32.toUInt32 31)).toInt32) &&& 858993459)).toUInt32 >>> ((4 : Int32).toUInt32 &&& Int32.toUInt32 31)).toInt32)) &&& 252645135).toUInt32 >>> ((8 : Int32).toUInt32 &&& Int32.toUInt32 31)).toInt32) X.1 X.2.1 dJ0_bitCount_38 rfl ?_
  refine lv_iadd X.1 X.2.1 dJ0_bitCount_39 ?_
  refine lv_istore_n (lv' := [(0, .int ((((((x0 - (((x0.toUInt32 >>> ((1 : Int32).toUInt32 &&& Int32.toUInt32 31)).toInt32) &&& 1431655765)) &&& 858993459) + ((((x0 - (((x0.toUInt32 >>> ((1 : Int32).toUInt32 &&& Int32.toUInt32 31)).toInt32) &&& 1431655765)).toUInt32 >>> ((2 : Int32).toUInt32 &&& Int32.toUInt32 31)).toInt32) &&& 858993459)) + (((((x0 - (((x0.toUInt32 >>> ((1 : Int32).toUInt32 &&& Int32.toUInt32 31)).toInt32) &&& 1431655765)) &&& 858993459) + ((((x0 - (((x0.toUInt32 >>> ((1 : Int32).toUInt32 &&& Int32.toUInt32 31)).toInt32) &&& 1431655765)).toUInt32 >>> ((2 : Int32).toUInt32 &&& Int32.toUInt32 31)).toInt32) &&& 858993459)).toUInt32 >>> ((4 : Int32).toUInt32 &&& Int32.toUInt32 31)).toInt32)) &&& 252645135) + (((((((x0 - (((x0.toUInt32 >>> ((1 : Int32).toUInt32 &&& Int32.toUInt32 31)).toInt32) &&& 1431655765)) &&& 858993459) + ((((x0 - (((x0.toUInt32 >>> ((1 : Int32).toUInt32 &&& Int32.toUInt32 31)).toInt32) &&& 1431655765)).toUInt32 >>> ((2 : Int32).toUInt32 &&& Int32.toUInt32 31)).toInt32) &&& 858993459)) + (((((x0 - (((x0.toUInt32 >>> ((1 : Int32).toUInt32 &&& Int32.toUInt32 31)).toInt32) &&& 1431655765)) &&& 858993459) + ((((x0 - (((x0.toUInt32 >>> ((1 : Int32).toUInt32 &&& Int32.toUInt32 31)).toInt32) &&& 1431655765)).toUInt32 >>> ((2 : Int32).toUInt32 &&& Int32.toUInt32 31)).toInt32) &&& 858993459)).toUInt32 >>> ((4 : Int32).toUInt32 &&& Int32.toUInt32 31)).toInt32)) &&& 252645135).toUInt32 >>> ((8 : Int32).toUInt32 &&& Int32.toUInt32 31)).toInt32)))]) X.1 X.2.1 dJ0_bitCount_40 rfl hl (by decide) rfl (fun ls hl => ?_)
  refine lv_iload_n X.1 X.2.1 dJ0_bitCount_41 rfl (lv_at hl 0 rfl) ?_
  refine lv_iload_n X.1 X.2.1 dJ0_bitCount_42 rfl (lv_at hl 0 rfl) ?_
  refine lv_bipush (v := 16) X.1 X.2.1 dJ0_bitCount_43 (by decide) ?_
  refine lv_iushr (v := (((((((x0 - (((x0.toUInt32 >>> ((1 : Int32).toUInt32 &&& Int32.toUInt32 31)).toInt32) &&& 1431655765)) &&& 858993459) + ((((x0 - (((x0.toUInt32 >>> ((1 : Int32).toUInt32 &&& Int32.toUInt32 31)).toInt32) &&& 1431655765)).toUInt32 >>> ((2 : Int32).toUInt32 &&& Int32.toUInt32 31)).toInt32) &&& 858993459)) + (((((x0 - (((x0.toUInt32 >>> ((1 : Int32).toUInt32 &&& Int32.toUInt32 31)).toInt32) &&& 1431655765)) &&& 858993459) + ((((x0 - (((x0.toUInt32 >>> ((1 : Int32).toUInt32 &&& Int32.toUInt32 31)).toInt32) &&& 1431655765)).toUInt32 >>> ((2 : Int32).toUInt32 &&& Int32.toUInt32 31)).toInt32) &&& 858993459)).toUInt32 >>> ((4 : Int32).toUInt32 &&& Int32.toUInt32 31)).toInt32)) &&& 252645135) + (((((((x0 - (((x0.toUInt32 >>> ((1 : Int32).toUInt32 &&& Int32.toUInt32 31)).toInt32) &&& 1431655765)) &&& 858993459) + ((((x0 - (((x0.toUInt32 >>> ((1 : Int32).toUInt32 &&& Int32.toUInt32 31)).toInt32) &&& 1431655765)).toUInt32 >>> ((2 : Int32).toUInt32 &&& Int32.toUInt32 31)).toInt32) &&& 858993459)) + (((((x0 - (((x0.toUInt32 >>> ((1 : Int32).toUInt32 &&& Int32.toUInt32 31)).toInt32) &&& 1431655765)) &&& 858993459) + ((((x0 - (((x0.toUInt32 >>> ((1 : Int32).toUInt32 &&& Int32.toUInt32 31)).toInt32) &&& 1431655765)).toUInt32 >>> ((2 : Int32).toUInt32 &&& Int32.toUInt32 31)).toInt32) &&& 858993459)).toUInt32 >>> ((4 : Int32).toUInt32 &&& Int32.toUInt32 31)).toInt32)) &&& 252645135).toUInt32 >>> ((8 : Int32).toUInt32 &&& Int32.toUInt32 31)).toInt32)).toUInt32 >>> ((16 : Int32).toUInt32 &&& Int32.toUInt32 31)).toInt32) X.1 X.2.1 dJ0_bitCount_45 rfl ?_
  refine lv_iadd X.1 X.2.1 dJ0_bitCount_46 ?_
  refine lv_istore_n (lv' := [(0, .int (((((((x0 - (((x0.toUInt32 >>> ((1 : Int32).toUInt32 &&& Int32.toUInt32 31)).toInt32) &&& 1431655765)) &&& 858993459) + ((((x0 - (((x0.toUInt32 >>> ((1 : Int32).toUInt32 &&& Int32.toUInt32 31)).toInt32) &&& 1431655765)).toUInt32 >>> ((2 : Int32).toUInt32 &&& Int32.toUInt32 31)).toInt32) &&& 858993459)) + (((((x0 - (((x0.toUInt32 >>> ((1 : Int32).toUInt32 &&& Int32.toUInt32 31)).toInt32) &&& 1431655765)) &&& 858993459) + ((((x0 - (((x0.toUInt32 >>> ((1 : Int32).toUInt32 &&& Int32.toUInt32 31)).toInt32) &&& 1431655765)).toUInt32 >>> ((2 : Int32).toUInt32 &&& Int32.toUInt32 31)).toInt32) &&& 858993459)).toUInt32 >>> ((4 : Int32).toUInt32 &&& Int32.toUInt32 31)).toInt32)) &&& 252645135) + (((((((x0 - (((x0.toUInt32 >>> ((1 : Int32).toUInt32 &&& Int32.toUInt32 31)).toInt32) &&& 1431655765)) &&& 858993459) + ((((x0 - (((x0.toUInt32 >>> ((1 : Int32).toUInt32 &&& Int32.toUInt32 31)).toInt32) &&& 1431655765)).toUInt32 >>> ((2 : Int32).toUInt32 &&& Int32.toUInt32 31)).toInt32) &&& 858993459)) + (((((x0 - (((x0.toUInt32 >>> ((1 : Int32).toUInt32 &&& Int32.toUInt32 31)).toInt32) &&& 1431655765)) &&& 858993459) + ((((x0 - (((x0.toUInt32 >>> ((1 : Int32).toUInt32 &&& Int32.toUInt32 31)).toInt32) &&& 1431655765)).toUInt32 >>> ((2 : Int32).toUInt32 &&& Int32.toUInt32 31)).toInt32) &&& 858993459)).toUInt32 >>> ((4 : Int32).toUInt32 &&& Int32.toUInt32 31)).toInt32)) &&& 252645135).toUInt32 >>> ((8 : Int32).toUInt32 &&& Int32.toUInt32 31)).toInt32)) + ((((((((x0 - (((x0.toUInt32 >>> ((1 : Int32).toUInt32 &&& Int32.toUInt32 31)).toInt32) &&& 1431655765)) &&& 858993459) + ((((x0 - (((x0.toUInt32 >>> ((1 : Int32).toUInt32 &&& Int32.toUInt32 31)).toInt32) &&& 1431655765)).toUInt32 >>> ((2 : Int32).toUInt32 &&& Int32.toUInt32 31)).toInt32) &&& 858993459)) + (((((x0 - (((x0.toUInt32 >>> ((1 : Int32).toUInt32 &&& Int32.toUInt32 31)).toInt32) &&& 1431655765)) &&& 858993459) + ((((x0 - (((x0.toUInt32 >>> ((1 : Int32).toUInt32 &&& Int32.toUInt32 31)).toInt32) &&& 1431655765)).toUInt32 >>> ((2 : Int32).toUInt32 &&& Int32.toUInt32 31)).toInt32) &&& 858993459)).toUInt32 >>> ((4 : Int32).toUInt32 &&& Int32.toUInt32 31)).toInt32)) &&& 252645135) + (((((((x0 - (((x0.toUInt32 >>> ((1 : Int32).toUInt32 &&& Int32.toUInt32 31)).toInt32) &&& 1431655765)) &&& 858993459) + ((((x0 - (((x0.toUInt32 >>> ((1 : Int32).toUInt32 &&& Int32.toUInt32 31)).toInt32) &&& 1431655765)).toUInt32 >>> ((2 : Int32).toUInt32 &&& Int32.toUInt32 31)).toInt32) &&& 858993459)) + (((((x0 - (((x0.toUInt32 >>> ((1 : Int32).toUInt32 &&& Int32.toUInt32 31)).toInt32) &&& 1431655765)) &&& 858993459) + ((((x0 - (((x0.toUInt32 >>> ((1 : Int32).toUInt32 &&& Int32.toUInt32 31)).toInt32) &&& 1431655765)).toUInt32 >>> ((2 : Int32).toUInt32 &&& Int32.toUInt32 31)).toInt32) &&& 858993459)).toUInt32 >>> ((4 : Int32).toUInt32 &&& Int32.toUInt32 31)).toInt32)) &&& 252645135).toUInt32 >>> ((8 : Int32).toUInt32 &&& Int32.toUInt32 31)).toInt32)).toUInt32 >>> ((16 : Int32).toUInt32 &&& Int32.toUInt32 31)).toInt32)))]) X.1 X.2.1 dJ0_bitCount_47 rfl hl (by decide) rfl (fun ls hl => ?_)
  refine lv_iload_n X.1 X.2.1 dJ0_bitCount_48 rfl (lv_at hl 0 rfl) ?_
  refine lv_bipush (v := 63) X.1 X.2.1 dJ0_bitCount_49 (by decide) ?_
  refine lv_iand X.1 X.2.1 dJ0_bitCount_51 ?_
  exact r_iret X hV hF h dJ0_bitCount_52
/-! PalaceOfRooms.likeness -/
theorem dX0_likeness_0 : decode cX0_likeness 0 = .ok (.aload_n 0, 1) := by decide +kernel
theorem dX0_likeness_1 : decode cX0_likeness 1 = .ok (.getfield 24, 3) := by decide +kernel
theorem dX0_likeness_4 : decode cX0_likeness 4 = .ok (.iload_n 1, 1) := by decide +kernel
theorem dX0_likeness_5 : decode cX0_likeness 5 = .ok (.iaload, 1) := by decide +kernel
theorem dX0_likeness_6 : decode cX0_likeness 6 = .ok (.aload_n 0, 1) := by decide +kernel
theorem dX0_likeness_7 : decode cX0_likeness 7 = .ok (.getfield 24, 3) := by decide +kernel
theorem dX0_likeness_10 : decode cX0_likeness 10 = .ok (.iload_n 2, 1) := by decide +kernel
theorem dX0_likeness_11 : decode cX0_likeness 11 = .ok (.iaload, 1) := by decide +kernel
theorem dX0_likeness_12 : decode cX0_likeness 12 = .ok (.iand, 1) := by decide +kernel
theorem dX0_likeness_13 : decode cX0_likeness 13 = .ok (.invokestatic 121, 3) := by decide +kernel
theorem dX0_likeness_16 : decode cX0_likeness 16 = .ok (.ireturn, 1) := by decide +kernel
theorem yd_X0_likeness : yX0_likeness.cls ≠ "java/lang/invoke/MethodHandle" ∧ yX0_likeness.cls ≠ "java/lang/invoke/VarHandle" ∧ (parseMethodDescriptor yX0_likeness.desc).map (fun d => d.parameters.length) = some 2 := by decide +kernel
abbrev rm_X0_likeness : Room := { frames := 1, cells := 0, slots := 0, locals := 20 }
set_option maxHeartbeats 4000000 in
theorem c_X0_likeness (l : Launch) {g : Gl} {σ : Hp} {x0 : Nat} {x1 : Int32} {x2 : Int32} {r : Int32 × Hp} (h : F_X0_likeness σ x0 x1 x2 = some r) : Met l yX0_likeness (ws_ yX0_likeness cX0_likeness 3 (some .int)) rm_X0_likeness (va_Pc [.ref x0, .int x1, .int x2] (WV g σ)) (Qi g r) 0 0 (frN g) := by
  refine ct_of (by decide) (Nat.le_of_ble_eq_true rfl) ?_
  intro p e s m below meth c ls X hV hl
  have hF : FR g [] := FR_nil
  unfold F_X0_likeness at h
  have hl : lv_has ls 3 [(0, .ref x0), (1, .int x1), (2, .int x2)] := hl
  have X : FX g p m c s _ meth cX0_likeness 3 RX0 (some .int) "likeness" := X
  obtain ⟨-, h⟩ := gd_inv h
  refine lv_aload_n X.1 X.2.1 dX0_likeness_0 rfl (lv_at hl 0 rfl) ?_
  refine r_gR X hV fl_X0_24_0 (by decide) dX0_likeness_1 h (fun v1 h => ?_)
  refine lv_iload_n X.1 X.2.1 dX0_likeness_4 rfl (lv_at hl 1 rfl) ?_
  refine r_ia X hV dX0_likeness_5 h (fun v2 h => ?_)
  refine lv_aload_n X.1 X.2.1 dX0_likeness_6 rfl (lv_at hl 0 rfl) ?_
  refine r_gR X hV fl_X0_24_0 (by decide) dX0_likeness_7 h (fun v3 h => ?_)
  refine lv_iload_n X.1 X.2.1 dX0_likeness_10 rfl (lv_at hl 2 rfl) ?_
  refine r_ia X hV dX0_likeness_11 h (fun v4 h => ?_)
  refine lv_iand X.1 X.2.1 dX0_likeness_12 ?_
  obtain ⟨v5, s1, hc, h⟩ := b2_inv h
  refine r_ci (va_runS (As := [.int (v2 &&& v4)]) (rest := []) (cfX X) (c_J0_bitCount l hc) (va_cwS 1 X.2.2.2.2.1 (lw_S q359 q360 q60 q361) rfl rfl rfl yd_J0_bitCount ⟨Nat.le_of_ble_eq_true rfl, Nat.le_of_ble_eq_true rfl⟩) (preS X hV) rfl rfl hl.1 rfl (lv_room (Nat.le_of_ble_eq_true rfl)) dX0_likeness_13 ⟨(Nat.le_of_ble_eq_true rfl), (Nat.le_of_ble_eq_true rfl)⟩) hF (fun H locs hV hF => ?_)
  exact r_iret X hV hF h dX0_likeness_16
/-! PalaceOfRooms.like -/
theorem dX0_like_0 : decode cX0_like 0 = .ok (.iload_n 1, 1) := by decide +kernel
theorem dX0_like_1 : decode cX0_like 1 = .ok (.invokestatic 116, 3) := by decide +kernel
theorem dX0_like_4 : decode cX0_like 4 = .ok (.ifCond .eq 19, 3) := by decide +kernel
theorem dX0_like_7 : decode cX0_like 7 = .ok (.iload_n 2, 1) := by decide +kernel
theorem dX0_like_8 : decode cX0_like 8 = .ok (.invokestatic 116, 3) := by decide +kernel
theorem dX0_like_11 : decode cX0_like 11 = .ok (.ifCond .eq 12, 3) := by decide +kernel
theorem dX0_like_14 : decode cX0_like 14 = .ok (.aload_n 0, 1) := by decide +kernel
theorem dX0_like_15 : decode cX0_like 15 = .ok (.iload_n 1, 1) := by decide +kernel
theorem dX0_like_16 : decode cX0_like 16 = .ok (.iload_n 2, 1) := by decide +kernel
theorem dX0_like_17 : decode cX0_like 17 = .ok (.invokevirtual 127, 3) := by decide +kernel
theorem dX0_like_20 : decode cX0_like 20 = .ok (.goto 5, 3) := by decide +kernel
theorem dX0_like_23 : decode cX0_like 23 = .ok (.bipush (-2), 2) := by decide +kernel
theorem dX0_like_25 : decode cX0_like 25 = .ok (.ireturn, 1) := by decide +kernel
theorem yd_X0_like : yX0_like.cls ≠ "java/lang/invoke/MethodHandle" ∧ yX0_like.cls ≠ "java/lang/invoke/VarHandle" ∧ (parseMethodDescriptor yX0_like.desc).map (fun d => d.parameters.length) = some 2 := by decide +kernel
abbrev rm_X0_like : Room := { frames := 2, cells := 0, slots := 0, locals := 45 }
set_option maxHeartbeats 4000000 in
theorem c_X0_like (l : Launch) {g : Gl} {σ : Hp} {x0 : Nat} {x1 : Int32} {x2 : Int32} {r : Int32 × Hp} (h : F_X0_like σ x0 x1 x2 = some r) : Met l yX0_like (ws_ yX0_like cX0_like 3 (some .int)) rm_X0_like (va_Pc [.ref x0, .int x1, .int x2] (WV g σ)) (Qi g r) 0 0 (frN g) := by
  refine ct_of (by decide) (Nat.le_of_ble_eq_true rfl) ?_
  intro p e s m below meth c ls X hV hl
  have hF : FR g [] := FR_nil
  unfold F_X0_like at h
  have hl : lv_has ls 3 [(0, .ref x0), (1, .int x1), (2, .int x2)] := hl
  have X : FX g p m c s _ meth cX0_like 3 RX0 (some .int) "like" := X
  obtain ⟨-, h⟩ := gd_inv h
  refine lv_iload_n X.1 X.2.1 dX0_like_0 rfl (lv_at hl 1 rfl) ?_
  obtain ⟨v1, s1, hc, h⟩ := b2_inv h
  refine r_ci (va_runS (As := [.int x1]) (rest := []) (cfX X) (c_X0_isThing l hc) (va_cwS 1 X.2.2.2.2.1 (lw_S q346 q347 q49 q348) rfl rfl rfl yd_X0_isThing ⟨Nat.le_of_ble_eq_true rfl, Nat.le_of_ble_eq_true rfl⟩) (preS X hV) rfl rfl hl.1 rfl (lv_room (Nat.le_of_ble_eq_true rfl)) dX0_like_1 ⟨(Nat.le_of_ble_eq_true rfl), (Nat.le_of_ble_eq_true rfl)⟩) hF (fun H locs hV hF => ?_)
  refine r_ifeq (tgt := 23) X.1 X.2.1 dX0_like_4 (by decide) h (fun h => ?_) (fun h => ?_)
  · refine lv_bipush (v := (-2)) X.1 X.2.1 dX0_like_23 (by decide) ?_
    exact r_iret X hV hF h dX0_like_25
  · refine lv_iload_n X.1 X.2.1 dX0_like_7 rfl (lv_at hl 2 rfl) ?_
    obtain ⟨v2, s2, hc, h⟩ := b2_inv h
    refine r_ci (va_runS (As := [.int x2]) (rest := []) (cfX X) (c_X0_isThing l hc) (va_cwS 1 X.2.2.2.2.1 (lw_S q346 q347 q49 q348) rfl rfl rfl yd_X0_isThing ⟨Nat.le_of_ble_eq_true rfl, Nat.le_of_ble_eq_true rfl⟩) (preS X hV) rfl rfl hl.1 rfl (lv_room (Nat.le_of_ble_eq_true rfl)) dX0_like_8 ⟨(Nat.le_of_ble_eq_true rfl), (Nat.le_of_ble_eq_true rfl)⟩) hF (fun H locs hV hF => ?_)
    refine r_ifeq (tgt := 23) X.1 X.2.1 dX0_like_11 (by decide) h (fun h => ?_) (fun h => ?_)
    · refine lv_bipush (v := (-2)) X.1 X.2.1 dX0_like_23 (by decide) ?_
      exact r_iret X hV hF h dX0_like_25
    · refine lv_aload_n X.1 X.2.1 dX0_like_14 rfl (lv_at hl 0 rfl) ?_
      refine lv_iload_n X.1 X.2.1 dX0_like_15 rfl (lv_at hl 1 rfl) ?_
      refine lv_iload_n X.1 X.2.1 dX0_like_16 rfl (lv_at hl 2 rfl) ?_
      obtain ⟨v3, s3, hc, h⟩ := b2_inv h
      refine r_ci (va_runV (C := RX0) (As := [.int x1, .int x2]) (rest := []) (cfX X) (c_X0_likeness l hc) (cwV 2 X.2.2.2.2.1 (lw_V q355 q357 qs1 q49 q358) rfl rfl rfl ⟨rfl, yd_X0_likeness⟩ ⟨Nat.le_of_ble_eq_true rfl, Nat.le_of_ble_eq_true rfl⟩) (preV X hV (F_X0_likeness_g hc) rfl) rfl rfl hl.1 rfl (lv_room (Nat.le_of_ble_eq_true rfl)) dX0_like_17 ⟨(Nat.le_of_ble_eq_true rfl), (Nat.le_of_ble_eq_true rfl)⟩) hF (fun H locs hV hF => ?_)
      refine lv_goto (tgt := 25) X.1 X.2.1 dX0_like_20 (by decide) ?_
      exact r_iret X hV hF h dX0_like_25
/-! PalaceOfRooms.set -/
theorem dX0_set_0 : decode cX0_set 0 = .ok (.iload_n 1, 1) := by decide +kernel
theorem dX0_set_1 : decode cX0_set 1 = .ok (.i2l, 1) := by decide +kernel
theorem dX0_set_2 : decode cX0_set 2 = .ok (.lconst 0, 1) := by decide +kernel
theorem dX0_set_3 : decode cX0_set 3 = .ok (.lconst 1, 1) := by decide +kernel
theorem dX0_set_4 : decode cX0_set 4 = .ok (.invokestatic 5, 3) := by decide +kernel
theorem dX0_set_7 : decode cX0_set 7 = .ok (.ifCond .eq 28, 3) := by decide +kernel
theorem dX0_set_10 : decode cX0_set 10 = .ok (.iload_n 2, 1) := by decide +kernel
theorem dX0_set_11 : decode cX0_set 11 = .ok (.i2l, 1) := by decide +kernel
theorem dX0_set_12 : decode cX0_set 12 = .ok (.iconst 1, 1) := by decide +kernel
theorem dX0_set_13 : decode cX0_set 13 = .ok (.iload_n 1, 1) := by decide +kernel
theorem dX0_set_14 : decode cX0_set 14 = .ok (.isub, 1) := by decide +kernel
theorem dX0_set_15 : decode cX0_set 15 = .ok (.i2l, 1) := by decide +kernel
theorem dX0_set_16 : decode cX0_set 16 = .ok (.iload_n 1, 1) := by decide +kernel
theorem dX0_set_17 : decode cX0_set 17 = .ok (.ifCond .ne 9, 3) := by decide +kernel
theorem dX0_set_20 : decode cX0_set 20 = .ok (.ldc2_w 130, 3) := by decide +kernel
theorem dX0_set_23 : decode cX0_set 23 = .ok (.goto 6, 3) := by decide +kernel
theorem dX0_set_26 : decode cX0_set 26 = .ok (.ldc2_w 132, 3) := by decide +kernel
theorem dX0_set_29 : decode cX0_set 29 = .ok (.invokestatic 5, 3) := by decide +kernel
theorem dX0_set_32 : decode cX0_set 32 = .ok (.ifCond .ne 6, 3) := by decide +kernel
theorem dX0_set_35 : decode cX0_set 35 = .ok (.bipush (-3), 2) := by decide +kernel
theorem dX0_set_37 : decode cX0_set 37 = .ok (.ireturn, 1) := by decide +kernel
theorem dX0_set_38 : decode cX0_set 38 = .ok (.iload_n 1, 1) := by decide +kernel
theorem dX0_set_39 : decode cX0_set 39 = .ok (.ifCond .ne 10, 3) := by decide +kernel
theorem dX0_set_42 : decode cX0_set 42 = .ok (.aload_n 0, 1) := by decide +kernel
theorem dX0_set_43 : decode cX0_set 43 = .ok (.getfield 28, 3) := by decide +kernel
theorem dX0_set_46 : decode cX0_set 46 = .ok (.goto 7, 3) := by decide +kernel
theorem dX0_set_49 : decode cX0_set 49 = .ok (.aload_n 0, 1) := by decide +kernel
theorem dX0_set_50 : decode cX0_set 50 = .ok (.getfield 32, 3) := by decide +kernel
theorem dX0_set_53 : decode cX0_set 53 = .ok (.istore_n 3, 1) := by decide +kernel
theorem dX0_set_54 : decode cX0_set 54 = .ok (.aload_n 0, 1) := by decide +kernel
theorem dX0_set_55 : decode cX0_set 55 = .ok (.iload_n 1, 1) := by decide +kernel
theorem dX0_set_56 : decode cX0_set 56 = .ok (.ifCond .ne 7, 3) := by decide +kernel
theorem dX0_set_59 : decode cX0_set 59 = .ok (.iload_n 2, 1) := by decide +kernel
theorem dX0_set_60 : decode cX0_set 60 = .ok (.goto 7, 3) := by decide +kernel
theorem dX0_set_63 : decode cX0_set 63 = .ok (.aload_n 0, 1) := by decide +kernel
theorem dX0_set_64 : decode cX0_set 64 = .ok (.getfield 28, 3) := by decide +kernel
theorem dX0_set_67 : decode cX0_set 67 = .ok (.putfield 28, 3) := by decide +kernel
theorem dX0_set_70 : decode cX0_set 70 = .ok (.aload_n 0, 1) := by decide +kernel
theorem dX0_set_71 : decode cX0_set 71 = .ok (.iload_n 1, 1) := by decide +kernel
theorem dX0_set_72 : decode cX0_set 72 = .ok (.iconst 1, 1) := by decide +kernel
theorem dX0_set_73 : decode cX0_set 73 = .ok (.if_icmp .ne 7, 3) := by decide +kernel
theorem dX0_set_76 : decode cX0_set 76 = .ok (.iload_n 2, 1) := by decide +kernel
theorem dX0_set_77 : decode cX0_set 77 = .ok (.goto 7, 3) := by decide +kernel
theorem dX0_set_80 : decode cX0_set 80 = .ok (.aload_n 0, 1) := by decide +kernel
theorem dX0_set_81 : decode cX0_set 81 = .ok (.getfield 32, 3) := by decide +kernel
theorem dX0_set_84 : decode cX0_set 84 = .ok (.putfield 32, 3) := by decide +kernel
theorem dX0_set_87 : decode cX0_set 87 = .ok (.iload_n 3, 1) := by decide +kernel
theorem dX0_set_88 : decode cX0_set 88 = .ok (.ireturn, 1) := by decide +kernel
theorem yd_X0_set : yX0_set.cls ≠ "java/lang/invoke/MethodHandle" ∧ yX0_set.cls ≠ "java/lang/invoke/VarHandle" ∧ (parseMethodDescriptor yX0_set.desc).map (fun d => d.parameters.length) = some 2 := by decide +kernel
theorem fl_X0_32_0 : FLk RX0 32 0 4 "I" := ⟨RX0, TX0, 22, "PalaceOfRooms", rfl, by decide, (fun q => by have h1 := q.1; have h2 := q.2; omega), rfl, in_X0, Or.inl q253, Or.inl rfl⟩
theorem fl_X0_28_0 : FLk RX0 28 0 3 "I" := ⟨RX0, TX0, 22, "PalaceOfRooms", rfl, by decide, (fun q => by have h1 := q.1; have h2 := q.2; omega), rfl, in_X0, Or.inl q252, Or.inl rfl⟩
abbrev rm_X0_set : Room := { frames := 1, cells := 0, slots := 0, locals := 25 }
set_option maxHeartbeats 4000000 in
theorem w_X0_set_67 {p : Program} {l : Launch} {e : Env} {s : State} {m : MethodId} {args : Array Value} {below : List Frame} {meth : Method} {c : Code} {g : Gl} (X : FX g p m c s args meth cX0_set 4 RX0 (some .int) "set") {r : Int32 × Hp} {σ : Hp} {x0 : Nat} {x1 : Int32} {x2 : Int32} {x3 : Int32} {y0 : Int32} {y1 : Nat}  {H : Heap} {locs : List Loc} {ls : Array Slot} (h : F_X0_set_67 σ x0 x1 x2 x3 y0 y1 = some r) (hV : HV g σ H) (hF : FR g locs) (hl : lv_has ls 4 [(0, .ref x0), (1, .int x1), (2, .int x2), (3, .int x3)]) : W p l e rm_X0_set s m args below meth c H locs 0 0 (MQ below (Qi g r) args s 0 0 (frN g)) (F0 m 67 ls [.int y0, .ref y1]) := by
  unfold F_X0_set_67 at h
  refine r_pI X hV hF fp_X0_28_0 (fun q => by cases q) dX0_set_67 h (fun s1 H locs hV hF h => ?_)
  refine lv_aload_n X.1 X.2.1 dX0_set_70 rfl (lv_at hl 0 rfl) ?_
  refine lv_iload_n X.1 X.2.1 dX0_set_71 rfl (lv_at hl 1 rfl) ?_
  refine lv_iconst (v := 1) X.1 X.2.1 dX0_set_72 (by decide) ?_
  refine r_ne (tgt := 80) X.1 X.2.1 dX0_set_73 (by decide) h (fun h => ?_) (fun h => ?_)
  · refine lv_aload_n X.1 X.2.1 dX0_set_80 rfl (lv_at hl 0 rfl) ?_
    refine r_gI X hV fl_X0_32_0 dX0_set_81 h (fun v1 h => ?_)
    refine r_pI X hV hF fp_X0_32_0 (fun q => by cases q) dX0_set_84 h (fun s2 H locs hV hF h => ?_)
    refine lv_iload_n X.1 X.2.1 dX0_set_87 rfl (lv_at hl 3 rfl) ?_
    exact r_iret X hV hF h dX0_set_88
  · refine lv_iload_n X.1 X.2.1 dX0_set_76 rfl (lv_at hl 2 rfl) ?_
    refine lv_goto (tgt := 84) X.1 X.2.1 dX0_set_77 (by decide) ?_
    refine r_pI X hV hF fp_X0_32_0 (fun q => by cases q) dX0_set_84 h (fun s3 H locs hV hF h => ?_)
    refine lv_iload_n X.1 X.2.1 dX0_set_87 rfl (lv_at hl 3 rfl) ?_
    exact r_iret X hV hF h dX0_set_88
set_option maxHeartbeats 4000000 in
theorem w_X0_set_53 {p : Program} {l : Launch} {e : Env} {s : State} {m : MethodId} {args : Array Value} {below : List Frame} {meth : Method} {c : Code} {g : Gl} (X : FX g p m c s args meth cX0_set 4 RX0 (some .int) "set") {r : Int32 × Hp} {σ : Hp} {x0 : Nat} {x1 : Int32} {x2 : Int32} {y0 : Int32}  {H : Heap} {locs : List Loc} {ls : Array Slot} (h : F_X0_set_53 σ x0 x1 x2 y0 = some r) (hV : HV g σ H) (hF : FR g locs) (hl : lv_has ls 4 [(0, .ref x0), (1, .int x1), (2, .int x2)]) : W p l e rm_X0_set s m args below meth c H locs 0 0 (MQ below (Qi g r) args s 0 0 (frN g)) (F0 m 53 ls [.int y0]) := by
  unfold F_X0_set_53 at h
  refine lv_istore_n (lv' := [(3, .int y0), (0, .ref x0), (1, .int x1), (2, .int x2)]) X.1 X.2.1 dX0_set_53 rfl hl (by decide) rfl (fun ls hl => ?_)
  refine lv_aload_n X.1 X.2.1 dX0_set_54 rfl (lv_at hl 1 rfl) ?_
  refine lv_iload_n X.1 X.2.1 dX0_set_55 rfl (lv_at hl 2 rfl) ?_
  refine r_ifne (tgt := 63) X.1 X.2.1 dX0_set_56 (by decide) h (fun h => ?_) (fun h => ?_)
  · refine lv_aload_n X.1 X.2.1 dX0_set_63 rfl (lv_at hl 1 rfl) ?_
    refine r_gI X hV fl_X0_28_0 dX0_set_64 h (fun v1 h => ?_)
    exact w_X0_set_67 X  h hV hF (lv_sub hl [1, 2, 3, 0] rfl)
  · refine lv_iload_n X.1 X.2.1 dX0_set_59 rfl (lv_at hl 3 rfl) ?_
    refine lv_goto (tgt := 67) X.1 X.2.1 dX0_set_60 (by decide) ?_
    exact w_X0_set_67 X  h hV hF (lv_sub hl [1, 2, 3, 0] rfl)
set_option maxHeartbeats 4000000 in
theorem w_X0_set_29 {p : Program} {l : Launch} {e : Env} {s : State} {m : MethodId} {args : Array Value} {below : List Frame} {meth : Method} {c : Code} {g : Gl} (X : FX g p m c s args meth cX0_set 4 RX0 (some .int) "set") {r : Int32 × Hp} {σ : Hp} {x0 : Nat} {x1 : Int32} {x2 : Int32} {y0 : Int64} {y1 : Int64} {y2 : Int64}  {H : Heap} {locs : List Loc} {ls : Array Slot} (h : F_X0_set_29 σ x0 x1 x2 y0 y1 y2 = some r) (hV : HV g σ H) (hF : FR g locs) (hl : lv_has ls 4 [(0, .ref x0), (1, .int x1), (2, .int x2)]) : W p l e rm_X0_set s m args below meth c H locs 0 0 (MQ below (Qi g r) args s 0 0 (frN g)) (F0 m 29 ls [.long y0, .long y1, .long y2]) := by
  unfold F_X0_set_29 at h
  obtain ⟨v1, s1, hc, h⟩ := b2_inv h
  refine r_ci (va_runS (As := [.long y2, .long y1, .long y0]) (rest := []) (cfX X) (c_X0_isIn l hc) (va_cwS 3 X.2.2.2.2.1 (lw_S q331 q332 q49 q333) rfl rfl rfl yd_X0_isIn ⟨Nat.le_of_ble_eq_true rfl, Nat.le_of_ble_eq_true rfl⟩) (preS X hV) rfl rfl hl.1 rfl (lv_room (Nat.le_of_ble_eq_true rfl)) dX0_set_29 ⟨(Nat.le_of_ble_eq_true rfl), (Nat.le_of_ble_eq_true rfl)⟩) hF (fun H locs hV hF => ?_)
  refine r_ifne (tgt := 38) X.1 X.2.1 dX0_set_32 (by decide) h (fun h => ?_) (fun h => ?_)
  · refine lv_iload_n X.1 X.2.1 dX0_set_38 rfl (lv_at hl 1 rfl) ?_
    refine r_ifne (tgt := 49) X.1 X.2.1 dX0_set_39 (by decide) h (fun h => ?_) (fun h => ?_)
    · refine lv_aload_n X.1 X.2.1 dX0_set_49 rfl (lv_at hl 0 rfl) ?_
      refine r_gI X hV fl_X0_32_0 dX0_set_50 h (fun v2 h => ?_)
      exact w_X0_set_53 X  h hV hF (lv_sub hl [0, 1, 2] rfl)
    · refine lv_aload_n X.1 X.2.1 dX0_set_42 rfl (lv_at hl 0 rfl) ?_
      refine r_gI X hV fl_X0_28_0 dX0_set_43 h (fun v3 h => ?_)
      refine lv_goto (tgt := 53) X.1 X.2.1 dX0_set_46 (by decide) ?_
      exact w_X0_set_53 X  h hV hF (lv_sub hl [0, 1, 2] rfl)
  · refine lv_bipush (v := (-3)) X.1 X.2.1 dX0_set_35 (by decide) ?_
    exact r_iret X hV hF h dX0_set_37
set_option maxHeartbeats 4000000 in
theorem c_X0_set (l : Launch) {g : Gl} {σ : Hp} {x0 : Nat} {x1 : Int32} {x2 : Int32} {r : Int32 × Hp} (h : F_X0_set σ x0 x1 x2 = some r) : Met l yX0_set (ws_ yX0_set cX0_set 4 (some .int)) rm_X0_set (va_Pc [.ref x0, .int x1, .int x2] (WV g σ)) (Qi g r) 0 0 (frN g) := by
  refine ct_of (by decide) (Nat.le_of_ble_eq_true rfl) ?_
  intro p e s m below meth c ls X hV hl
  have hF : FR g [] := FR_nil
  unfold F_X0_set at h
  have hl : lv_has ls 4 [(0, .ref x0), (1, .int x1), (2, .int x2)] := hl
  have X : FX g p m c s _ meth cX0_set 4 RX0 (some .int) "set" := X
  obtain ⟨-, h⟩ := gd_inv h
  refine lv_iload_n X.1 X.2.1 dX0_set_0 rfl (lv_at hl 1 rfl) ?_
  refine lv_i2l (v := (x1 : Int32).toInt64) X.1 X.2.1 dX0_set_1 rfl ?_
  refine lv_lconst (v := 0) X.1 X.2.1 dX0_set_2 (by decide) ?_
  refine lv_lconst (v := 1) X.1 X.2.1 dX0_set_3 (by decide) ?_
  obtain ⟨v1, s1, hc, h⟩ := b2_inv h
  refine r_ci (va_runS (As := [.long ((x1 : Int32).toInt64), .long 0, .long 1]) (rest := []) (cfX X) (c_X0_isIn l hc) (va_cwS 3 X.2.2.2.2.1 (lw_S q331 q332 q49 q333) rfl rfl rfl yd_X0_isIn ⟨Nat.le_of_ble_eq_true rfl, Nat.le_of_ble_eq_true rfl⟩) (preS X hV) rfl rfl hl.1 rfl (lv_room (Nat.le_of_ble_eq_true rfl)) dX0_set_4 ⟨(Nat.le_of_ble_eq_true rfl), (Nat.le_of_ble_eq_true rfl)⟩) hF (fun H locs hV hF => ?_)
  refine r_ifeq (tgt := 35) X.1 X.2.1 dX0_set_7 (by decide) h (fun h => ?_) (fun h => ?_)
  · refine lv_bipush (v := (-3)) X.1 X.2.1 dX0_set_35 (by decide) ?_
    exact r_iret X hV hF h dX0_set_37
  · refine lv_iload_n X.1 X.2.1 dX0_set_10 rfl (lv_at hl 2 rfl) ?_
    refine lv_i2l (v := (x2 : Int32).toInt64) X.1 X.2.1 dX0_set_11 rfl ?_
    refine lv_iconst (v := 1) X.1 X.2.1 dX0_set_12 (by decide) ?_
    refine lv_iload_n X.1 X.2.1 dX0_set_13 rfl (lv_at hl 1 rfl) ?_
    refine lv_isub X.1 X.2.1 dX0_set_14 ?_
    refine lv_i2l (v := (1 - x1 : Int32).toInt64) X.1 X.2.1 dX0_set_15 rfl ?_
    refine lv_iload_n X.1 X.2.1 dX0_set_16 rfl (lv_at hl 1 rfl) ?_
    refine r_ifne (tgt := 26) X.1 X.2.1 dX0_set_17 (by decide) h (fun h => ?_) (fun h => ?_)
    · refine lv_ldc2 (v := 100) X.1 X.2.1 X.2.2.2.1 (X.2.2.2.2.1 _ q370) dX0_set_26 ?_
      exact w_X0_set_29 X  h hV hF (lv_sub hl [0, 1, 2] rfl)
    · refine lv_ldc2 (v := 8) X.1 X.2.1 X.2.2.2.1 (X.2.2.2.2.1 _ q369) dX0_set_20 ?_
      refine lv_goto (tgt := 29) X.1 X.2.1 dX0_set_23 (by decide) ?_
      exact w_X0_set_29 X  h hV hF (lv_sub hl [0, 1, 2] rfl)
/-! PalaceOfRooms.fall -/
theorem dX0_fall_0 : decode cX0_fall 0 = .ok (.iload_n 1, 1) := by decide +kernel
theorem dX0_fall_1 : decode cX0_fall 1 = .ok (.i2l, 1) := by decide +kernel
theorem dX0_fall_2 : decode cX0_fall 2 = .ok (.lconst 0, 1) := by decide +kernel
theorem dX0_fall_3 : decode cX0_fall 3 = .ok (.ldc2_w 134, 3) := by decide +kernel
theorem dX0_fall_6 : decode cX0_fall 6 = .ok (.invokestatic 5, 3) := by decide +kernel
theorem dX0_fall_9 : decode cX0_fall 9 = .ok (.ifCond .eq 15, 3) := by decide +kernel
theorem dX0_fall_12 : decode cX0_fall 12 = .ok (.iload_n 2, 1) := by decide +kernel
theorem dX0_fall_13 : decode cX0_fall 13 = .ok (.i2l, 1) := by decide +kernel
theorem dX0_fall_14 : decode cX0_fall 14 = .ok (.lconst 0, 1) := by decide +kernel
theorem dX0_fall_15 : decode cX0_fall 15 = .ok (.ldc2_w 136, 3) := by decide +kernel
theorem dX0_fall_18 : decode cX0_fall 18 = .ok (.invokestatic 5, 3) := by decide +kernel
theorem dX0_fall_21 : decode cX0_fall 21 = .ok (.ifCond .ne 6, 3) := by decide +kernel
theorem dX0_fall_24 : decode cX0_fall 24 = .ok (.bipush (-3), 2) := by decide +kernel
theorem dX0_fall_26 : decode cX0_fall 26 = .ok (.ireturn, 1) := by decide +kernel
theorem dX0_fall_27 : decode cX0_fall 27 = .ok (.aload_n 0, 1) := by decide +kernel
theorem dX0_fall_28 : decode cX0_fall 28 = .ok (.getfield 35, 3) := by decide +kernel
theorem dX0_fall_31 : decode cX0_fall 31 = .ok (.iload_n 1, 1) := by decide +kernel
theorem dX0_fall_32 : decode cX0_fall 32 = .ok (.iaload, 1) := by decide +kernel
theorem dX0_fall_33 : decode cX0_fall 33 = .ok (.istore_n 3, 1) := by decide +kernel
theorem dX0_fall_34 : decode cX0_fall 34 = .ok (.aload_n 0, 1) := by decide +kernel
theorem dX0_fall_35 : decode cX0_fall 35 = .ok (.getfield 35, 3) := by decide +kernel
theorem dX0_fall_38 : decode cX0_fall 38 = .ok (.iload_n 1, 1) := by decide +kernel
theorem dX0_fall_39 : decode cX0_fall 39 = .ok (.iload_n 2, 1) := by decide +kernel
theorem dX0_fall_40 : decode cX0_fall 40 = .ok (.iastore, 1) := by decide +kernel
theorem dX0_fall_41 : decode cX0_fall 41 = .ok (.iload_n 3, 1) := by decide +kernel
theorem dX0_fall_42 : decode cX0_fall 42 = .ok (.ireturn, 1) := by decide +kernel
theorem yd_X0_fall : yX0_fall.cls ≠ "java/lang/invoke/MethodHandle" ∧ yX0_fall.cls ≠ "java/lang/invoke/VarHandle" ∧ (parseMethodDescriptor yX0_fall.desc).map (fun d => d.parameters.length) = some 2 := by decide +kernel
theorem fl_X0_35_0 : FLk RX0 35 0 5 "[I" := ⟨RX0, TX0, 22, "PalaceOfRooms", rfl, by decide, (fun q => by have h1 := q.1; have h2 := q.2; omega), rfl, in_X0, Or.inl q256, Or.inl rfl⟩
abbrev rm_X0_fall : Room := { frames := 1, cells := 0, slots := 0, locals := 25 }
set_option maxHeartbeats 4000000 in
theorem c_X0_fall (l : Launch) {g : Gl} {σ : Hp} {x0 : Nat} {x1 : Int32} {x2 : Int32} {r : Int32 × Hp} (h : F_X0_fall σ x0 x1 x2 = some r) : Met l yX0_fall (ws_ yX0_fall cX0_fall 4 (some .int)) rm_X0_fall (va_Pc [.ref x0, .int x1, .int x2] (WV g σ)) (Qi g r) 0 0 (frN g) := by
  refine ct_of (by decide) (Nat.le_of_ble_eq_true rfl) ?_
  intro p e s m below meth c ls X hV hl
  have hF : FR g [] := FR_nil
  unfold F_X0_fall at h
  have hl : lv_has ls 4 [(0, .ref x0), (1, .int x1), (2, .int x2)] := hl
  have X : FX g p m c s _ meth cX0_fall 4 RX0 (some .int) "fall" := X
  obtain ⟨-, h⟩ := gd_inv h
  refine lv_iload_n X.1 X.2.1 dX0_fall_0 rfl (lv_at hl 1 rfl) ?_
  refine lv_i2l (v := (x1 : Int32).toInt64) X.1 X.2.1 dX0_fall_1 rfl ?_
  refine lv_lconst (v := 0) X.1 X.2.1 dX0_fall_2 (by decide) ?_
  refine lv_ldc2 (v := 10) X.1 X.2.1 X.2.2.2.1 (X.2.2.2.2.1 _ q375) dX0_fall_3 ?_
  obtain ⟨v1, s1, hc, h⟩ := b2_inv h
  refine r_ci (va_runS (As := [.long ((x1 : Int32).toInt64), .long 0, .long 10]) (rest := []) (cfX X) (c_X0_isIn l hc) (va_cwS 3 X.2.2.2.2.1 (lw_S q331 q332 q49 q333) rfl rfl rfl yd_X0_isIn ⟨Nat.le_of_ble_eq_true rfl, Nat.le_of_ble_eq_true rfl⟩) (preS X hV) rfl rfl hl.1 rfl (lv_room (Nat.le_of_ble_eq_true rfl)) dX0_fall_6 ⟨(Nat.le_of_ble_eq_true rfl), (Nat.le_of_ble_eq_true rfl)⟩) hF (fun H locs hV hF => ?_)
  refine r_ifeq (tgt := 24) X.1 X.2.1 dX0_fall_9 (by decide) h (fun h => ?_) (fun h => ?_)
  · refine lv_bipush (v := (-3)) X.1 X.2.1 dX0_fall_24 (by decide) ?_
    exact r_iret X hV hF h dX0_fall_26
  · refine lv_iload_n X.1 X.2.1 dX0_fall_12 rfl (lv_at hl 2 rfl) ?_
    refine lv_i2l (v := (x2 : Int32).toInt64) X.1 X.2.1 dX0_fall_13 rfl ?_
    refine lv_lconst (v := 0) X.1 X.2.1 dX0_fall_14 (by decide) ?_
    refine lv_ldc2 (v := 30) X.1 X.2.1 X.2.2.2.1 (X.2.2.2.2.1 _ q376) dX0_fall_15 ?_
    obtain ⟨v2, s2, hc, h⟩ := b2_inv h
    refine r_ci (va_runS (As := [.long ((x2 : Int32).toInt64), .long 0, .long 30]) (rest := []) (cfX X) (c_X0_isIn l hc) (va_cwS 3 X.2.2.2.2.1 (lw_S q331 q332 q49 q333) rfl rfl rfl yd_X0_isIn ⟨Nat.le_of_ble_eq_true rfl, Nat.le_of_ble_eq_true rfl⟩) (preS X hV) rfl rfl hl.1 rfl (lv_room (Nat.le_of_ble_eq_true rfl)) dX0_fall_18 ⟨(Nat.le_of_ble_eq_true rfl), (Nat.le_of_ble_eq_true rfl)⟩) hF (fun H locs hV hF => ?_)
    refine r_ifne (tgt := 27) X.1 X.2.1 dX0_fall_21 (by decide) h (fun h => ?_) (fun h => ?_)
    · refine lv_aload_n X.1 X.2.1 dX0_fall_27 rfl (lv_at hl 0 rfl) ?_
      refine r_gR X hV fl_X0_35_0 (by decide) dX0_fall_28 h (fun v3 h => ?_)
      refine lv_iload_n X.1 X.2.1 dX0_fall_31 rfl (lv_at hl 1 rfl) ?_
      refine r_ia X hV dX0_fall_32 h (fun v4 h => ?_)
      refine lv_istore_n (lv' := [(3, .int v4), (0, .ref x0), (1, .int x1), (2, .int x2)]) X.1 X.2.1 dX0_fall_33 rfl hl (by decide) rfl (fun ls hl => ?_)
      refine lv_aload_n X.1 X.2.1 dX0_fall_34 rfl (lv_at hl 1 rfl) ?_
      refine r_gR X hV fl_X0_35_0 (by decide) dX0_fall_35 h (fun v5 h => ?_)
      refine lv_iload_n X.1 X.2.1 dX0_fall_38 rfl (lv_at hl 2 rfl) ?_
      refine lv_iload_n X.1 X.2.1 dX0_fall_39 rfl (lv_at hl 3 rfl) ?_
      refine r_is X hV hF dX0_fall_40 h (fun s3 H locs hV hF h => ?_)
      refine lv_iload_n X.1 X.2.1 dX0_fall_41 rfl (lv_at hl 0 rfl) ?_
      exact r_iret X hV hF h dX0_fall_42
    · refine lv_bipush (v := (-3)) X.1 X.2.1 dX0_fall_24 (by decide) ?_
      exact r_iret X hV hF h dX0_fall_26
/-! PalaceOfRooms.isCorner -/
theorem dX0_isCorner_0 : decode cX0_isCorner 0 = .ok (.iload_n 0, 1) := by decide +kernel
theorem dX0_isCorner_1 : decode cX0_isCorner 1 = .ok (.i2l, 1) := by decide +kernel
theorem dX0_isCorner_2 : decode cX0_isCorner 2 = .ok (.lconst 0, 1) := by decide +kernel
theorem dX0_isCorner_3 : decode cX0_isCorner 3 = .ok (.ldc2_w 9, 3) := by decide +kernel
theorem dX0_isCorner_6 : decode cX0_isCorner 6 = .ok (.invokestatic 5, 3) := by decide +kernel
theorem dX0_isCorner_9 : decode cX0_isCorner 9 = .ok (.ireturn, 1) := by decide +kernel
theorem yd_X0_isCorner : yX0_isCorner.cls ≠ "java/lang/invoke/MethodHandle" ∧ yX0_isCorner.cls ≠ "java/lang/invoke/VarHandle" ∧ (parseMethodDescriptor yX0_isCorner.desc).map (fun d => d.parameters.length) = some 1 := by decide +kernel
abbrev rm_X0_isCorner : Room := { frames := 1, cells := 0, slots := 0, locals := 25 }
set_option maxHeartbeats 4000000 in
theorem c_X0_isCorner (l : Launch) {g : Gl} {σ : Hp} {x0 : Int32} {r : Int32 × Hp} (h : F_X0_isCorner σ x0 = some r) : Met l yX0_isCorner (ws_ yX0_isCorner cX0_isCorner 1 (some .boolean)) rm_X0_isCorner (va_Pc [.int x0] (WV g σ)) (Qi g r) 0 0 (frN g) := by
  refine ct_of (by decide) (Nat.le_of_ble_eq_true rfl) ?_
  intro p e s m below meth c ls X hV hl
  have hF : FR g [] := FR_nil
  unfold F_X0_isCorner at h
  have hl : lv_has ls 1 [(0, .int x0)] := hl
  have X : FX g p m c s _ meth cX0_isCorner 1 RX0 (some .boolean) "isCorner" := X
  refine lv_iload_n X.1 X.2.1 dX0_isCorner_0 rfl (lv_at hl 0 rfl) ?_
  refine lv_i2l (v := (x0 : Int32).toInt64) X.1 X.2.1 dX0_isCorner_1 rfl ?_
  refine lv_lconst (v := 0) X.1 X.2.1 dX0_isCorner_2 (by decide) ?_
  refine lv_ldc2 (v := 47) X.1 X.2.1 X.2.2.2.1 (X.2.2.2.2.1 _ q384) dX0_isCorner_3 ?_
  obtain ⟨v1, s1, hc, h⟩ := b2_inv h
  refine r_ci (va_runS (As := [.long ((x0 : Int32).toInt64), .long 0, .long 47]) (rest := []) (cfX X) (c_X0_isIn l hc) (va_cwS 3 X.2.2.2.2.1 (lw_S q331 q332 q49 q333) rfl rfl rfl yd_X0_isIn ⟨Nat.le_of_ble_eq_true rfl, Nat.le_of_ble_eq_true rfl⟩) (preS X hV) rfl rfl hl.1 rfl (lv_room (Nat.le_of_ble_eq_true rfl)) dX0_isCorner_6 ⟨(Nat.le_of_ble_eq_true rfl), (Nat.le_of_ble_eq_true rfl)⟩) hF (fun H locs hV hF => ?_)
  exact r_zrv X hV hF h dX0_isCorner_9
/-! PalaceOfRooms.whereIs -/
theorem dX0_whereIs_0 : decode cX0_whereIs 0 = .ok (.iconst 0, 1) := by decide +kernel
theorem dX0_whereIs_1 : decode cX0_whereIs 1 = .ok (.istore_n 2, 1) := by decide +kernel
theorem dX0_whereIs_2 : decode cX0_whereIs 2 = .ok (.iload_n 2, 1) := by decide +kernel
theorem dX0_whereIs_3 : decode cX0_whereIs 3 = .ok (.bipush 48, 2) := by decide +kernel
theorem dX0_whereIs_5 : decode cX0_whereIs 5 = .ok (.if_icmp .ge 27, 3) := by decide +kernel
theorem dX0_whereIs_8 : decode cX0_whereIs 8 = .ok (.aload_n 0, 1) := by decide +kernel
theorem dX0_whereIs_9 : decode cX0_whereIs 9 = .ok (.getfield 43, 3) := by decide +kernel
theorem dX0_whereIs_12 : decode cX0_whereIs 12 = .ok (.getfield 138, 3) := by decide +kernel
theorem dX0_whereIs_15 : decode cX0_whereIs 15 = .ok (.iload_n 2, 1) := by decide +kernel
theorem dX0_whereIs_16 : decode cX0_whereIs 16 = .ok (.aaload, 1) := by decide +kernel
theorem dX0_whereIs_17 : decode cX0_whereIs 17 = .ok (.getfield 142, 3) := by decide +kernel
theorem dX0_whereIs_20 : decode cX0_whereIs 20 = .ok (.iload_n 1, 1) := by decide +kernel
theorem dX0_whereIs_21 : decode cX0_whereIs 21 = .ok (.if_icmp .ne 5, 3) := by decide +kernel
theorem dX0_whereIs_24 : decode cX0_whereIs 24 = .ok (.iload_n 2, 1) := by decide +kernel
theorem dX0_whereIs_25 : decode cX0_whereIs 25 = .ok (.ireturn, 1) := by decide +kernel
theorem dX0_whereIs_26 : decode cX0_whereIs 26 = .ok (.iinc 2 1, 3) := by decide +kernel
theorem dX0_whereIs_29 : decode cX0_whereIs 29 = .ok (.goto (-27), 3) := by decide +kernel
theorem dX0_whereIs_32 : decode cX0_whereIs 32 = .ok (.iconst (-1), 1) := by decide +kernel
theorem dX0_whereIs_33 : decode cX0_whereIs 33 = .ok (.ireturn, 1) := by decide +kernel
theorem yd_X0_whereIs : yX0_whereIs.cls ≠ "java/lang/invoke/MethodHandle" ∧ yX0_whereIs.cls ≠ "java/lang/invoke/VarHandle" ∧ (parseMethodDescriptor yX0_whereIs.desc).map (fun d => d.parameters.length) = some 1 := by decide +kernel
theorem fl_X0_43_0 : FLk RX0 43 0 7 "LPalaceOfRooms$House;" := ⟨RX0, TX0, 22, "PalaceOfRooms", rfl, by decide, (fun q => by have h1 := q.1; have h2 := q.2; omega), rfl, in_X0, Or.inl q258, Or.inl rfl⟩
theorem fl_X0_138_1 : FLk RX0 138 1 0 "[LPalaceOfRooms$Corner;" := ⟨RX1, TX1, 2, "PalaceOfRooms$House", rfl, by decide, (fun q => by have h1 := q.1; have h2 := q.2; omega), rfl, in_X1, Or.inr (List.mem_of_getElem? (i := 3) rfl), Or.inl rfl⟩
theorem fl_X0_142_3 : FLk RX0 142 3 0 "I" := ⟨RX3, TX3, 4, "PalaceOfRooms$Corner", rfl, by decide, (fun q => by have h1 := q.1; have h2 := q.2; omega), rfl, in_X3, Or.inl q113, Or.inr q111⟩
abbrev rm_X0_whereIs : Room := { frames := 0, cells := 0, slots := 0, locals := 0 }
set_option maxHeartbeats 4000000 in
theorem w_X0_whereIs_2_b {p : Program} {l : Launch} {e : Env} {s : State} {m : MethodId} {args : Array Value} {below : List Frame} {meth : Method} {c : Code} {g : Gl} (X : FX g p m c s args meth cX0_whereIs 3 RX0 (some .int) "whereIs") {r : Int32 × Hp} {rec2 : Int32 → Option (Int32 × Hp)} {σ : Hp} {x0 : Nat} {x1 : Int32} {x2 : Int32} (hr2 : ∀ (st : Int32), rec2 st = some r → ∀ (H : Heap) (locs : List Loc) (ls : Array Slot), HV g σ H → FR g locs → lv_has ls 3 [(0, .ref x0), (1, .int x1), (2, .int st)] → W p l e rm_X0_whereIs s m args below meth c H locs 0 0 (MQ below (Qi g r) args s 0 0 (frN g)) (F0 m 2 ls [])) {H : Heap} {locs : List Loc} {ls : Array Slot} (h : B_X0_whereIs_2 σ x0 x1 rec2 x2 = some r) (hV : HV g σ H) (hF : FR g locs) (hl : lv_has ls 3 [(0, .ref x0), (1, .int x1), (2, .int x2)]) : W p l e rm_X0_whereIs s m args below meth c H locs 0 0 (MQ below (Qi g r) args s 0 0 (frN g)) (F0 m 2 ls []) := by
  unfold B_X0_whereIs_2 at h
  refine lv_iload_n X.1 X.2.1 dX0_whereIs_2 rfl (lv_at hl 2 rfl) ?_
  refine lv_bipush (v := 48) X.1 X.2.1 dX0_whereIs_3 (by decide) ?_
  refine r_ge (tgt := 32) X.1 X.2.1 dX0_whereIs_5 (by decide) h (fun h => ?_) (fun h => ?_)
  · refine lv_iconst (v := (-1)) X.1 X.2.1 dX0_whereIs_32 (by decide) ?_
    exact r_iret X hV hF h dX0_whereIs_33
  · refine lv_aload_n X.1 X.2.1 dX0_whereIs_8 rfl (lv_at hl 0 rfl) ?_
    refine r_gR X hV fl_X0_43_0 (by decide) dX0_whereIs_9 h (fun v1 h => ?_)
    refine r_gR X hV fl_X0_138_1 (by decide) dX0_whereIs_12 h (fun v2 h => ?_)
    refine lv_iload_n X.1 X.2.1 dX0_whereIs_15 rfl (lv_at hl 2 rfl) ?_
    refine r_aa X hV dX0_whereIs_16 (by decide) h (fun v3 h => ?_)
    refine r_gI X hV fl_X0_142_3 dX0_whereIs_17 h (fun v4 h => ?_)
    refine lv_iload_n X.1 X.2.1 dX0_whereIs_20 rfl (lv_at hl 1 rfl) ?_
    refine r_ne (tgt := 26) X.1 X.2.1 dX0_whereIs_21 (by decide) h (fun h => ?_) (fun h => ?_)
    · refine lv_iinc (v := x2 + 1) (lv' := [(2, .int (x2 + 1)), (0, .ref x0), (1, .int x1)]) X.1 X.2.1 dX0_whereIs_26 hl (k := 2) rfl rfl (by decide) rfl (fun ls hl => ?_)
      refine lv_goto (tgt := 2) X.1 X.2.1 dX0_whereIs_29 (by decide) ?_
      exact hr2 (x2 + 1) h _ _ _ hV hF (lv_sub hl [1, 2, 0] rfl)
    · refine lv_iload_n X.1 X.2.1 dX0_whereIs_24 rfl (lv_at hl 2 rfl) ?_
      exact r_iret X hV hF h dX0_whereIs_25
set_option maxHeartbeats 4000000 in
theorem w_X0_whereIs_2 {p : Program} {l : Launch} {e : Env} {s : State} {m : MethodId} {args : Array Value} {below : List Frame} {meth : Method} {c : Code} {g : Gl} (X : FX g p m c s args meth cX0_whereIs 3 RX0 (some .int) "whereIs") {r : Int32 × Hp} {σ : Hp} {x0 : Nat} {x1 : Int32}  : ∀ (n : Nat) (st : Int32), L_X0_whereIs_2 σ x0 x1 n st = some r → ∀ (H : Heap) (locs : List Loc) (ls : Array Slot), HV g σ H → FR g locs → lv_has ls 3 [(0, .ref x0), (1, .int x1), (2, .int st)] → W p l e rm_X0_whereIs s m args below meth c H locs 0 0 (MQ below (Qi g r) args s 0 0 (frN g)) (F0 m 2 ls []) := by
  intro n
  induction n with
  | zero =>
    intro st h
    rw [L_X0_whereIs_2_0] at h
    cases h
  | succ n ih =>
    intro st h H locs ls hV hF hl
    rw [L_X0_whereIs_2_s] at h
    exact w_X0_whereIs_2_b X  ih h hV hF hl
set_option maxHeartbeats 4000000 in
theorem c_X0_whereIs (l : Launch) {g : Gl} {σ : Hp} {x0 : Nat} {x1 : Int32} {r : Int32 × Hp} (h : F_X0_whereIs σ x0 x1 = some r) : Met l yX0_whereIs (ws_ yX0_whereIs cX0_whereIs 3 (some .int)) rm_X0_whereIs (va_Pc [.ref x0, .int x1] (WV g σ)) (Qi g r) 0 0 (frN g) := by
  refine ct_of (by decide) (Nat.le_of_ble_eq_true rfl) ?_
  intro p e s m below meth c ls X hV hl
  have hF : FR g [] := FR_nil
  unfold F_X0_whereIs at h
  have hl : lv_has ls 3 [(0, .ref x0), (1, .int x1)] := hl
  have X : FX g p m c s _ meth cX0_whereIs 3 RX0 (some .int) "whereIs" := X
  obtain ⟨-, h⟩ := gd_inv h
  refine lv_iconst (v := 0) X.1 X.2.1 dX0_whereIs_0 (by decide) ?_
  refine lv_istore_n (lv' := [(2, .int 0), (0, .ref x0), (1, .int x1)]) X.1 X.2.1 dX0_whereIs_1 rfl hl (by decide) rfl (fun ls hl => ?_)
  exact w_X0_whereIs_2 X  FU 0 h _ _ _ hV hF (lv_sub hl [1, 2, 0] rfl)
/-! PalaceOfRooms$Kept.lay for classes {0: 4} -/
theorem dX2_lay_0 : decode cX2_lay 0 = .ok (.aload_n 0, 1) := by decide +kernel
theorem dX2_lay_1 : decode cX2_lay 1 = .ok (.iload_n 1, 1) := by decide +kernel
theorem dX2_lay_2 : decode cX2_lay 2 = .ok (.putfield 9, 3) := by decide +kernel
theorem dX2_lay_5 : decode cX2_lay 5 = .ok (.aload_n 0, 1) := by decide +kernel
theorem dX2_lay_6 : decode cX2_lay 6 = .ok (.iload_n 2, 1) := by decide +kernel
theorem dX2_lay_7 : decode cX2_lay 7 = .ok (.putfield 15, 3) := by decide +kernel
theorem dX2_lay_10 : decode cX2_lay 10 = .ok (.return_, 1) := by decide +kernel
theorem yd_X2_lay : yX2_lay.cls ≠ "java/lang/invoke/MethodHandle" ∧ yX2_lay.cls ≠ "java/lang/invoke/VarHandle" ∧ (parseMethodDescriptor yX2_lay.desc).map (fun d => d.parameters.length) = some 2 := by decide +kernel
theorem fp_X2_15_4 : FPk RX2 15 4 1 "I" false := ⟨RX4, TX4, 2, "PalaceOfRooms$Kept", tyX4, rfl, by decide, (fun q => by have h1 := q.1; have h2 := q.2; omega), rfl, in_X4, tyX4_ok, (fun a ha b hb h => Or.inl (nmX4 a ha b hb h)), rfl, (fun q => by cases q), (Or.inl q120), Or.inl rfl⟩
abbrev rm_X2_lay_4 : Room := { frames := 0, cells := 0, slots := 0, locals := 0 }
set_option maxHeartbeats 4000000 in
theorem c_X2_lay_4 (l : Launch) {g : Gl} {σ : Hp} {x0 : Nat} {x1 : Int32} {x2 : Int32} {r : Hp} (h : F_X2_lay_4 σ x0 x1 x2 = some r) : Met l yX2_lay (ws_ yX2_lay cX2_lay 3 none) rm_X2_lay_4 (va_Pc [.ref x0, .int x1, .int x2] (WV g σ)) (Qv g r) 0 0 (frN g) := by
  refine ct_of (by decide) (Nat.le_of_ble_eq_true rfl) ?_
  intro p e s m below meth c ls X hV hl
  have hF : FR g [] := FR_nil
  unfold F_X2_lay_4 at h
  have hl : lv_has ls 3 [(0, .ref x0), (1, .int x1), (2, .int x2)] := hl
  have X : FX g p m c s _ meth cX2_lay 3 RX2 none "lay" := X
  obtain ⟨-, h⟩ := gd_inv h
  refine lv_aload_n X.1 X.2.1 dX2_lay_0 rfl (lv_at hl 0 rfl) ?_
  refine lv_iload_n X.1 X.2.1 dX2_lay_1 rfl (lv_at hl 1 rfl) ?_
  refine r_pI X hV hF fp_X2_9_4 (fun q => by cases q) dX2_lay_2 h (fun s1 H locs hV hF h => ?_)
  refine lv_aload_n X.1 X.2.1 dX2_lay_5 rfl (lv_at hl 0 rfl) ?_
  refine lv_iload_n X.1 X.2.1 dX2_lay_6 rfl (lv_at hl 2 rfl) ?_
  refine r_pI X hV hF fp_X2_15_4 (fun q => by cases q) dX2_lay_7 h (fun s2 H locs hV hF h => ?_)
  exact r_vret X hV hF h dX2_lay_10
/-! PalaceOfRooms$Kept.lay for classes {0: 3} -/
theorem fp_X2_15_3 : FPk RX2 15 3 1 "I" false := ⟨RX3, TX3, 4, "PalaceOfRooms$Kept", tyX3, rfl, by decide, (fun q => by have h1 := q.1; have h2 := q.2; omega), rfl, in_X3, tyX3_ok, (fun a ha b hb h => Or.inl (nmX3 a ha b hb h)), rfl, (fun q => by cases q), (Or.inl q120), Or.inl rfl⟩
abbrev rm_X2_lay_3 : Room := { frames := 0, cells := 0, slots := 0, locals := 0 }
set_option maxHeartbeats 4000000 in
theorem c_X2_lay_3 (l : Launch) {g : Gl} {σ : Hp} {x0 : Nat} {x1 : Int32} {x2 : Int32} {r : Hp} (h : F_X2_lay_3 σ x0 x1 x2 = some r) : Met l yX2_lay (ws_ yX2_lay cX2_lay 3 none) rm_X2_lay_3 (va_Pc [.ref x0, .int x1, .int x2] (WV g σ)) (Qv g r) 0 0 (frN g) := by
  refine ct_of (by decide) (Nat.le_of_ble_eq_true rfl) ?_
  intro p e s m below meth c ls X hV hl
  have hF : FR g [] := FR_nil
  unfold F_X2_lay_3 at h
  have hl : lv_has ls 3 [(0, .ref x0), (1, .int x1), (2, .int x2)] := hl
  have X : FX g p m c s _ meth cX2_lay 3 RX2 none "lay" := X
  obtain ⟨-, h⟩ := gd_inv h
  refine lv_aload_n X.1 X.2.1 dX2_lay_0 rfl (lv_at hl 0 rfl) ?_
  refine lv_iload_n X.1 X.2.1 dX2_lay_1 rfl (lv_at hl 1 rfl) ?_
  refine r_pI X hV hF fp_X2_9_3 (fun q => by cases q) dX2_lay_2 h (fun s1 H locs hV hF h => ?_)
  refine lv_aload_n X.1 X.2.1 dX2_lay_5 rfl (lv_at hl 0 rfl) ?_
  refine lv_iload_n X.1 X.2.1 dX2_lay_6 rfl (lv_at hl 2 rfl) ?_
  refine r_pI X hV hF fp_X2_15_3 (fun q => by cases q) dX2_lay_7 h (fun s2 H locs hV hF h => ?_)
  exact r_vret X hV hF h dX2_lay_10
/-! PalaceOfRooms$Corner.cover -/
theorem dX3_cover_0 : decode cX3_cover 0 = .ok (.aload_n 0, 1) := by decide +kernel
theorem dX3_cover_1 : decode cX3_cover 1 = .ok (.getfield 22, 3) := by decide +kernel
theorem dX3_cover_4 : decode cX3_cover 4 = .ok (.istore_n 3, 1) := by decide +kernel
theorem dX3_cover_5 : decode cX3_cover 5 = .ok (.aload_n 0, 1) := by decide +kernel
theorem dX3_cover_6 : decode cX3_cover 6 = .ok (.getfield 12, 3) := by decide +kernel
theorem dX3_cover_9 : decode cX3_cover 9 = .ok (.aload_n 0, 1) := by decide +kernel
theorem dX3_cover_10 : decode cX3_cover 10 = .ok (.getfield 25, 3) := by decide +kernel
theorem dX3_cover_13 : decode cX3_cover 13 = .ok (.ifCond .le 10, 3) := by decide +kernel
theorem dX3_cover_16 : decode cX3_cover 16 = .ok (.aload_n 0, 1) := by decide +kernel
theorem dX3_cover_17 : decode cX3_cover 17 = .ok (.getfield 22, 3) := by decide +kernel
theorem dX3_cover_20 : decode cX3_cover 20 = .ok (.goto 4, 3) := by decide +kernel
theorem dX3_cover_23 : decode cX3_cover 23 = .ok (.iconst (-1), 1) := by decide +kernel
theorem dX3_cover_24 : decode cX3_cover 24 = .ok (.aload_n 0, 1) := by decide +kernel
theorem dX3_cover_25 : decode cX3_cover 25 = .ok (.getfield 25, 3) := by decide +kernel
theorem dX3_cover_28 : decode cX3_cover 28 = .ok (.invokevirtual 28, 3) := by decide +kernel
theorem dX3_cover_31 : decode cX3_cover 31 = .ok (.aload_n 0, 1) := by decide +kernel
theorem dX3_cover_32 : decode cX3_cover 32 = .ok (.iload_n 1, 1) := by decide +kernel
theorem dX3_cover_33 : decode cX3_cover 33 = .ok (.bipush 100, 2) := by decide +kernel
theorem dX3_cover_35 : decode cX3_cover 35 = .ok (.invokevirtual 32, 3) := by decide +kernel
theorem dX3_cover_38 : decode cX3_cover 38 = .ok (.aload_n 0, 1) := by decide +kernel
theorem dX3_cover_39 : decode cX3_cover 39 = .ok (.iload_n 2, 1) := by decide +kernel
theorem dX3_cover_40 : decode cX3_cover 40 = .ok (.putfield 18, 3) := by decide +kernel
theorem dX3_cover_43 : decode cX3_cover 43 = .ok (.iload_n 3, 1) := by decide +kernel
theorem dX3_cover_44 : decode cX3_cover 44 = .ok (.ireturn, 1) := by decide +kernel
theorem yd_X3_cover : yX3_cover.cls ≠ "java/lang/invoke/MethodHandle" ∧ yX3_cover.cls ≠ "java/lang/invoke/VarHandle" ∧ (parseMethodDescriptor yX3_cover.desc).map (fun d => d.parameters.length) = some 2 := by decide +kernel
theorem fl_X3_25_3 : FLk RX3 25 3 1 "I" := ⟨RX3, TX3, 4, "PalaceOfRooms$Corner", rfl, by decide, (fun q => by have h1 := q.1; have h2 := q.2; omega), rfl, in_X3, Or.inl q118, Or.inr q119⟩
theorem fl_X3_22_3 : FLk RX3 22 3 0 "I" := ⟨RX3, TX3, 4, "PalaceOfRooms$Corner", rfl, by decide, (fun q => by have h1 := q.1; have h2 := q.2; omega), rfl, in_X3, Or.inl q110, Or.inr q111⟩
theorem fl_X3_12_3 : FLk RX3 12 3 2 "LPalaceOfRooms$Ghost;" := ⟨RX3, TX3, 4, "PalaceOfRooms$Corner", rfl, by decide, (fun q => by have h1 := q.1; have h2 := q.2; omega), rfl, in_X3, Or.inl q132, Or.inl rfl⟩
abbrev rm_X3_cover : Room := { frames := 1, cells := 0, slots := 0, locals := 22 }
set_option maxHeartbeats 4000000 in
theorem w_X3_cover_24 {p : Program} {l : Launch} {e : Env} {s : State} {m : MethodId} {args : Array Value} {below : List Frame} {meth : Method} {c : Code} {g : Gl} (X : FX g p m c s args meth cX3_cover 4 RX3 (some .int) "cover") {r : Int32 × Hp} {σ : Hp} {x0 : Nat} {x1 : Int32} {x2 : Int32} {x3 : Int32} {y0 : Int32} {y1 : Nat}  {H : Heap} {locs : List Loc} {ls : Array Slot} (h : F_X3_cover_24 σ x0 x1 x2 x3 y0 y1 = some r) (hV : HV g σ H) (hF : FR g locs) (hl : lv_has ls 4 [(0, .ref x0), (1, .int x1), (2, .int x2), (3, .int x3)]) : W p l e rm_X3_cover s m args below meth c H locs 0 0 (MQ below (Qi g r) args s 0 0 (frN g)) (F0 m 24 ls [.int y0, .ref y1]) := by
  unfold F_X3_cover_24 at h
  refine lv_aload_n X.1 X.2.1 dX3_cover_24 rfl (lv_at hl 0 rfl) ?_
  refine r_gI X hV fl_X3_25_3 dX3_cover_25 h (fun v1 h => ?_)
  obtain ⟨s1, hc, h⟩ := b1_inv h
  refine r_cv (va_runU (C := RX4) (x := ⟨"PalaceOfRooms$Ghost", "lay", "(II)V"⟩) (As := [.int y0, .int v1]) (rest := []) (cfX X) (c_X2_lay_4 l hc) (va_cwU (owner := RX2) 2 X.2.2.2.2.1 (lw_app (lw_in _ [393, 394, 396, 397, 51] (by decide +kernel) (by decide +kernel)) (lw_meth q398)) rfl rfl rfl rfl yd_X2_lay ⟨Nat.le_of_ble_eq_true rfl, Nat.le_of_ble_eq_true rfl⟩) (preV X hV (F_X2_lay_4_g hc) rfl) rfl rfl hl.1 rfl (lv_room (Nat.le_of_ble_eq_true rfl)) dX3_cover_28 ⟨(Nat.le_of_ble_eq_true rfl), (Nat.le_of_ble_eq_true rfl)⟩) hF (fun H locs hV hF => ?_)
  refine lv_aload_n X.1 X.2.1 dX3_cover_31 rfl (lv_at hl 0 rfl) ?_
  refine lv_iload_n X.1 X.2.1 dX3_cover_32 rfl (lv_at hl 1 rfl) ?_
  refine lv_bipush (v := 100) X.1 X.2.1 dX3_cover_33 (by decide) ?_
  obtain ⟨s2, hc, h⟩ := b1_inv h
  refine r_cv (va_runU (C := RX3) (x := ⟨"PalaceOfRooms$Corner", "lay", "(II)V"⟩) (As := [.int x1, .int 100]) (rest := []) (cfX X) (c_X2_lay_3 l hc) (va_cwU (owner := RX2) 2 X.2.2.2.2.1 (lw_app (lw_in _ [399, 400, 401, 397, 51] (by decide +kernel) (by decide +kernel)) (lw_meth q398)) rfl rfl rfl rfl yd_X2_lay ⟨Nat.le_of_ble_eq_true rfl, Nat.le_of_ble_eq_true rfl⟩) (preV X hV (F_X2_lay_3_g hc) rfl) rfl rfl hl.1 rfl (lv_room (Nat.le_of_ble_eq_true rfl)) dX3_cover_35 ⟨(Nat.le_of_ble_eq_true rfl), (Nat.le_of_ble_eq_true rfl)⟩) hF (fun H locs hV hF => ?_)
  refine lv_aload_n X.1 X.2.1 dX3_cover_38 rfl (lv_at hl 0 rfl) ?_
  refine lv_iload_n X.1 X.2.1 dX3_cover_39 rfl (lv_at hl 2 rfl) ?_
  refine r_pI X hV hF fp_X3_18_3 (fun q => by cases q) dX3_cover_40 h (fun s3 H locs hV hF h => ?_)
  refine lv_iload_n X.1 X.2.1 dX3_cover_43 rfl (lv_at hl 3 rfl) ?_
  exact r_iret X hV hF h dX3_cover_44
set_option maxHeartbeats 4000000 in
theorem c_X3_cover (l : Launch) {g : Gl} {σ : Hp} {x0 : Nat} {x1 : Int32} {x2 : Int32} {r : Int32 × Hp} (h : F_X3_cover σ x0 x1 x2 = some r) : Met l yX3_cover (ws_ yX3_cover cX3_cover 4 (some .int)) rm_X3_cover (va_Pc [.ref x0, .int x1, .int x2] (WV g σ)) (Qi g r) 0 0 (frN g) := by
  refine ct_of (by decide) (Nat.le_of_ble_eq_true rfl) ?_
  intro p e s m below meth c ls X hV hl
  have hF : FR g [] := FR_nil
  unfold F_X3_cover at h
  have hl : lv_has ls 4 [(0, .ref x0), (1, .int x1), (2, .int x2)] := hl
  have X : FX g p m c s _ meth cX3_cover 4 RX3 (some .int) "cover" := X
  obtain ⟨-, h⟩ := gd_inv h
  refine lv_aload_n X.1 X.2.1 dX3_cover_0 rfl (lv_at hl 0 rfl) ?_
  refine r_gI X hV fl_X3_22_3 dX3_cover_1 h (fun v1 h => ?_)
  refine lv_istore_n (lv' := [(3, .int v1), (0, .ref x0), (1, .int x1), (2, .int x2)]) X.1 X.2.1 dX3_cover_4 rfl hl (by decide) rfl (fun ls hl => ?_)
  refine lv_aload_n X.1 X.2.1 dX3_cover_5 rfl (lv_at hl 1 rfl) ?_
  refine r_gR X hV fl_X3_12_3 (by decide) dX3_cover_6 h (fun v2 h => ?_)
  refine lv_aload_n X.1 X.2.1 dX3_cover_9 rfl (lv_at hl 1 rfl) ?_
  refine r_gI X hV fl_X3_25_3 dX3_cover_10 h (fun v3 h => ?_)
  refine r_ifle (tgt := 23) X.1 X.2.1 dX3_cover_13 (by decide) h (fun h => ?_) (fun h => ?_)
  · refine lv_iconst (v := (-1)) X.1 X.2.1 dX3_cover_23 (by decide) ?_
    exact w_X3_cover_24 X  h hV hF (lv_sub hl [1, 2, 3, 0] rfl)
  · refine lv_aload_n X.1 X.2.1 dX3_cover_16 rfl (lv_at hl 1 rfl) ?_
    refine r_gI X hV fl_X3_22_3 dX3_cover_17 h (fun v4 h => ?_)
    refine lv_goto (tgt := 24) X.1 X.2.1 dX3_cover_20 (by decide) ?_
    exact w_X3_cover_24 X  h hV hF (lv_sub hl [1, 2, 3, 0] rfl)
/-! PalaceOfRooms.put -/
theorem dX0_put_0 : decode cX0_put 0 = .ok (.iload_n 1, 1) := by decide +kernel
theorem dX0_put_1 : decode cX0_put 1 = .ok (.invokestatic 116, 3) := by decide +kernel
theorem dX0_put_4 : decode cX0_put 4 = .ok (.ifCond .eq 10, 3) := by decide +kernel
theorem dX0_put_7 : decode cX0_put 7 = .ok (.iload_n 2, 1) := by decide +kernel
theorem dX0_put_8 : decode cX0_put 8 = .ok (.invokestatic 147, 3) := by decide +kernel
theorem dX0_put_11 : decode cX0_put 11 = .ok (.ifCond .ne 6, 3) := by decide +kernel
theorem dX0_put_14 : decode cX0_put 14 = .ok (.bipush (-2), 2) := by decide +kernel
theorem dX0_put_16 : decode cX0_put 16 = .ok (.ireturn, 1) := by decide +kernel
theorem dX0_put_17 : decode cX0_put 17 = .ok (.aload_n 0, 1) := by decide +kernel
theorem dX0_put_18 : decode cX0_put 18 = .ok (.iload_n 1, 1) := by decide +kernel
theorem dX0_put_19 : decode cX0_put 19 = .ok (.invokevirtual 150, 3) := by decide +kernel
theorem dX0_put_22 : decode cX0_put 22 = .ok (.iconst (-1), 1) := by decide +kernel
theorem dX0_put_23 : decode cX0_put 23 = .ok (.if_icmp .eq 8, 3) := by decide +kernel
theorem dX0_put_26 : decode cX0_put 26 = .ok (.bipush (-4), 2) := by decide +kernel
theorem dX0_put_28 : decode cX0_put 28 = .ok (.goto 20, 3) := by decide +kernel
theorem dX0_put_31 : decode cX0_put 31 = .ok (.aload_n 0, 1) := by decide +kernel
theorem dX0_put_32 : decode cX0_put 32 = .ok (.getfield 43, 3) := by decide +kernel
theorem dX0_put_35 : decode cX0_put 35 = .ok (.getfield 138, 3) := by decide +kernel
theorem dX0_put_38 : decode cX0_put 38 = .ok (.iload_n 2, 1) := by decide +kernel
theorem dX0_put_39 : decode cX0_put 39 = .ok (.aaload, 1) := by decide +kernel
theorem dX0_put_40 : decode cX0_put 40 = .ok (.iload_n 1, 1) := by decide +kernel
theorem dX0_put_41 : decode cX0_put 41 = .ok (.aload_n 0, 1) := by decide +kernel
theorem dX0_put_42 : decode cX0_put 42 = .ok (.getfield 153, 3) := by decide +kernel
theorem dX0_put_45 : decode cX0_put 45 = .ok (.invokevirtual 156, 3) := by decide +kernel
theorem dX0_put_48 : decode cX0_put 48 = .ok (.ireturn, 1) := by decide +kernel
theorem yd_X0_put : yX0_put.cls ≠ "java/lang/invoke/MethodHandle" ∧ yX0_put.cls ≠ "java/lang/invoke/VarHandle" ∧ (parseMethodDescriptor yX0_put.desc).map (fun d => d.parameters.length) = some 2 := by decide +kernel
theorem fl_X0_153_0 : FLk RX0 153 0 6 "I" := ⟨RX0, TX0, 22, "PalaceOfRooms", rfl, by decide, (fun q => by have h1 := q.1; have h2 := q.2; omega), rfl, in_X0, Or.inl q257, Or.inl rfl⟩
abbrev rm_X0_put : Room := { frames := 2, cells := 0, slots := 0, locals := 45 }
set_option maxHeartbeats 4000000 in
theorem c_X0_put (l : Launch) {g : Gl} {σ : Hp} {x0 : Nat} {x1 : Int32} {x2 : Int32} {r : Int32 × Hp} (h : F_X0_put σ x0 x1 x2 = some r) : Met l yX0_put (ws_ yX0_put cX0_put 3 (some .int)) rm_X0_put (va_Pc [.ref x0, .int x1, .int x2] (WV g σ)) (Qi g r) 0 0 (frN g) := by
  refine ct_of (by decide) (Nat.le_of_ble_eq_true rfl) ?_
  intro p e s m below meth c ls X hV hl
  have hF : FR g [] := FR_nil
  unfold F_X0_put at h
  have hl : lv_has ls 3 [(0, .ref x0), (1, .int x1), (2, .int x2)] := hl
  have X : FX g p m c s _ meth cX0_put 3 RX0 (some .int) "put" := X
  obtain ⟨-, h⟩ := gd_inv h
  refine lv_iload_n X.1 X.2.1 dX0_put_0 rfl (lv_at hl 1 rfl) ?_
  obtain ⟨v1, s1, hc, h⟩ := b2_inv h
  refine r_ci (va_runS (As := [.int x1]) (rest := []) (cfX X) (c_X0_isThing l hc) (va_cwS 1 X.2.2.2.2.1 (lw_S q346 q347 q49 q348) rfl rfl rfl yd_X0_isThing ⟨Nat.le_of_ble_eq_true rfl, Nat.le_of_ble_eq_true rfl⟩) (preS X hV) rfl rfl hl.1 rfl (lv_room (Nat.le_of_ble_eq_true rfl)) dX0_put_1 ⟨(Nat.le_of_ble_eq_true rfl), (Nat.le_of_ble_eq_true rfl)⟩) hF (fun H locs hV hF => ?_)
  refine r_ifeq (tgt := 14) X.1 X.2.1 dX0_put_4 (by decide) h (fun h => ?_) (fun h => ?_)
  · refine lv_bipush (v := (-2)) X.1 X.2.1 dX0_put_14 (by decide) ?_
    exact r_iret X hV hF h dX0_put_16
  · refine lv_iload_n X.1 X.2.1 dX0_put_7 rfl (lv_at hl 2 rfl) ?_
    obtain ⟨v2, s2, hc, h⟩ := b2_inv h
    refine r_ci (va_runS (As := [.int x2]) (rest := []) (cfX X) (c_X0_isCorner l hc) (va_cwS 1 X.2.2.2.2.1 (lw_S q381 q382 q49 q383) rfl rfl rfl yd_X0_isCorner ⟨Nat.le_of_ble_eq_true rfl, Nat.le_of_ble_eq_true rfl⟩) (preS X hV) rfl rfl hl.1 rfl (lv_room (Nat.le_of_ble_eq_true rfl)) dX0_put_8 ⟨(Nat.le_of_ble_eq_true rfl), (Nat.le_of_ble_eq_true rfl)⟩) hF (fun H locs hV hF => ?_)
    refine r_ifne (tgt := 17) X.1 X.2.1 dX0_put_11 (by decide) h (fun h => ?_) (fun h => ?_)
    · refine lv_aload_n X.1 X.2.1 dX0_put_17 rfl (lv_at hl 0 rfl) ?_
      refine lv_iload_n X.1 X.2.1 dX0_put_18 rfl (lv_at hl 1 rfl) ?_
      obtain ⟨v3, s3, hc, h⟩ := b2_inv h
      refine r_ci (va_runV (C := RX0) (As := [.int x1]) (rest := []) (cfX X) (c_X0_whereIs l hc) (cwV 1 X.2.2.2.2.1 (lw_V q385 q387 qs2 q49 q388) rfl rfl rfl ⟨rfl, yd_X0_whereIs⟩ ⟨Nat.le_of_ble_eq_true rfl, Nat.le_of_ble_eq_true rfl⟩) (preV X hV (F_X0_whereIs_g hc) rfl) rfl rfl hl.1 rfl (lv_room (Nat.le_of_ble_eq_true rfl)) dX0_put_19 ⟨(Nat.le_of_ble_eq_true rfl), (Nat.le_of_ble_eq_true rfl)⟩) hF (fun H locs hV hF => ?_)
      refine lv_iconst (v := (-1)) X.1 X.2.1 dX0_put_22 (by decide) ?_
      refine r_eq (tgt := 31) X.1 X.2.1 dX0_put_23 (by decide) h (fun h => ?_) (fun h => ?_)
      · refine lv_aload_n X.1 X.2.1 dX0_put_31 rfl (lv_at hl 0 rfl) ?_
        refine r_gR X hV fl_X0_43_0 (by decide) dX0_put_32 h (fun v4 h => ?_)
        refine r_gR X hV fl_X0_138_1 (by decide) dX0_put_35 h (fun v5 h => ?_)
        refine lv_iload_n X.1 X.2.1 dX0_put_38 rfl (lv_at hl 2 rfl) ?_
        refine r_aa X hV dX0_put_39 (by decide) h (fun v6 h => ?_)
        refine lv_iload_n X.1 X.2.1 dX0_put_40 rfl (lv_at hl 1 rfl) ?_
        refine lv_aload_n X.1 X.2.1 dX0_put_41 rfl (lv_at hl 0 rfl) ?_
        refine r_gI X hV fl_X0_153_0 dX0_put_42 h (fun v7 h => ?_)
        obtain ⟨v8, s4, hc, h⟩ := b2_inv h
        refine r_ci (va_runV (C := RX3) (As := [.int x1, .int v7]) (rest := []) (cfX X) (c_X3_cover l hc) (cwV 2 X.2.2.2.2.1 (lw_V q389 q390 q391 q52 q392) rfl rfl rfl ⟨rfl, yd_X3_cover⟩ ⟨Nat.le_of_ble_eq_true rfl, Nat.le_of_ble_eq_true rfl⟩) (preV X hV (F_X3_cover_g hc) rfl) rfl rfl hl.1 rfl (lv_room (Nat.le_of_ble_eq_true rfl)) dX0_put_45 ⟨(Nat.le_of_ble_eq_true rfl), (Nat.le_of_ble_eq_true rfl)⟩) hF (fun H locs hV hF => ?_)
        exact r_iret X hV hF h dX0_put_48
      · refine lv_bipush (v := (-4)) X.1 X.2.1 dX0_put_26 (by decide) ?_
        refine lv_goto (tgt := 48) X.1 X.2.1 dX0_put_28 (by decide) ?_
        exact r_iret X hV hF h dX0_put_48
    · refine lv_bipush (v := (-2)) X.1 X.2.1 dX0_put_14 (by decide) ?_
      exact r_iret X hV hF h dX0_put_16
/-! PalaceOfRooms$Kept.isThere for classes {0: 3} -/
theorem dX2_isThere_0 : decode cX2_isThere 0 = .ok (.aload_n 0, 1) := by decide +kernel
theorem dX2_isThere_1 : decode cX2_isThere 1 = .ok (.getfield 9, 3) := by decide +kernel
theorem dX2_isThere_4 : decode cX2_isThere 4 = .ok (.iconst (-1), 1) := by decide +kernel
theorem dX2_isThere_5 : decode cX2_isThere 5 = .ok (.if_icmp .eq 7, 3) := by decide +kernel
theorem dX2_isThere_8 : decode cX2_isThere 8 = .ok (.iconst 1, 1) := by decide +kernel
theorem dX2_isThere_9 : decode cX2_isThere 9 = .ok (.goto 4, 3) := by decide +kernel
theorem dX2_isThere_12 : decode cX2_isThere 12 = .ok (.iconst 0, 1) := by decide +kernel
theorem dX2_isThere_13 : decode cX2_isThere 13 = .ok (.ireturn, 1) := by decide +kernel
theorem yd_X2_isThere : yX2_isThere.cls ≠ "java/lang/invoke/MethodHandle" ∧ yX2_isThere.cls ≠ "java/lang/invoke/VarHandle" ∧ (parseMethodDescriptor yX2_isThere.desc).map (fun d => d.parameters.length) = some 0 := by decide +kernel
theorem fl_X2_9_3 : FLk RX2 9 3 0 "I" := ⟨RX3, TX3, 4, "PalaceOfRooms$Kept", rfl, by decide, (fun q => by have h1 := q.1; have h2 := q.2; omega), rfl, in_X3, Or.inl q109, Or.inl rfl⟩
abbrev rm_X2_isThere_3 : Room := { frames := 0, cells := 0, slots := 0, locals := 0 }
set_option maxHeartbeats 4000000 in
theorem c_X2_isThere_3 (l : Launch) {g : Gl} {σ : Hp} {x0 : Nat} {r : Int32 × Hp} (h : F_X2_isThere_3 σ x0 = some r) : Met l yX2_isThere (ws_ yX2_isThere cX2_isThere 1 (some .boolean)) rm_X2_isThere_3 (va_Pc [.ref x0] (WV g σ)) (Qi g r) 0 0 (frN g) := by
  refine ct_of (by decide) (Nat.le_of_ble_eq_true rfl) ?_
  intro p e s m below meth c ls X hV hl
  have hF : FR g [] := FR_nil
  unfold F_X2_isThere_3 at h
  have hl : lv_has ls 1 [(0, .ref x0)] := hl
  have X : FX g p m c s _ meth cX2_isThere 1 RX2 (some .boolean) "isThere" := X
  obtain ⟨-, h⟩ := gd_inv h
  refine lv_aload_n X.1 X.2.1 dX2_isThere_0 rfl (lv_at hl 0 rfl) ?_
  refine r_gI X hV fl_X2_9_3 dX2_isThere_1 h (fun v1 h => ?_)
  refine lv_iconst (v := (-1)) X.1 X.2.1 dX2_isThere_4 (by decide) ?_
  refine r_eq (tgt := 12) X.1 X.2.1 dX2_isThere_5 (by decide) h (fun h => ?_) (fun h => ?_)
  · refine lv_iconst (v := 0) X.1 X.2.1 dX2_isThere_12 (by decide) ?_
    exact r_zret X hV hF h rfl dX2_isThere_13
  · refine lv_iconst (v := 1) X.1 X.2.1 dX2_isThere_8 (by decide) ?_
    refine lv_goto (tgt := 13) X.1 X.2.1 dX2_isThere_9 (by decide) ?_
    exact r_zret X hV hF h rfl dX2_isThere_13
/-! PalaceOfRooms.clear -/
theorem dX0_clear_0 : decode cX0_clear 0 = .ok (.iload_n 1, 1) := by decide +kernel
theorem dX0_clear_1 : decode cX0_clear 1 = .ok (.invokestatic 147, 3) := by decide +kernel
theorem dX0_clear_4 : decode cX0_clear 4 = .ok (.ifCond .ne 6, 3) := by decide +kernel
theorem dX0_clear_7 : decode cX0_clear 7 = .ok (.bipush (-2), 2) := by decide +kernel
theorem dX0_clear_9 : decode cX0_clear 9 = .ok (.ireturn, 1) := by decide +kernel
theorem dX0_clear_10 : decode cX0_clear 10 = .ok (.aload_n 0, 1) := by decide +kernel
theorem dX0_clear_11 : decode cX0_clear 11 = .ok (.getfield 43, 3) := by decide +kernel
theorem dX0_clear_14 : decode cX0_clear 14 = .ok (.getfield 138, 3) := by decide +kernel
theorem dX0_clear_17 : decode cX0_clear 17 = .ok (.iload_n 1, 1) := by decide +kernel
theorem dX0_clear_18 : decode cX0_clear 18 = .ok (.aaload, 1) := by decide +kernel
theorem dX0_clear_19 : decode cX0_clear 19 = .ok (.astore_n 2, 1) := by decide +kernel
theorem dX0_clear_20 : decode cX0_clear 20 = .ok (.aload_n 2, 1) := by decide +kernel
theorem dX0_clear_21 : decode cX0_clear 21 = .ok (.invokevirtual 159, 3) := by decide +kernel
theorem dX0_clear_24 : decode cX0_clear 24 = .ok (.ifCond .ne 6, 3) := by decide +kernel
theorem dX0_clear_27 : decode cX0_clear 27 = .ok (.bipush (-4), 2) := by decide +kernel
theorem dX0_clear_29 : decode cX0_clear 29 = .ok (.ireturn, 1) := by decide +kernel
theorem dX0_clear_30 : decode cX0_clear 30 = .ok (.aload_n 2, 1) := by decide +kernel
theorem dX0_clear_31 : decode cX0_clear 31 = .ok (.getfield 142, 3) := by decide +kernel
theorem dX0_clear_34 : decode cX0_clear 34 = .ok (.istore_n 3, 1) := by decide +kernel
theorem dX0_clear_35 : decode cX0_clear 35 = .ok (.aload_n 2, 1) := by decide +kernel
theorem dX0_clear_36 : decode cX0_clear 36 = .ok (.iconst (-1), 1) := by decide +kernel
theorem dX0_clear_37 : decode cX0_clear 37 = .ok (.iconst 0, 1) := by decide +kernel
theorem dX0_clear_38 : decode cX0_clear 38 = .ok (.invokevirtual 163, 3) := by decide +kernel
theorem dX0_clear_41 : decode cX0_clear 41 = .ok (.aload_n 2, 1) := by decide +kernel
theorem dX0_clear_42 : decode cX0_clear 42 = .ok (.getfield 167, 3) := by decide +kernel
theorem dX0_clear_45 : decode cX0_clear 45 = .ok (.iconst (-1), 1) := by decide +kernel
theorem dX0_clear_46 : decode cX0_clear 46 = .ok (.iconst 0, 1) := by decide +kernel
theorem dX0_clear_47 : decode cX0_clear 47 = .ok (.invokevirtual 171, 3) := by decide +kernel
theorem dX0_clear_50 : decode cX0_clear 50 = .ok (.iload_n 3, 1) := by decide +kernel
theorem dX0_clear_51 : decode cX0_clear 51 = .ok (.ireturn, 1) := by decide +kernel
theorem yd_X0_clear : yX0_clear.cls ≠ "java/lang/invoke/MethodHandle" ∧ yX0_clear.cls ≠ "java/lang/invoke/VarHandle" ∧ (parseMethodDescriptor yX0_clear.desc).map (fun d => d.parameters.length) = some 1 := by decide +kernel
theorem fl_X0_167_3 : FLk RX0 167 3 2 "LPalaceOfRooms$Ghost;" := ⟨RX3, TX3, 4, "PalaceOfRooms$Corner", rfl, by decide, (fun q => by have h1 := q.1; have h2 := q.2; omega), rfl, in_X3, Or.inr (List.mem_of_getElem? (i := 1) rfl), Or.inl rfl⟩
abbrev rm_X0_clear : Room := { frames := 2, cells := 0, slots := 0, locals := 45 }
set_option maxHeartbeats 4000000 in
theorem c_X0_clear (l : Launch) {g : Gl} {σ : Hp} {x0 : Nat} {x1 : Int32} {r : Int32 × Hp} (h : F_X0_clear σ x0 x1 = some r) : Met l yX0_clear (ws_ yX0_clear cX0_clear 4 (some .int)) rm_X0_clear (va_Pc [.ref x0, .int x1] (WV g σ)) (Qi g r) 0 0 (frN g) := by
  refine ct_of (by decide) (Nat.le_of_ble_eq_true rfl) ?_
  intro p e s m below meth c ls X hV hl
  have hF : FR g [] := FR_nil
  unfold F_X0_clear at h
  have hl : lv_has ls 4 [(0, .ref x0), (1, .int x1)] := hl
  have X : FX g p m c s _ meth cX0_clear 4 RX0 (some .int) "clear" := X
  obtain ⟨-, h⟩ := gd_inv h
  refine lv_iload_n X.1 X.2.1 dX0_clear_0 rfl (lv_at hl 1 rfl) ?_
  obtain ⟨v1, s1, hc, h⟩ := b2_inv h
  refine r_ci (va_runS (As := [.int x1]) (rest := []) (cfX X) (c_X0_isCorner l hc) (va_cwS 1 X.2.2.2.2.1 (lw_S q381 q382 q49 q383) rfl rfl rfl yd_X0_isCorner ⟨Nat.le_of_ble_eq_true rfl, Nat.le_of_ble_eq_true rfl⟩) (preS X hV) rfl rfl hl.1 rfl (lv_room (Nat.le_of_ble_eq_true rfl)) dX0_clear_1 ⟨(Nat.le_of_ble_eq_true rfl), (Nat.le_of_ble_eq_true rfl)⟩) hF (fun H locs hV hF => ?_)
  refine r_ifne (tgt := 10) X.1 X.2.1 dX0_clear_4 (by decide) h (fun h => ?_) (fun h => ?_)
  · refine lv_aload_n X.1 X.2.1 dX0_clear_10 rfl (lv_at hl 0 rfl) ?_
    refine r_gR X hV fl_X0_43_0 (by decide) dX0_clear_11 h (fun v2 h => ?_)
    refine r_gR X hV fl_X0_138_1 (by decide) dX0_clear_14 h (fun v3 h => ?_)
    refine lv_iload_n X.1 X.2.1 dX0_clear_17 rfl (lv_at hl 1 rfl) ?_
    refine r_aa X hV dX0_clear_18 (by decide) h (fun v4 h => ?_)
    refine lv_astore_n (lv' := [(2, .ref v4), (0, .ref x0), (1, .int x1)]) X.1 X.2.1 dX0_clear_19 rfl hl (by decide) rfl (fun ls hl => ?_)
    refine lv_aload_n X.1 X.2.1 dX0_clear_20 rfl (lv_at hl 0 rfl) ?_
    obtain ⟨v5, s2, hc, h⟩ := b2_inv h
    refine r_ci (va_runU (C := RX3) (x := ⟨"PalaceOfRooms$Corner", "isThere", "()Z"⟩) (As := []) (rest := []) (cfX X) (c_X2_isThere_3 l hc) (va_cwU (owner := RX2) 0 X.2.2.2.2.1 (lw_app (lw_in _ [406, 407, 409, 410, 51] (by decide +kernel) (by decide +kernel)) (lw_meth q411)) rfl rfl rfl rfl yd_X2_isThere ⟨Nat.le_of_ble_eq_true rfl, Nat.le_of_ble_eq_true rfl⟩) (preV X hV (F_X2_isThere_3_g hc) rfl) rfl rfl hl.1 rfl (lv_room (Nat.le_of_ble_eq_true rfl)) dX0_clear_21 ⟨(Nat.le_of_ble_eq_true rfl), (Nat.le_of_ble_eq_true rfl)⟩) hF (fun H locs hV hF => ?_)
    refine r_ifne (tgt := 30) X.1 X.2.1 dX0_clear_24 (by decide) h (fun h => ?_) (fun h => ?_)
    · refine lv_aload_n X.1 X.2.1 dX0_clear_30 rfl (lv_at hl 0 rfl) ?_
      refine r_gI X hV fl_X0_142_3 dX0_clear_31 h (fun v6 h => ?_)
      refine lv_istore_n (lv' := [(3, .int v6), (2, .ref v4), (0, .ref x0), (1, .int x1)]) X.1 X.2.1 dX0_clear_34 rfl hl (by decide) rfl (fun ls hl => ?_)
      refine lv_aload_n X.1 X.2.1 dX0_clear_35 rfl (lv_at hl 1 rfl) ?_
      refine lv_iconst (v := (-1)) X.1 X.2.1 dX0_clear_36 (by decide) ?_
      refine lv_iconst (v := 0) X.1 X.2.1 dX0_clear_37 (by decide) ?_
      obtain ⟨s3, hc, h⟩ := b1_inv h
      refine r_cv (va_runU (C := RX3) (x := ⟨"PalaceOfRooms$Corner", "lay", "(II)V"⟩) (As := [.int (-1), .int 0]) (rest := []) (cfX X) (c_X2_lay_3 l hc) (va_cwU (owner := RX2) 2 X.2.2.2.2.1 (lw_app (lw_in _ [412, 400, 401, 397, 51] (by decide +kernel) (by decide +kernel)) (lw_meth q398)) rfl rfl rfl rfl yd_X2_lay ⟨Nat.le_of_ble_eq_true rfl, Nat.le_of_ble_eq_true rfl⟩) (preV X hV (F_X2_lay_3_g hc) rfl) rfl rfl hl.1 rfl (lv_room (Nat.le_of_ble_eq_true rfl)) dX0_clear_38 ⟨(Nat.le_of_ble_eq_true rfl), (Nat.le_of_ble_eq_true rfl)⟩) hF (fun H locs hV hF => ?_)
      refine lv_aload_n X.1 X.2.1 dX0_clear_41 rfl (lv_at hl 1 rfl) ?_
      refine r_gR X hV fl_X0_167_3 (by decide) dX0_clear_42 h (fun v8 h => ?_)
      refine lv_iconst (v := (-1)) X.1 X.2.1 dX0_clear_45 (by decide) ?_
      refine lv_iconst (v := 0) X.1 X.2.1 dX0_clear_46 (by decide) ?_
      obtain ⟨s4, hc, h⟩ := b1_inv h
      refine r_cv (va_runU (C := RX4) (x := ⟨"PalaceOfRooms$Ghost", "lay", "(II)V"⟩) (As := [.int (-1), .int 0]) (rest := []) (cfX X) (c_X2_lay_4 l hc) (va_cwU (owner := RX2) 2 X.2.2.2.2.1 (lw_app (lw_in _ [413, 394, 396, 397, 51] (by decide +kernel) (by decide +kernel)) (lw_meth q398)) rfl rfl rfl rfl yd_X2_lay ⟨Nat.le_of_ble_eq_true rfl, Nat.le_of_ble_eq_true rfl⟩) (preV X hV (F_X2_lay_4_g hc) rfl) rfl rfl hl.1 rfl (lv_room (Nat.le_of_ble_eq_true rfl)) dX0_clear_47 ⟨(Nat.le_of_ble_eq_true rfl), (Nat.le_of_ble_eq_true rfl)⟩) hF (fun H locs hV hF => ?_)
      refine lv_iload_n X.1 X.2.1 dX0_clear_50 rfl (lv_at hl 0 rfl) ?_
      exact r_iret X hV hF h dX0_clear_51
    · refine lv_bipush (v := (-4)) X.1 X.2.1 dX0_clear_27 (by decide) ?_
      exact r_iret X hV hF h dX0_clear_29
  · refine lv_bipush (v := (-2)) X.1 X.2.1 dX0_clear_7 (by decide) ?_
    exact r_iret X hV hF h dX0_clear_9
/-! PalaceOfRooms$Kept.isThere for classes {0: 4} -/
theorem fl_X2_9_4 : FLk RX2 9 4 0 "I" := ⟨RX4, TX4, 2, "PalaceOfRooms$Kept", rfl, by decide, (fun q => by have h1 := q.1; have h2 := q.2; omega), rfl, in_X4, Or.inl q109, Or.inl rfl⟩
abbrev rm_X2_isThere_4 : Room := { frames := 0, cells := 0, slots := 0, locals := 0 }
set_option maxHeartbeats 4000000 in
theorem c_X2_isThere_4 (l : Launch) {g : Gl} {σ : Hp} {x0 : Nat} {r : Int32 × Hp} (h : F_X2_isThere_4 σ x0 = some r) : Met l yX2_isThere (ws_ yX2_isThere cX2_isThere 1 (some .boolean)) rm_X2_isThere_4 (va_Pc [.ref x0] (WV g σ)) (Qi g r) 0 0 (frN g) := by
  refine ct_of (by decide) (Nat.le_of_ble_eq_true rfl) ?_
  intro p e s m below meth c ls X hV hl
  have hF : FR g [] := FR_nil
  unfold F_X2_isThere_4 at h
  have hl : lv_has ls 1 [(0, .ref x0)] := hl
  have X : FX g p m c s _ meth cX2_isThere 1 RX2 (some .boolean) "isThere" := X
  obtain ⟨-, h⟩ := gd_inv h
  refine lv_aload_n X.1 X.2.1 dX2_isThere_0 rfl (lv_at hl 0 rfl) ?_
  refine r_gI X hV fl_X2_9_4 dX2_isThere_1 h (fun v1 h => ?_)
  refine lv_iconst (v := (-1)) X.1 X.2.1 dX2_isThere_4 (by decide) ?_
  refine r_eq (tgt := 12) X.1 X.2.1 dX2_isThere_5 (by decide) h (fun h => ?_) (fun h => ?_)
  · refine lv_iconst (v := 0) X.1 X.2.1 dX2_isThere_12 (by decide) ?_
    exact r_zret X hV hF h rfl dX2_isThere_13
  · refine lv_iconst (v := 1) X.1 X.2.1 dX2_isThere_8 (by decide) ?_
    refine lv_goto (tgt := 13) X.1 X.2.1 dX2_isThere_9 (by decide) ?_
    exact r_zret X hV hF h rfl dX2_isThere_13
/-! PalaceOfRooms$Ghost.isThere -/
theorem dX4_isThere_0 : decode cX4_isThere 0 = .ok (.aload_n 0, 1) := by decide +kernel
theorem dX4_isThere_1 : decode cX4_isThere 1 = .ok (.invokespecial 9, 3) := by decide +kernel
theorem dX4_isThere_4 : decode cX4_isThere 4 = .ok (.ifCond .eq 14, 3) := by decide +kernel
theorem dX4_isThere_7 : decode cX4_isThere 7 = .ok (.aload_n 0, 1) := by decide +kernel
theorem dX4_isThere_8 : decode cX4_isThere 8 = .ok (.getfield 13, 3) := by decide +kernel
theorem dX4_isThere_11 : decode cX4_isThere 11 = .ok (.ifCond .le 7, 3) := by decide +kernel
theorem dX4_isThere_14 : decode cX4_isThere 14 = .ok (.iconst 1, 1) := by decide +kernel
theorem dX4_isThere_15 : decode cX4_isThere 15 = .ok (.goto 4, 3) := by decide +kernel
theorem dX4_isThere_18 : decode cX4_isThere 18 = .ok (.iconst 0, 1) := by decide +kernel
theorem dX4_isThere_19 : decode cX4_isThere 19 = .ok (.ireturn, 1) := by decide +kernel
theorem yd_X4_isThere : yX4_isThere.cls ≠ "java/lang/invoke/MethodHandle" ∧ yX4_isThere.cls ≠ "java/lang/invoke/VarHandle" ∧ (parseMethodDescriptor yX4_isThere.desc).map (fun d => d.parameters.length) = some 0 := by decide +kernel
theorem fl_X4_13_4 : FLk RX4 13 4 1 "I" := ⟨RX4, TX4, 2, "PalaceOfRooms$Ghost", rfl, by decide, (fun q => by have h1 := q.1; have h2 := q.2; omega), rfl, in_X4, Or.inl q116, Or.inr q117⟩
abbrev rm_X4_isThere : Room := { frames := 1, cells := 0, slots := 0, locals := 20 }
set_option maxHeartbeats 4000000 in
theorem c_X4_isThere (l : Launch) {g : Gl} {σ : Hp} {x0 : Nat} {r : Int32 × Hp} (h : F_X4_isThere σ x0 = some r) : Met l yX4_isThere (ws_ yX4_isThere cX4_isThere 1 (some .boolean)) rm_X4_isThere (va_Pc [.ref x0] (WV g σ)) (Qi g r) 0 0 (frN g) := by
  refine ct_of (by decide) (Nat.le_of_ble_eq_true rfl) ?_
  intro p e s m below meth c ls X hV hl
  have hF : FR g [] := FR_nil
  unfold F_X4_isThere at h
  have hl : lv_has ls 1 [(0, .ref x0)] := hl
  have X : FX g p m c s _ meth cX4_isThere 1 RX4 (some .boolean) "isThere" := X
  obtain ⟨-, h⟩ := gd_inv h
  refine lv_aload_n X.1 X.2.1 dX4_isThere_0 rfl (lv_at hl 0 rfl) ?_
  obtain ⟨v1, s1, hc, h⟩ := b2_inv h
  refine r_ci (va_runSU (C := RX4) (X.2.2.2.2.2.1.1 4 _ rfl).2 (As := []) (rest := []) (cfX X) (c_X2_isThere_4 l hc) (va_cwSU 0 X.2.2.2.2.1 (lw_app (lw_in _ [422, 1364, 129, 410, 51] (by decide +kernel) (by decide +kernel)) (lw_meth q411)) rfl rfl rfl ⟨by decide +kernel, (yd_X2_isThere).2.2⟩ ⟨Nat.le_of_ble_eq_true rfl, Nat.le_of_ble_eq_true rfl⟩) (preV X hV (F_X2_isThere_4_g hc) rfl) rfl rfl hl.1 rfl (lv_room (Nat.le_of_ble_eq_true rfl)) dX4_isThere_1 ⟨(Nat.le_of_ble_eq_true rfl), (Nat.le_of_ble_eq_true rfl)⟩) hF (fun H locs hV hF => ?_)
  refine r_ifeq (tgt := 18) X.1 X.2.1 dX4_isThere_4 (by decide) h (fun h => ?_) (fun h => ?_)
  · refine lv_iconst (v := 0) X.1 X.2.1 dX4_isThere_18 (by decide) ?_
    exact r_zret X hV hF h rfl dX4_isThere_19
  · refine lv_aload_n X.1 X.2.1 dX4_isThere_7 rfl (lv_at hl 0 rfl) ?_
    refine r_gI X hV fl_X4_13_4 dX4_isThere_8 h (fun v2 h => ?_)
    refine r_ifle (tgt := 18) X.1 X.2.1 dX4_isThere_11 (by decide) h (fun h => ?_) (fun h => ?_)
    · refine lv_iconst (v := 0) X.1 X.2.1 dX4_isThere_18 (by decide) ?_
      exact r_zret X hV hF h rfl dX4_isThere_19
    · refine lv_iconst (v := 1) X.1 X.2.1 dX4_isThere_14 (by decide) ?_
      refine lv_goto (tgt := 19) X.1 X.2.1 dX4_isThere_15 (by decide) ?_
      exact r_zret X hV hF h rfl dX4_isThere_19
