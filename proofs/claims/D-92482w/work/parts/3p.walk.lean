set_option maxRecDepth 100000
/-! PalaceOfRooms.erase -/
theorem dX0_erase_0 : decode cX0_erase 0 = .ok (.aload_n 0, 1) := by decide +kernel
theorem dX0_erase_1 : decode cX0_erase 1 = .ok (.getfield 191, 3) := by decide +kernel
theorem dX0_erase_4 : decode cX0_erase 4 = .ok (.istore_n 1, 1) := by decide +kernel
theorem dX0_erase_5 : decode cX0_erase 5 = .ok (.aload_n 0, 1) := by decide +kernel
theorem dX0_erase_6 : decode cX0_erase 6 = .ok (.iconst 0, 1) := by decide +kernel
theorem dX0_erase_7 : decode cX0_erase 7 = .ok (.putfield 191, 3) := by decide +kernel
theorem dX0_erase_10 : decode cX0_erase 10 = .ok (.iload_n 1, 1) := by decide +kernel
theorem dX0_erase_11 : decode cX0_erase 11 = .ok (.ireturn, 1) := by decide +kernel
theorem yd_X0_erase : yX0_erase.cls ≠ "java/lang/invoke/MethodHandle" ∧ yX0_erase.cls ≠ "java/lang/invoke/VarHandle" ∧ (parseMethodDescriptor yX0_erase.desc).map (fun d => d.parameters.length) = some 0 := by decide +kernel
abbrev rm_X0_erase : Room := { frames := 0, cells := 0, slots := 0, locals := 0 }
set_option maxHeartbeats 4000000 in
theorem c_X0_erase (l : Launch) {g : Gl} {σ : Hp} {x0 : Nat} {r : Int32 × Hp} (h : F_X0_erase σ x0 = some r) : Met l yX0_erase (ws_ yX0_erase cX0_erase 2 (some .int)) rm_X0_erase (va_Pc [.ref x0] (WV g σ)) (Qi g r) 0 0 (frN g) := by
  refine ct_of (by decide) (Nat.le_of_ble_eq_true rfl) ?_
  intro p e s m below meth c ls X hV hl
  have hF : FR g [] := FR_nil
  unfold F_X0_erase at h
  have hl : lv_has ls 2 [(0, .ref x0)] := hl
  have X : FX g p m c s _ meth cX0_erase 2 RX0 (some .int) "erase" := X
  obtain ⟨-, h⟩ := gd_inv h
  refine lv_aload_n X.1 X.2.1 dX0_erase_0 rfl (lv_at hl 0 rfl) ?_
  refine r_gI X hV fl_X0_191_0 dX0_erase_1 h (fun v1 h => ?_)
  refine lv_istore_n (lv' := [(1, .int v1), (0, .ref x0)]) X.1 X.2.1 dX0_erase_4 rfl hl (by decide) rfl (fun ls hl => ?_)
  refine lv_aload_n X.1 X.2.1 dX0_erase_5 rfl (lv_at hl 1 rfl) ?_
  refine lv_iconst (v := 0) X.1 X.2.1 dX0_erase_6 (by decide) ?_
  refine r_pI X hV hF fp_X0_191_0 (fun q => by cases q) dX0_erase_7 h (fun s1 H locs hV hF h => ?_)
  refine lv_iload_n X.1 X.2.1 dX0_erase_10 rfl (lv_at hl 0 rfl) ?_
  exact r_iret X hV hF h dX0_erase_11
/-! PalaceOfRooms$Reader.kindAt -/
theorem dX5_kindAt_0 : decode cX5_kindAt 0 = .ok (.aload_n 0, 1) := by decide +kernel
theorem dX5_kindAt_1 : decode cX5_kindAt 1 = .ok (.getfield 3, 3) := by decide +kernel
theorem dX5_kindAt_4 : decode cX5_kindAt 4 = .ok (.getfield 15, 3) := by decide +kernel
theorem dX5_kindAt_7 : decode cX5_kindAt 7 = .ok (.iload_n 1, 1) := by decide +kernel
theorem dX5_kindAt_8 : decode cX5_kindAt 8 = .ok (.baload, 1) := by decide +kernel
theorem dX5_kindAt_9 : decode cX5_kindAt 9 = .ok (.i2l, 1) := by decide +kernel
theorem dX5_kindAt_10 : decode cX5_kindAt 10 = .ok (.ldc2_w 19, 3) := by decide +kernel
theorem dX5_kindAt_13 : decode cX5_kindAt 13 = .ok (.ldc2_w 21, 3) := by decide +kernel
theorem dX5_kindAt_16 : decode cX5_kindAt 16 = .ok (.invokestatic 23, 3) := by decide +kernel
theorem dX5_kindAt_19 : decode cX5_kindAt 19 = .ok (.ifCond .eq 7, 3) := by decide +kernel
theorem dX5_kindAt_22 : decode cX5_kindAt 22 = .ok (.iconst 1, 1) := by decide +kernel
theorem dX5_kindAt_23 : decode cX5_kindAt 23 = .ok (.goto 30, 3) := by decide +kernel
theorem dX5_kindAt_26 : decode cX5_kindAt 26 = .ok (.aload_n 0, 1) := by decide +kernel
theorem dX5_kindAt_27 : decode cX5_kindAt 27 = .ok (.getfield 3, 3) := by decide +kernel
theorem dX5_kindAt_30 : decode cX5_kindAt 30 = .ok (.getfield 15, 3) := by decide +kernel
theorem dX5_kindAt_33 : decode cX5_kindAt 33 = .ok (.iload_n 1, 1) := by decide +kernel
theorem dX5_kindAt_34 : decode cX5_kindAt 34 = .ok (.baload, 1) := by decide +kernel
theorem dX5_kindAt_35 : decode cX5_kindAt 35 = .ok (.i2l, 1) := by decide +kernel
theorem dX5_kindAt_36 : decode cX5_kindAt 36 = .ok (.ldc2_w 27, 3) := by decide +kernel
theorem dX5_kindAt_39 : decode cX5_kindAt 39 = .ok (.ldc2_w 29, 3) := by decide +kernel
theorem dX5_kindAt_42 : decode cX5_kindAt 42 = .ok (.invokestatic 23, 3) := by decide +kernel
theorem dX5_kindAt_45 : decode cX5_kindAt 45 = .ok (.ifCond .eq 7, 3) := by decide +kernel
theorem dX5_kindAt_48 : decode cX5_kindAt 48 = .ok (.iconst 2, 1) := by decide +kernel
theorem dX5_kindAt_49 : decode cX5_kindAt 49 = .ok (.goto 4, 3) := by decide +kernel
theorem dX5_kindAt_52 : decode cX5_kindAt 52 = .ok (.iconst 0, 1) := by decide +kernel
theorem dX5_kindAt_53 : decode cX5_kindAt 53 = .ok (.ireturn, 1) := by decide +kernel
theorem yd_X5_kindAt : yX5_kindAt.cls ≠ "java/lang/invoke/MethodHandle" ∧ yX5_kindAt.cls ≠ "java/lang/invoke/VarHandle" ∧ (parseMethodDescriptor yX5_kindAt.desc).map (fun d => d.parameters.length) = some 1 := by decide +kernel
theorem fl_X5_3_5 : FLk RX5 3 5 5 "LPalaceOfRooms;" := ⟨RX5, TX5, 6, "PalaceOfRooms$Reader", rfl, by decide, (fun q => by have h1 := q.1; have h2 := q.2; omega), rfl, in_X5, Or.inl q167, Or.inl rfl⟩
theorem fl_X5_15_0 : FLk RX5 15 0 12 "[B" := ⟨RX0, TX0, 22, "PalaceOfRooms", rfl, by decide, (fun q => by have h1 := q.1; have h2 := q.2; omega), rfl, in_X0, Or.inr (List.mem_of_getElem? (i := 13) rfl), Or.inl rfl⟩
abbrev rm_X5_kindAt : Room := { frames := 1, cells := 0, slots := 0, locals := 25 }
set_option maxHeartbeats 4000000 in
theorem c_X5_kindAt (l : Launch) {g : Gl} {σ : Hp} {x0 : Nat} {x1 : Int32} {r : Int32 × Hp} (h : F_X5_kindAt σ x0 x1 = some r) : Met l yX5_kindAt (ws_ yX5_kindAt cX5_kindAt 2 (some .int)) rm_X5_kindAt (va_Pc [.ref x0, .int x1] (WV g σ)) (Qi g r) 0 0 (frN g) := by
  refine ct_of (by decide) (Nat.le_of_ble_eq_true rfl) ?_
  intro p e s m below meth c ls X hV hl
  have hF : FR g [] := FR_nil
  unfold F_X5_kindAt at h
  have hl : lv_has ls 2 [(0, .ref x0), (1, .int x1)] := hl
  have X : FX g p m c s _ meth cX5_kindAt 2 RX5 (some .int) "kindAt" := X
  obtain ⟨-, h⟩ := gd_inv h
  refine lv_aload_n X.1 X.2.1 dX5_kindAt_0 rfl (lv_at hl 0 rfl) ?_
  refine r_gR X hV fl_X5_3_5 (by decide) dX5_kindAt_1 h (fun v1 h => ?_)
  refine r_gR X hV fl_X5_15_0 (by decide) dX5_kindAt_4 h (fun v2 h => ?_)
  refine lv_iload_n X.1 X.2.1 dX5_kindAt_7 rfl (lv_at hl 1 rfl) ?_
  refine r_ba X hV dX5_kindAt_8 h (fun v3 h => ?_)
  refine lv_i2l (v := (v3 : Int32).toInt64) X.1 X.2.1 dX5_kindAt_9 rfl ?_
  refine lv_ldc2 (v := 97) X.1 X.2.1 X.2.2.2.1 (X.2.2.2.2.1 _ q495) dX5_kindAt_10 ?_
  refine lv_ldc2 (v := 122) X.1 X.2.1 X.2.2.2.1 (X.2.2.2.2.1 _ q496) dX5_kindAt_13 ?_
  obtain ⟨v4, s1, hc, h⟩ := b2_inv h
  refine r_ci (va_runSN (As := [.long ((v3 : Int32).toInt64), .long 97, .long 122]) (rest := []) (cfX X) (c_X0_isIn l hc) ⟨va_cnB 3 X.2.2.2.2.1 (lw_meth q333) rfl rfl rfl (X.2.2.2.2.2.1.2.2.2.1 _ (List.mem_of_getElem? (i := 11) rfl)) (X.2.2.2.2.1 _ q49) yd_X0_isIn ⟨Nat.le_of_ble_eq_true rfl, Nat.le_of_ble_eq_true rfl⟩, X.2.2.2.2.1 _ q332, trivial⟩ (preS X hV) rfl rfl hl.1 rfl (lv_room (Nat.le_of_ble_eq_true rfl)) dX5_kindAt_16 ⟨(Nat.le_of_ble_eq_true rfl), (Nat.le_of_ble_eq_true rfl)⟩) hF (fun H locs hV hF => ?_)
  refine r_ifeq (tgt := 26) X.1 X.2.1 dX5_kindAt_19 (by decide) h (fun h => ?_) (fun h => ?_)
  · refine lv_aload_n X.1 X.2.1 dX5_kindAt_26 rfl (lv_at hl 0 rfl) ?_
    refine r_gR X hV fl_X5_3_5 (by decide) dX5_kindAt_27 h (fun v5 h => ?_)
    refine r_gR X hV fl_X5_15_0 (by decide) dX5_kindAt_30 h (fun v6 h => ?_)
    refine lv_iload_n X.1 X.2.1 dX5_kindAt_33 rfl (lv_at hl 1 rfl) ?_
    refine r_ba X hV dX5_kindAt_34 h (fun v7 h => ?_)
    refine lv_i2l (v := (v7 : Int32).toInt64) X.1 X.2.1 dX5_kindAt_35 rfl ?_
    refine lv_ldc2 (v := 48) X.1 X.2.1 X.2.2.2.1 (X.2.2.2.2.1 _ q498) dX5_kindAt_36 ?_
    refine lv_ldc2 (v := 57) X.1 X.2.1 X.2.2.2.1 (X.2.2.2.2.1 _ q499) dX5_kindAt_39 ?_
    obtain ⟨v8, s2, hc, h⟩ := b2_inv h
    refine r_ci (va_runSN (As := [.long ((v7 : Int32).toInt64), .long 48, .long 57]) (rest := []) (cfX X) (c_X0_isIn l hc) ⟨va_cnB 3 X.2.2.2.2.1 (lw_meth q333) rfl rfl rfl (X.2.2.2.2.2.1.2.2.2.1 _ (List.mem_of_getElem? (i := 11) rfl)) (X.2.2.2.2.1 _ q49) yd_X0_isIn ⟨Nat.le_of_ble_eq_true rfl, Nat.le_of_ble_eq_true rfl⟩, X.2.2.2.2.1 _ q332, trivial⟩ (preS X hV) rfl rfl hl.1 rfl (lv_room (Nat.le_of_ble_eq_true rfl)) dX5_kindAt_42 ⟨(Nat.le_of_ble_eq_true rfl), (Nat.le_of_ble_eq_true rfl)⟩) hF (fun H locs hV hF => ?_)
    refine r_ifeq (tgt := 52) X.1 X.2.1 dX5_kindAt_45 (by decide) h (fun h => ?_) (fun h => ?_)
    · refine lv_iconst (v := 0) X.1 X.2.1 dX5_kindAt_52 (by decide) ?_
      exact r_iret X hV hF h dX5_kindAt_53
    · refine lv_iconst (v := 2) X.1 X.2.1 dX5_kindAt_48 (by decide) ?_
      refine lv_goto (tgt := 53) X.1 X.2.1 dX5_kindAt_49 (by decide) ?_
      exact r_iret X hV hF h dX5_kindAt_53
  · refine lv_iconst (v := 1) X.1 X.2.1 dX5_kindAt_22 (by decide) ?_
    refine lv_goto (tgt := 53) X.1 X.2.1 dX5_kindAt_23 (by decide) ?_
    exact r_iret X hV hF h dX5_kindAt_53
/-! PalaceOfRooms$Reader.token -/
theorem dX5_token_0 : decode cX5_token 0 = .ok (.aload_n 0, 1) := by decide +kernel
theorem dX5_token_1 : decode cX5_token 1 = .ok (.getfield 31, 3) := by decide +kernel
theorem dX5_token_4 : decode cX5_token 4 = .ok (.aload_n 0, 1) := by decide +kernel
theorem dX5_token_5 : decode cX5_token 5 = .ok (.getfield 3, 3) := by decide +kernel
theorem dX5_token_8 : decode cX5_token 8 = .ok (.getfield 35, 3) := by decide +kernel
theorem dX5_token_11 : decode cX5_token 11 = .ok (.if_icmp .ge 33, 3) := by decide +kernel
theorem dX5_token_14 : decode cX5_token 14 = .ok (.aload_n 0, 1) := by decide +kernel
theorem dX5_token_15 : decode cX5_token 15 = .ok (.getfield 3, 3) := by decide +kernel
theorem dX5_token_18 : decode cX5_token 18 = .ok (.getfield 15, 3) := by decide +kernel
theorem dX5_token_21 : decode cX5_token 21 = .ok (.aload_n 0, 1) := by decide +kernel
theorem dX5_token_22 : decode cX5_token 22 = .ok (.getfield 31, 3) := by decide +kernel
theorem dX5_token_25 : decode cX5_token 25 = .ok (.baload, 1) := by decide +kernel
theorem dX5_token_26 : decode cX5_token 26 = .ok (.bipush 32, 2) := by decide +kernel
theorem dX5_token_28 : decode cX5_token 28 = .ok (.if_icmp .ne 16, 3) := by decide +kernel
theorem dX5_token_31 : decode cX5_token 31 = .ok (.aload_n 0, 1) := by decide +kernel
theorem dX5_token_32 : decode cX5_token 32 = .ok (.dup, 1) := by decide +kernel
theorem dX5_token_33 : decode cX5_token 33 = .ok (.getfield 31, 3) := by decide +kernel
theorem dX5_token_36 : decode cX5_token 36 = .ok (.iconst 1, 1) := by decide +kernel
theorem dX5_token_37 : decode cX5_token 37 = .ok (.iadd, 1) := by decide +kernel
theorem dX5_token_38 : decode cX5_token 38 = .ok (.putfield 31, 3) := by decide +kernel
theorem dX5_token_41 : decode cX5_token 41 = .ok (.goto (-41), 3) := by decide +kernel
theorem dX5_token_44 : decode cX5_token 44 = .ok (.aload_n 0, 1) := by decide +kernel
theorem dX5_token_45 : decode cX5_token 45 = .ok (.aload_n 0, 1) := by decide +kernel
theorem dX5_token_46 : decode cX5_token 46 = .ok (.getfield 31, 3) := by decide +kernel
theorem dX5_token_49 : decode cX5_token 49 = .ok (.putfield 38, 3) := by decide +kernel
theorem dX5_token_52 : decode cX5_token 52 = .ok (.aload_n 0, 1) := by decide +kernel
theorem dX5_token_53 : decode cX5_token 53 = .ok (.dup, 1) := by decide +kernel
theorem dX5_token_54 : decode cX5_token 54 = .ok (.getfield 31, 3) := by decide +kernel
theorem dX5_token_57 : decode cX5_token 57 = .ok (.aload_n 0, 1) := by decide +kernel
theorem dX5_token_58 : decode cX5_token 58 = .ok (.getfield 31, 3) := by decide +kernel
theorem dX5_token_61 : decode cX5_token 61 = .ok (.aload_n 0, 1) := by decide +kernel
theorem dX5_token_62 : decode cX5_token 62 = .ok (.getfield 3, 3) := by decide +kernel
theorem dX5_token_65 : decode cX5_token 65 = .ok (.getfield 35, 3) := by decide +kernel
theorem dX5_token_68 : decode cX5_token 68 = .ok (.if_icmp .ge 7, 3) := by decide +kernel
theorem dX5_token_71 : decode cX5_token 71 = .ok (.iconst 1, 1) := by decide +kernel
theorem dX5_token_72 : decode cX5_token 72 = .ok (.goto 4, 3) := by decide +kernel
theorem dX5_token_75 : decode cX5_token 75 = .ok (.iconst 0, 1) := by decide +kernel
theorem dX5_token_76 : decode cX5_token 76 = .ok (.iadd, 1) := by decide +kernel
theorem dX5_token_77 : decode cX5_token 77 = .ok (.putfield 31, 3) := by decide +kernel
theorem dX5_token_80 : decode cX5_token 80 = .ok (.aload_n 0, 1) := by decide +kernel
theorem dX5_token_81 : decode cX5_token 81 = .ok (.getfield 31, 3) := by decide +kernel
theorem dX5_token_84 : decode cX5_token 84 = .ok (.aload_n 0, 1) := by decide +kernel
theorem dX5_token_85 : decode cX5_token 85 = .ok (.getfield 3, 3) := by decide +kernel
theorem dX5_token_88 : decode cX5_token 88 = .ok (.getfield 35, 3) := by decide +kernel
theorem dX5_token_91 : decode cX5_token 91 = .ok (.if_icmp .ge 46, 3) := by decide +kernel
theorem dX5_token_94 : decode cX5_token 94 = .ok (.aload_n 0, 1) := by decide +kernel
theorem dX5_token_95 : decode cX5_token 95 = .ok (.aload_n 0, 1) := by decide +kernel
theorem dX5_token_96 : decode cX5_token 96 = .ok (.getfield 38, 3) := by decide +kernel
theorem dX5_token_99 : decode cX5_token 99 = .ok (.invokevirtual 41, 3) := by decide +kernel
theorem dX5_token_102 : decode cX5_token 102 = .ok (.ifCond .le 35, 3) := by decide +kernel
theorem dX5_token_105 : decode cX5_token 105 = .ok (.aload_n 0, 1) := by decide +kernel
theorem dX5_token_106 : decode cX5_token 106 = .ok (.aload_n 0, 1) := by decide +kernel
theorem dX5_token_107 : decode cX5_token 107 = .ok (.getfield 31, 3) := by decide +kernel
theorem dX5_token_110 : decode cX5_token 110 = .ok (.invokevirtual 41, 3) := by decide +kernel
theorem dX5_token_113 : decode cX5_token 113 = .ok (.aload_n 0, 1) := by decide +kernel
theorem dX5_token_114 : decode cX5_token 114 = .ok (.aload_n 0, 1) := by decide +kernel
theorem dX5_token_115 : decode cX5_token 115 = .ok (.getfield 38, 3) := by decide +kernel
theorem dX5_token_118 : decode cX5_token 118 = .ok (.invokevirtual 41, 3) := by decide +kernel
theorem dX5_token_121 : decode cX5_token 121 = .ok (.if_icmp .ne 16, 3) := by decide +kernel
theorem dX5_token_124 : decode cX5_token 124 = .ok (.aload_n 0, 1) := by decide +kernel
theorem dX5_token_125 : decode cX5_token 125 = .ok (.dup, 1) := by decide +kernel
theorem dX5_token_126 : decode cX5_token 126 = .ok (.getfield 31, 3) := by decide +kernel
theorem dX5_token_129 : decode cX5_token 129 = .ok (.iconst 1, 1) := by decide +kernel
theorem dX5_token_130 : decode cX5_token 130 = .ok (.iadd, 1) := by decide +kernel
theorem dX5_token_131 : decode cX5_token 131 = .ok (.putfield 31, 3) := by decide +kernel
theorem dX5_token_134 : decode cX5_token 134 = .ok (.goto (-54), 3) := by decide +kernel
theorem dX5_token_137 : decode cX5_token 137 = .ok (.aload_n 0, 1) := by decide +kernel
theorem dX5_token_138 : decode cX5_token 138 = .ok (.aload_n 0, 1) := by decide +kernel
theorem dX5_token_139 : decode cX5_token 139 = .ok (.getfield 31, 3) := by decide +kernel
theorem dX5_token_142 : decode cX5_token 142 = .ok (.putfield 45, 3) := by decide +kernel
theorem dX5_token_145 : decode cX5_token 145 = .ok (.return_, 1) := by decide +kernel
theorem yd_X5_token : yX5_token.cls ≠ "java/lang/invoke/MethodHandle" ∧ yX5_token.cls ≠ "java/lang/invoke/VarHandle" ∧ (parseMethodDescriptor yX5_token.desc).map (fun d => d.parameters.length) = some 0 := by decide +kernel
theorem fl_X5_31_5 : FLk RX5 31 5 2 "I" := ⟨RX5, TX5, 6, "PalaceOfRooms$Reader", rfl, by decide, (fun q => by have h1 := q.1; have h2 := q.2; omega), rfl, in_X5, Or.inl q164, Or.inl rfl⟩
theorem fp_X5_45_5 : FPk RX5 45 5 4 "I" false := ⟨RX5, TX5, 6, "PalaceOfRooms$Reader", tyX5, rfl, by decide, (fun q => by have h1 := q.1; have h2 := q.2; omega), rfl, in_X5, tyX5_ok, (fun a ha b hb h => Or.inl (nmX5 a ha b hb h)), rfl, (fun q => by cases q), (Or.inl q166), Or.inl rfl⟩
theorem fl_X5_35_0 : FLk RX5 35 0 13 "I" := ⟨RX0, TX0, 22, "PalaceOfRooms", rfl, by decide, (fun q => by have h1 := q.1; have h2 := q.2; omega), rfl, in_X0, Or.inr (List.mem_of_getElem? (i := 14) rfl), Or.inl rfl⟩
theorem fl_X5_38_5 : FLk RX5 38 5 3 "I" := ⟨RX5, TX5, 6, "PalaceOfRooms$Reader", rfl, by decide, (fun q => by have h1 := q.1; have h2 := q.2; omega), rfl, in_X5, Or.inl q165, Or.inl rfl⟩
theorem fp_X5_31_5 : FPk RX5 31 5 2 "I" false := ⟨RX5, TX5, 6, "PalaceOfRooms$Reader", tyX5, rfl, by decide, (fun q => by have h1 := q.1; have h2 := q.2; omega), rfl, in_X5, tyX5_ok, (fun a ha b hb h => Or.inl (nmX5 a ha b hb h)), rfl, (fun q => by cases q), (Or.inl q164), Or.inl rfl⟩
theorem fp_X5_38_5 : FPk RX5 38 5 3 "I" false := ⟨RX5, TX5, 6, "PalaceOfRooms$Reader", tyX5, rfl, by decide, (fun q => by have h1 := q.1; have h2 := q.2; omega), rfl, in_X5, tyX5_ok, (fun a ha b hb h => Or.inl (nmX5 a ha b hb h)), rfl, (fun q => by cases q), (Or.inl q165), Or.inl rfl⟩
abbrev rm_X5_token : Room := { frames := 2, cells := 0, slots := 0, locals := 46 }
set_option maxHeartbeats 4000000 in
theorem w_X5_token_137 {p : Program} {l : Launch} {e : Env} {s : State} {m : MethodId} {args : Array Value} {below : List Frame} {meth : Method} {c : Code} {g : Gl} (X : FX g p m c s args meth cX5_token 1 RX5 none "token") {r : Hp} {σ : Hp} {x0 : Nat}  {H : Heap} {locs : List Loc} {ls : Array Slot} (h : F_X5_token_137 σ x0 = some r) (hV : HV g σ H) (hF : FR g locs) (hl : lv_has ls 1 [(0, .ref x0)]) : W p l e rm_X5_token s m args below meth c H locs 0 0 (MQ below (Qv g r) args s 0 0 (frN g)) (F0 m 137 ls []) := by
  unfold F_X5_token_137 at h
  refine lv_aload_n X.1 X.2.1 dX5_token_137 rfl (lv_at hl 0 rfl) ?_
  refine lv_aload_n X.1 X.2.1 dX5_token_138 rfl (lv_at hl 0 rfl) ?_
  refine r_gI X hV fl_X5_31_5 dX5_token_139 h (fun v1 h => ?_)
  refine r_pI X hV hF fp_X5_45_5 (fun q => by cases q) dX5_token_142 h (fun s1 H locs hV hF h => ?_)
  exact r_vret X hV hF h dX5_token_145
set_option maxHeartbeats 4000000 in
theorem w_X5_token_80_b {p : Program} {l : Launch} {e : Env} {s : State} {m : MethodId} {args : Array Value} {below : List Frame} {meth : Method} {c : Code} {g : Gl} (X : FX g p m c s args meth cX5_token 1 RX5 none "token") {r : Hp} {rec80 : Hp → Option (Hp)} {x0 : Nat} {σ : Hp} (hr80 : ∀ (st : Hp), rec80 st = some r → ∀ (H : Heap) (locs : List Loc) (ls : Array Slot), HV g st H → FR g locs → lv_has ls 1 [(0, .ref x0)] → W p l e rm_X5_token s m args below meth c H locs 0 0 (MQ below (Qv g r) args s 0 0 (frN g)) (F0 m 80 ls [])) {H : Heap} {locs : List Loc} {ls : Array Slot} (h : B_X5_token_80 x0 rec80 σ = some r) (hV : HV g σ H) (hF : FR g locs) (hl : lv_has ls 1 [(0, .ref x0)]) : W p l e rm_X5_token s m args below meth c H locs 0 0 (MQ below (Qv g r) args s 0 0 (frN g)) (F0 m 80 ls []) := by
  unfold B_X5_token_80 at h
  refine lv_aload_n X.1 X.2.1 dX5_token_80 rfl (lv_at hl 0 rfl) ?_
  refine r_gI X hV fl_X5_31_5 dX5_token_81 h (fun v1 h => ?_)
  refine lv_aload_n X.1 X.2.1 dX5_token_84 rfl (lv_at hl 0 rfl) ?_
  refine r_gR X hV fl_X5_3_5 (by decide) dX5_token_85 h (fun v2 h => ?_)
  refine r_gI X hV fl_X5_35_0 dX5_token_88 h (fun v3 h => ?_)
  refine r_ge (tgt := 137) X.1 X.2.1 dX5_token_91 (by decide) h (fun h => ?_) (fun h => ?_)
  · exact w_X5_token_137 X  h hV hF (lv_sub hl [0] rfl)
  · refine lv_aload_n X.1 X.2.1 dX5_token_94 rfl (lv_at hl 0 rfl) ?_
    refine lv_aload_n X.1 X.2.1 dX5_token_95 rfl (lv_at hl 0 rfl) ?_
    refine r_gI X hV fl_X5_38_5 dX5_token_96 h (fun v4 h => ?_)
    obtain ⟨v5, s1, hc, h⟩ := b2_inv h
    refine r_ci (va_runV (C := RX5) (As := [.int v4]) (rest := []) (cfX X) (c_X5_kindAt l hc) (cwV 1 X.2.2.2.2.1 (lw_V q491 q493 qs6 q54 q494) rfl rfl rfl ⟨rfl, yd_X5_kindAt⟩ ⟨Nat.le_of_ble_eq_true rfl, Nat.le_of_ble_eq_true rfl⟩) (preV X hV (F_X5_kindAt_g hc) rfl) rfl rfl hl.1 rfl (lv_room (Nat.le_of_ble_eq_true rfl)) dX5_token_99 ⟨(Nat.le_of_ble_eq_true rfl), (Nat.le_of_ble_eq_true rfl)⟩) hF (fun H locs hV hF => ?_)
    refine r_ifle (tgt := 137) X.1 X.2.1 dX5_token_102 (by decide) h (fun h => ?_) (fun h => ?_)
    · exact w_X5_token_137 X  h hV hF (lv_sub hl [0] rfl)
    · refine lv_aload_n X.1 X.2.1 dX5_token_105 rfl (lv_at hl 0 rfl) ?_
      refine lv_aload_n X.1 X.2.1 dX5_token_106 rfl (lv_at hl 0 rfl) ?_
      refine r_gI X hV fl_X5_31_5 dX5_token_107 h (fun v6 h => ?_)
      obtain ⟨v7, s2, hc, h⟩ := b2_inv h
      refine r_ci (va_runV (C := RX5) (As := [.int v6]) (rest := []) (cfX X) (c_X5_kindAt l hc) (cwV 1 X.2.2.2.2.1 (lw_V q491 q493 qs6 q54 q494) rfl rfl rfl ⟨rfl, yd_X5_kindAt⟩ ⟨Nat.le_of_ble_eq_true rfl, Nat.le_of_ble_eq_true rfl⟩) (preV X hV (F_X5_kindAt_g hc) rfl) rfl rfl hl.1 rfl (lv_room (Nat.le_of_ble_eq_true rfl)) dX5_token_110 ⟨(Nat.le_of_ble_eq_true rfl), (Nat.le_of_ble_eq_true rfl)⟩) hF (fun H locs hV hF => ?_)
      refine lv_aload_n X.1 X.2.1 dX5_token_113 rfl (lv_at hl 0 rfl) ?_
      refine lv_aload_n X.1 X.2.1 dX5_token_114 rfl (lv_at hl 0 rfl) ?_
      refine r_gI X hV fl_X5_38_5 dX5_token_115 h (fun v8 h => ?_)
      obtain ⟨v9, s3, hc, h⟩ := b2_inv h
      refine r_ci (va_runV (C := RX5) (As := [.int v8]) (rest := [.int v7]) (cfX X) (c_X5_kindAt l hc) (cwV 1 X.2.2.2.2.1 (lw_V q491 q493 qs6 q54 q494) rfl rfl rfl ⟨rfl, yd_X5_kindAt⟩ ⟨Nat.le_of_ble_eq_true rfl, Nat.le_of_ble_eq_true rfl⟩) (preV X hV (F_X5_kindAt_g hc) rfl) rfl rfl hl.1 rfl (lv_room (Nat.le_of_ble_eq_true rfl)) dX5_token_118 ⟨(Nat.le_of_ble_eq_true rfl), (Nat.le_of_ble_eq_true rfl)⟩) hF (fun H locs hV hF => ?_)
      refine r_ne (tgt := 137) X.1 X.2.1 dX5_token_121 (by decide) h (fun h => ?_) (fun h => ?_)
      · exact w_X5_token_137 X  h hV hF (lv_sub hl [0] rfl)
      · refine lv_aload_n X.1 X.2.1 dX5_token_124 rfl (lv_at hl 0 rfl) ?_
        refine lv_dup X.1 X.2.1 dX5_token_125 rfl ?_
        refine r_gI X hV fl_X5_31_5 dX5_token_126 h (fun v10 h => ?_)
        refine lv_iconst (v := 1) X.1 X.2.1 dX5_token_129 (by decide) ?_
        refine lv_iadd X.1 X.2.1 dX5_token_130 ?_
        refine r_pI X hV hF fp_X5_31_5 (fun q => by cases q) dX5_token_131 h (fun s4 H locs hV hF h => ?_)
        refine lv_goto (tgt := 80) X.1 X.2.1 dX5_token_134 (by decide) ?_
        exact hr80 s4 h _ _ _ hV hF (lv_sub hl [0] rfl)
set_option maxHeartbeats 4000000 in
theorem w_X5_token_80 {p : Program} {l : Launch} {e : Env} {s : State} {m : MethodId} {args : Array Value} {below : List Frame} {meth : Method} {c : Code} {g : Gl} (X : FX g p m c s args meth cX5_token 1 RX5 none "token") {r : Hp} {x0 : Nat}  : ∀ (n : Nat) (st : Hp), L_X5_token_80 x0 n st = some r → ∀ (H : Heap) (locs : List Loc) (ls : Array Slot), HV g st H → FR g locs → lv_has ls 1 [(0, .ref x0)] → W p l e rm_X5_token s m args below meth c H locs 0 0 (MQ below (Qv g r) args s 0 0 (frN g)) (F0 m 80 ls []) := by
  intro n
  induction n with
  | zero =>
    intro st h
    rw [L_X5_token_80_0] at h
    cases h
  | succ n ih =>
    intro st h H locs ls hV hF hl
    rw [L_X5_token_80_s] at h
    exact w_X5_token_80_b X  ih h hV hF hl
set_option maxHeartbeats 4000000 in
theorem w_X5_token_44 {p : Program} {l : Launch} {e : Env} {s : State} {m : MethodId} {args : Array Value} {below : List Frame} {meth : Method} {c : Code} {g : Gl} (X : FX g p m c s args meth cX5_token 1 RX5 none "token") {r : Hp} {σ : Hp} {x0 : Nat}  {H : Heap} {locs : List Loc} {ls : Array Slot} (h : F_X5_token_44 σ x0 = some r) (hV : HV g σ H) (hF : FR g locs) (hl : lv_has ls 1 [(0, .ref x0)]) : W p l e rm_X5_token s m args below meth c H locs 0 0 (MQ below (Qv g r) args s 0 0 (frN g)) (F0 m 44 ls []) := by
  unfold F_X5_token_44 at h
  refine lv_aload_n X.1 X.2.1 dX5_token_44 rfl (lv_at hl 0 rfl) ?_
  refine lv_aload_n X.1 X.2.1 dX5_token_45 rfl (lv_at hl 0 rfl) ?_
  refine r_gI X hV fl_X5_31_5 dX5_token_46 h (fun v1 h => ?_)
  refine r_pI X hV hF fp_X5_38_5 (fun q => by cases q) dX5_token_49 h (fun s1 H locs hV hF h => ?_)
  refine lv_aload_n X.1 X.2.1 dX5_token_52 rfl (lv_at hl 0 rfl) ?_
  refine lv_dup X.1 X.2.1 dX5_token_53 rfl ?_
  refine r_gI X hV fl_X5_31_5 dX5_token_54 h (fun v2 h => ?_)
  refine lv_aload_n X.1 X.2.1 dX5_token_57 rfl (lv_at hl 0 rfl) ?_
  refine r_gI X hV fl_X5_31_5 dX5_token_58 h (fun v3 h => ?_)
  refine lv_aload_n X.1 X.2.1 dX5_token_61 rfl (lv_at hl 0 rfl) ?_
  refine r_gR X hV fl_X5_3_5 (by decide) dX5_token_62 h (fun v4 h => ?_)
  refine r_gI X hV fl_X5_35_0 dX5_token_65 h (fun v5 h => ?_)
  refine r_ge (tgt := 75) X.1 X.2.1 dX5_token_68 (by decide) h (fun h => ?_) (fun h => ?_)
  · refine lv_iconst (v := 0) X.1 X.2.1 dX5_token_75 (by decide) ?_
    refine lv_iadd X.1 X.2.1 dX5_token_76 ?_
    refine r_pI X hV hF fp_X5_31_5 (fun q => by cases q) dX5_token_77 h (fun s2 H locs hV hF h => ?_)
    exact w_X5_token_80 X  FU s2 h _ _ _ hV hF (lv_sub hl [0] rfl)
  · refine lv_iconst (v := 1) X.1 X.2.1 dX5_token_71 (by decide) ?_
    refine lv_goto (tgt := 76) X.1 X.2.1 dX5_token_72 (by decide) ?_
    refine lv_iadd X.1 X.2.1 dX5_token_76 ?_
    refine r_pI X hV hF fp_X5_31_5 (fun q => by cases q) dX5_token_77 h (fun s3 H locs hV hF h => ?_)
    exact w_X5_token_80 X  FU s3 h _ _ _ hV hF (lv_sub hl [0] rfl)
set_option maxHeartbeats 4000000 in
theorem w_X5_token_0_b {p : Program} {l : Launch} {e : Env} {s : State} {m : MethodId} {args : Array Value} {below : List Frame} {meth : Method} {c : Code} {g : Gl} (X : FX g p m c s args meth cX5_token 1 RX5 none "token") {r : Hp} {rec0 : Hp → Option (Hp)} {x0 : Nat} {σ : Hp} (hr0 : ∀ (st : Hp), rec0 st = some r → ∀ (H : Heap) (locs : List Loc) (ls : Array Slot), HV g st H → FR g locs → lv_has ls 1 [(0, .ref x0)] → W p l e rm_X5_token s m args below meth c H locs 0 0 (MQ below (Qv g r) args s 0 0 (frN g)) (F0 m 0 ls [])) {H : Heap} {locs : List Loc} {ls : Array Slot} (h : B_X5_token_0 x0 rec0 σ = some r) (hV : HV g σ H) (hF : FR g locs) (hl : lv_has ls 1 [(0, .ref x0)]) : W p l e rm_X5_token s m args below meth c H locs 0 0 (MQ below (Qv g r) args s 0 0 (frN g)) (F0 m 0 ls []) := by
  unfold B_X5_token_0 at h
  refine lv_aload_n X.1 X.2.1 dX5_token_0 rfl (lv_at hl 0 rfl) ?_
  refine r_gI X hV fl_X5_31_5 dX5_token_1 h (fun v1 h => ?_)
  refine lv_aload_n X.1 X.2.1 dX5_token_4 rfl (lv_at hl 0 rfl) ?_
  refine r_gR X hV fl_X5_3_5 (by decide) dX5_token_5 h (fun v2 h => ?_)
  refine r_gI X hV fl_X5_35_0 dX5_token_8 h (fun v3 h => ?_)
  refine r_ge (tgt := 44) X.1 X.2.1 dX5_token_11 (by decide) h (fun h => ?_) (fun h => ?_)
  · exact w_X5_token_44 X  h hV hF (lv_sub hl [0] rfl)
  · refine lv_aload_n X.1 X.2.1 dX5_token_14 rfl (lv_at hl 0 rfl) ?_
    refine r_gR X hV fl_X5_3_5 (by decide) dX5_token_15 h (fun v4 h => ?_)
    refine r_gR X hV fl_X5_15_0 (by decide) dX5_token_18 h (fun v5 h => ?_)
    refine lv_aload_n X.1 X.2.1 dX5_token_21 rfl (lv_at hl 0 rfl) ?_
    refine r_gI X hV fl_X5_31_5 dX5_token_22 h (fun v6 h => ?_)
    refine r_ba X hV dX5_token_25 h (fun v7 h => ?_)
    refine lv_bipush (v := 32) X.1 X.2.1 dX5_token_26 (by decide) ?_
    refine r_ne (tgt := 44) X.1 X.2.1 dX5_token_28 (by decide) h (fun h => ?_) (fun h => ?_)
    · exact w_X5_token_44 X  h hV hF (lv_sub hl [0] rfl)
    · refine lv_aload_n X.1 X.2.1 dX5_token_31 rfl (lv_at hl 0 rfl) ?_
      refine lv_dup X.1 X.2.1 dX5_token_32 rfl ?_
      refine r_gI X hV fl_X5_31_5 dX5_token_33 h (fun v8 h => ?_)
      refine lv_iconst (v := 1) X.1 X.2.1 dX5_token_36 (by decide) ?_
      refine lv_iadd X.1 X.2.1 dX5_token_37 ?_
      refine r_pI X hV hF fp_X5_31_5 (fun q => by cases q) dX5_token_38 h (fun s1 H locs hV hF h => ?_)
      refine lv_goto (tgt := 0) X.1 X.2.1 dX5_token_41 (by decide) ?_
      exact hr0 s1 h _ _ _ hV hF (lv_sub hl [0] rfl)
set_option maxHeartbeats 4000000 in
theorem w_X5_token_0 {p : Program} {l : Launch} {e : Env} {s : State} {m : MethodId} {args : Array Value} {below : List Frame} {meth : Method} {c : Code} {g : Gl} (X : FX g p m c s args meth cX5_token 1 RX5 none "token") {r : Hp} {x0 : Nat}  : ∀ (n : Nat) (st : Hp), L_X5_token_0 x0 n st = some r → ∀ (H : Heap) (locs : List Loc) (ls : Array Slot), HV g st H → FR g locs → lv_has ls 1 [(0, .ref x0)] → W p l e rm_X5_token s m args below meth c H locs 0 0 (MQ below (Qv g r) args s 0 0 (frN g)) (F0 m 0 ls []) := by
  intro n
  induction n with
  | zero =>
    intro st h
    rw [L_X5_token_0_0] at h
    cases h
  | succ n ih =>
    intro st h H locs ls hV hF hl
    rw [L_X5_token_0_s] at h
    exact w_X5_token_0_b X  ih h hV hF hl
set_option maxHeartbeats 4000000 in
theorem c_X5_token (l : Launch) {g : Gl} {σ : Hp} {x0 : Nat} {r : Hp} (h : F_X5_token σ x0 = some r) : Met l yX5_token (ws_ yX5_token cX5_token 1 none) rm_X5_token (va_Pc [.ref x0] (WV g σ)) (Qv g r) 0 0 (frN g) := by
  refine ct_of (by decide) (Nat.le_of_ble_eq_true rfl) ?_
  intro p e s m below meth c ls X hV hl
  have hF : FR g [] := FR_nil
  unfold F_X5_token at h
  have hl : lv_has ls 1 [(0, .ref x0)] := hl
  have X : FX g p m c s _ meth cX5_token 1 RX5 none "token" := X
  obtain ⟨-, h⟩ := gd_inv h
  exact w_X5_token_0 X  FU σ h _ _ _ hV hF (lv_sub hl [0] rfl)
/-! java/lang/String.coder -/
theorem dJ2_coder_0 : decode cJ2_coder 0 = .ok (.getstatic 38, 3) := by decide +kernel
theorem dJ2_coder_3 : decode cJ2_coder 3 = .ok (.ifCond .eq 10, 3) := by decide +kernel
theorem dJ2_coder_6 : decode cJ2_coder 6 = .ok (.aload_n 0, 1) := by decide +kernel
theorem dJ2_coder_7 : decode cJ2_coder 7 = .ok (.getfield 15, 3) := by decide +kernel
theorem dJ2_coder_10 : decode cJ2_coder 10 = .ok (.goto 4, 3) := by decide +kernel
theorem dJ2_coder_13 : decode cJ2_coder 13 = .ok (.iconst 1, 1) := by decide +kernel
theorem dJ2_coder_14 : decode cJ2_coder 14 = .ok (.ireturn, 1) := by decide +kernel
theorem yd_J2_coder : yJ2_coder.cls ≠ "java/lang/invoke/MethodHandle" ∧ yJ2_coder.cls ≠ "java/lang/invoke/VarHandle" ∧ (parseMethodDescriptor yJ2_coder.desc).map (fun d => d.parameters.length) = some 0 := by decide +kernel
abbrev rm_J2_coder : Room := { frames := 0, cells := 0, slots := 0, locals := 0 }
set_option maxHeartbeats 4000000 in
theorem c_J2_coder (l : Launch) {g : Gl} {σ : Hp} {x0 : Nat} {r : Int32 × Hp} (h : F_J2_coder σ x0 = some r) : Met l yJ2_coder (ws_ yJ2_coder cJ2_coder 1 (some .byte)) rm_J2_coder (va_Pc [.ref (g.2.2.2.2.1 x0)] (WV g σ)) (Qi g r) 0 0 (frN g) := by
  refine ct_of (by decide) (Nat.le_of_ble_eq_true rfl) ?_
  intro p e s m below meth c ls X hV hl
  have hF : FR g [] := FR_nil
  unfold F_J2_coder at h
  have hl : lv_has ls 1 [(0, .ref (g.2.2.2.2.1 x0))] := hl
  have X : FX g p m c s _ meth cJ2_coder 1 RJ2 (some .byte) "coder" := X
  obtain ⟨-, h⟩ := sK_inv h
  refine r_gs X hV X.2.2.2.2.2.1.2.2.2.2.2.2.2.1.2.2.1 q521 dJ2_coder_0 ?_
  refine r_ifeq (tgt := 13) X.1 X.2.1 dJ2_coder_3 (by decide) h (fun h => ?_) (fun h => ?_)
  · refine lv_iconst (v := 1) X.1 X.2.1 dJ2_coder_13 (by decide) ?_
    exact r_bret X hV hF h rfl dJ2_coder_14
  · refine lv_aload_n X.1 X.2.1 dJ2_coder_6 rfl (lv_at hl 0 rfl) ?_
    refine r_sC X hV q1377 dJ2_coder_7 h (fun h => ?_)
    refine lv_goto (tgt := 14) X.1 X.2.1 dJ2_coder_10 (by decide) ?_
    exact r_bret X hV hF h rfl dJ2_coder_14
/-! java/lang/String.length -/
theorem dJ2_length_0 : decode cJ2_length 0 = .ok (.aload_n 0, 1) := by decide +kernel
theorem dJ2_length_1 : decode cJ2_length 1 = .ok (.getfield 9, 3) := by decide +kernel
theorem dJ2_length_4 : decode cJ2_length 4 = .ok (.arraylength, 1) := by decide +kernel
theorem dJ2_length_5 : decode cJ2_length 5 = .ok (.aload_n 0, 1) := by decide +kernel
theorem dJ2_length_6 : decode cJ2_length 6 = .ok (.invokevirtual 335, 3) := by decide +kernel
theorem dJ2_length_9 : decode cJ2_length 9 = .ok (.ishr, 1) := by decide +kernel
theorem dJ2_length_10 : decode cJ2_length 10 = .ok (.ireturn, 1) := by decide +kernel
theorem yd_J2_length : yJ2_length.cls ≠ "java/lang/invoke/MethodHandle" ∧ yJ2_length.cls ≠ "java/lang/invoke/VarHandle" ∧ (parseMethodDescriptor yJ2_length.desc).map (fun d => d.parameters.length) = some 0 := by decide +kernel
abbrev rm_J2_length : Room := { frames := 1, cells := 0, slots := 0, locals := 20 }
set_option maxHeartbeats 4000000 in
theorem c_J2_length (l : Launch) {g : Gl} {σ : Hp} {x0 : Nat} {r : Int32 × Hp} (h : F_J2_length σ x0 = some r) : Met l yJ2_length (ws_ yJ2_length cJ2_length 1 (some .int)) rm_J2_length (va_Pc [.ref (g.2.2.2.2.1 x0)] (WV g σ)) (Qi g r) 0 0 (frN g) := by
  refine ct_of (by decide) (Nat.le_of_ble_eq_true rfl) ?_
  intro p e s m below meth c ls X hV hl
  have hF : FR g [] := FR_nil
  unfold F_J2_length at h
  have hl : lv_has ls 1 [(0, .ref (g.2.2.2.2.1 x0))] := hl
  have X : FX g p m c s _ meth cJ2_length 1 RJ2 (some .int) "length" := X
  obtain ⟨-, h⟩ := sK_inv h
  refine lv_aload_n X.1 X.2.1 dJ2_length_0 rfl (lv_at hl 0 rfl) ?_
  refine r_sV X hV q1376 dJ2_length_1 h (fun h => ?_)
  refine r_sL X hV dJ2_length_4 h (fun v1 h => ?_)
  refine lv_aload_n X.1 X.2.1 dJ2_length_5 rfl (lv_at hl 0 rfl) ?_
  obtain ⟨v2, s1, hc, h⟩ := b2_inv h
  refine r_ci (va_runV (C := RJ2) (As := []) (rest := [.int v1]) (cfX X) (c_J2_coder l hc) (cwV 0 X.2.2.2.2.1 (lw_V q517 q518 q519 q62 q520) rfl rfl rfl ⟨rfl, yd_J2_coder⟩ ⟨Nat.le_of_ble_eq_true rfl, Nat.le_of_ble_eq_true rfl⟩) (preStr X hV (F_J2_coder_g hc)) rfl rfl hl.1 rfl (lv_room (Nat.le_of_ble_eq_true rfl)) dJ2_length_6 ⟨(Nat.le_of_ble_eq_true rfl), (Nat.le_of_ble_eq_true rfl)⟩) hF (fun H locs hV hF => ?_)
  refine lv_ishr X.1 X.2.1 dJ2_length_9 ?_
  exact r_iret X hV hF h dJ2_length_10
/-! java/lang/String.isLatin1 -/
theorem dJ2_isLatin1_0 : decode cJ2_isLatin1 0 = .ok (.getstatic 38, 3) := by decide +kernel
theorem dJ2_isLatin1_3 : decode cJ2_isLatin1 3 = .ok (.ifCond .eq 14, 3) := by decide +kernel
theorem dJ2_isLatin1_6 : decode cJ2_isLatin1 6 = .ok (.aload_n 0, 1) := by decide +kernel
theorem dJ2_isLatin1_7 : decode cJ2_isLatin1 7 = .ok (.getfield 15, 3) := by decide +kernel
theorem dJ2_isLatin1_10 : decode cJ2_isLatin1 10 = .ok (.ifCond .ne 7, 3) := by decide +kernel
theorem dJ2_isLatin1_13 : decode cJ2_isLatin1 13 = .ok (.iconst 1, 1) := by decide +kernel
theorem dJ2_isLatin1_14 : decode cJ2_isLatin1 14 = .ok (.goto 4, 3) := by decide +kernel
theorem dJ2_isLatin1_17 : decode cJ2_isLatin1 17 = .ok (.iconst 0, 1) := by decide +kernel
theorem dJ2_isLatin1_18 : decode cJ2_isLatin1 18 = .ok (.ireturn, 1) := by decide +kernel
theorem yd_J2_isLatin1 : yJ2_isLatin1.cls ≠ "java/lang/invoke/MethodHandle" ∧ yJ2_isLatin1.cls ≠ "java/lang/invoke/VarHandle" ∧ (parseMethodDescriptor yJ2_isLatin1.desc).map (fun d => d.parameters.length) = some 0 := by decide +kernel
abbrev rm_J2_isLatin1 : Room := { frames := 0, cells := 0, slots := 0, locals := 0 }
set_option maxHeartbeats 4000000 in
theorem c_J2_isLatin1 (l : Launch) {g : Gl} {σ : Hp} {x0 : Nat} {r : Int32 × Hp} (h : F_J2_isLatin1 σ x0 = some r) : Met l yJ2_isLatin1 (ws_ yJ2_isLatin1 cJ2_isLatin1 1 (some .boolean)) rm_J2_isLatin1 (va_Pc [.ref (g.2.2.2.2.1 x0)] (WV g σ)) (Qi g r) 0 0 (frN g) := by
  refine ct_of (by decide) (Nat.le_of_ble_eq_true rfl) ?_
  intro p e s m below meth c ls X hV hl
  have hF : FR g [] := FR_nil
  unfold F_J2_isLatin1 at h
  have hl : lv_has ls 1 [(0, .ref (g.2.2.2.2.1 x0))] := hl
  have X : FX g p m c s _ meth cJ2_isLatin1 1 RJ2 (some .boolean) "isLatin1" := X
  obtain ⟨-, h⟩ := sK_inv h
  refine r_gs X hV X.2.2.2.2.2.1.2.2.2.2.2.2.2.1.2.2.1 q521 dJ2_isLatin1_0 ?_
  refine r_ifeq (tgt := 17) X.1 X.2.1 dJ2_isLatin1_3 (by decide) h (fun h => ?_) (fun h => ?_)
  · refine lv_iconst (v := 0) X.1 X.2.1 dJ2_isLatin1_17 (by decide) ?_
    exact r_zret X hV hF h rfl dJ2_isLatin1_18
  · refine lv_aload_n X.1 X.2.1 dJ2_isLatin1_6 rfl (lv_at hl 0 rfl) ?_
    refine r_sC X hV q1377 dJ2_isLatin1_7 h (fun h => ?_)
    refine r_ifne (tgt := 17) X.1 X.2.1 dJ2_isLatin1_10 (by decide) h (fun h => ?_) (fun h => ?_)
    · refine lv_iconst (v := 0) X.1 X.2.1 dJ2_isLatin1_17 (by decide) ?_
      exact r_zret X hV hF h rfl dJ2_isLatin1_18
    · refine lv_iconst (v := 1) X.1 X.2.1 dJ2_isLatin1_13 (by decide) ?_
      refine lv_goto (tgt := 18) X.1 X.2.1 dJ2_isLatin1_14 (by decide) ?_
      exact r_zret X hV hF h rfl dJ2_isLatin1_18
/-! jdk/internal/util/Preconditions.checkIndex for classes {2: 'U'} -/
theorem dJ4_checkIndex_0 : decode cJ4_checkIndex 0 = .ok (.iload_n 0, 1) := by decide +kernel
theorem dJ4_checkIndex_1 : decode cJ4_checkIndex 1 = .ok (.ifCond .lt 8, 3) := by decide +kernel
theorem dJ4_checkIndex_4 : decode cJ4_checkIndex 4 = .ok (.iload_n 0, 1) := by decide +kernel
theorem dJ4_checkIndex_5 : decode cJ4_checkIndex 5 = .ok (.iload_n 1, 1) := by decide +kernel
theorem dJ4_checkIndex_6 : decode cJ4_checkIndex 6 = .ok (.if_icmp .lt 10, 3) := by decide +kernel
theorem dJ4_checkIndex_16 : decode cJ4_checkIndex 16 = .ok (.iload_n 0, 1) := by decide +kernel
theorem dJ4_checkIndex_17 : decode cJ4_checkIndex 17 = .ok (.ireturn, 1) := by decide +kernel
theorem yd_J4_checkIndex : yJ4_checkIndex.cls ≠ "java/lang/invoke/MethodHandle" ∧ yJ4_checkIndex.cls ≠ "java/lang/invoke/VarHandle" ∧ (parseMethodDescriptor yJ4_checkIndex.desc).map (fun d => d.parameters.length) = some 3 := by decide +kernel
abbrev rm_J4_checkIndex : Room := { frames := 0, cells := 0, slots := 0, locals := 0 }
set_option maxHeartbeats 4000000 in
theorem c_J4_checkIndex (l : Launch) {g : Gl} {σ : Hp} {x0 : Int32} {x1 : Int32} {x2 : Option Nat} {r : Int32 × Hp} (h : F_J4_checkIndex σ x0 x1 = some r) : Met l yJ4_checkIndex (ws_ yJ4_checkIndex cJ4_checkIndex 3 (some .int)) rm_J4_checkIndex (va_Pc [.int x0, .int x1, va_rf x2] (WV g σ)) (Qi g r) 0 0 (frN g) := by
  cases x2 <;> (
  refine ct_of (by decide) (Nat.le_of_ble_eq_true rfl) ?_
  intro p e s m below meth c ls X hV hl
  have hF : FR g [] := FR_nil
  unfold F_J4_checkIndex at h
  have hl : lv_has ls 3 [(0, .int x0), (1, .int x1)] := lv_sub hl [0, 1] rfl
  have X : FX g p m c s _ meth cJ4_checkIndex 3 RJ4 (some .int) "checkIndex" := X
  refine lv_iload_n X.1 X.2.1 dJ4_checkIndex_0 rfl (lv_at hl 0 rfl) ?_
  refine r_iflt (tgt := 9) X.1 X.2.1 dJ4_checkIndex_1 (by decide) h (fun h => ?_) (fun h => ?_)
  · cases h
  · refine lv_iload_n X.1 X.2.1 dJ4_checkIndex_4 rfl (lv_at hl 0 rfl) ?_
    refine lv_iload_n X.1 X.2.1 dJ4_checkIndex_5 rfl (lv_at hl 1 rfl) ?_
    refine r_lt (tgt := 16) X.1 X.2.1 dJ4_checkIndex_6 (by decide) h (fun h => ?_) (fun h => ?_)
    · refine lv_iload_n X.1 X.2.1 dJ4_checkIndex_16 rfl (lv_at hl 0 rfl) ?_
      exact r_iret X hV hF h dJ4_checkIndex_17
    · cases h)
/-! java/lang/String.checkIndex -/
theorem dJ2_checkIndex_0 : decode cJ2_checkIndex 0 = .ok (.iload_n 0, 1) := by decide +kernel
theorem dJ2_checkIndex_1 : decode cJ2_checkIndex 1 = .ok (.iload_n 1, 1) := by decide +kernel
theorem dJ2_checkIndex_2 : decode cJ2_checkIndex 2 = .ok (.getstatic 1053, 3) := by decide +kernel
theorem dJ2_checkIndex_5 : decode cJ2_checkIndex 5 = .ok (.invokestatic 1059, 3) := by decide +kernel
theorem dJ2_checkIndex_8 : decode cJ2_checkIndex 8 = .ok (.pop, 1) := by decide +kernel
theorem dJ2_checkIndex_9 : decode cJ2_checkIndex 9 = .ok (.return_, 1) := by decide +kernel
theorem yd_J2_checkIndex : yJ2_checkIndex.cls ≠ "java/lang/invoke/MethodHandle" ∧ yJ2_checkIndex.cls ≠ "java/lang/invoke/VarHandle" ∧ (parseMethodDescriptor yJ2_checkIndex.desc).map (fun d => d.parameters.length) = some 2 := by decide +kernel
abbrev rm_J2_checkIndex : Room := { frames := 1, cells := 0, slots := 0, locals := 22 }
set_option maxHeartbeats 4000000 in
theorem c_J2_checkIndex (l : Launch) {g : Gl} {σ : Hp} {x0 : Int32} {x1 : Int32} {r : Hp} (h : F_J2_checkIndex σ x0 x1 = some r) : Met l yJ2_checkIndex (ws_ yJ2_checkIndex cJ2_checkIndex 2 none) rm_J2_checkIndex (va_Pc [.int x0, .int x1] (WV g σ)) (Qv g r) 0 0 (frN g) := by
  refine ct_of (by decide) (Nat.le_of_ble_eq_true rfl) ?_
  intro p e s m below meth c ls X hV hl
  have hF : FR g [] := FR_nil
  unfold F_J2_checkIndex at h
  have hl : lv_has ls 2 [(0, .int x0), (1, .int x1)] := hl
  have X : FX g p m c s _ meth cJ2_checkIndex 2 RJ2 none "checkIndex" := X
  refine lv_iload_n X.1 X.2.1 dJ2_checkIndex_0 rfl (lv_at hl 0 rfl) ?_
  refine lv_iload_n X.1 X.2.1 dJ2_checkIndex_1 rfl (lv_at hl 1 rfl) ?_
  refine r_gsU X hV X.2.2.2.2.2.1.2.2.2.2.2.2.2.1.2.2.2.1 q537 dJ2_checkIndex_2 (fun o1 => ?_)
  obtain ⟨v1, s1, hc, h⟩ := b2_inv h
  refine r_ci (va_runS (As := [.int x0, .int x1, va_rf o1]) (rest := []) (cfX X) (c_J4_checkIndex l hc) (va_cwS 3 X.2.2.2.2.1 (lw_S q539 q540 q64 q541) rfl rfl rfl yd_J4_checkIndex ⟨Nat.le_of_ble_eq_true rfl, Nat.le_of_ble_eq_true rfl⟩) (preS X hV) rfl rfl hl.1 rfl (lv_room (Nat.le_of_ble_eq_true rfl)) dJ2_checkIndex_5 ⟨(Nat.le_of_ble_eq_true rfl), (Nat.le_of_ble_eq_true rfl)⟩) hF (fun H locs hV hF => ?_)
  refine lv_pop X.1 X.2.1 dJ2_checkIndex_8 rfl ?_
  exact r_vret X hV hF h dJ2_checkIndex_9
/-! java/lang/StringLatin1.charAt for classes {0: 'V'} -/
theorem dJ3_charAt_0 : decode cJ3_charAt 0 = .ok (.iload_n 1, 1) := by decide +kernel
theorem dJ3_charAt_1 : decode cJ3_charAt 1 = .ok (.aload_n 0, 1) := by decide +kernel
theorem dJ3_charAt_2 : decode cJ3_charAt 2 = .ok (.arraylength, 1) := by decide +kernel
theorem dJ3_charAt_3 : decode cJ3_charAt 3 = .ok (.invokestatic 9, 3) := by decide +kernel
theorem dJ3_charAt_6 : decode cJ3_charAt 6 = .ok (.aload_n 0, 1) := by decide +kernel
theorem dJ3_charAt_7 : decode cJ3_charAt 7 = .ok (.iload_n 1, 1) := by decide +kernel
theorem dJ3_charAt_8 : decode cJ3_charAt 8 = .ok (.baload, 1) := by decide +kernel
theorem dJ3_charAt_9 : decode cJ3_charAt 9 = .ok (.sipush 255, 3) := by decide +kernel
theorem dJ3_charAt_12 : decode cJ3_charAt 12 = .ok (.iand, 1) := by decide +kernel
theorem dJ3_charAt_13 : decode cJ3_charAt 13 = .ok (.i2c, 1) := by decide +kernel
theorem dJ3_charAt_14 : decode cJ3_charAt 14 = .ok (.ireturn, 1) := by decide +kernel
theorem yd_J3_charAt : yJ3_charAt.cls ≠ "java/lang/invoke/MethodHandle" ∧ yJ3_charAt.cls ≠ "java/lang/invoke/VarHandle" ∧ (parseMethodDescriptor yJ3_charAt.desc).map (fun d => d.parameters.length) = some 2 := by decide +kernel
abbrev rm_J3_charAt : Room := { frames := 2, cells := 0, slots := 0, locals := 43 }
set_option maxHeartbeats 4000000 in
theorem c_J3_charAt (l : Launch) {g : Gl} {σ : Hp} {x0 : Nat} {x1 : Int32} {r : Int32 × Hp} (h : F_J3_charAt σ x0 x1 = some r) : Met l yJ3_charAt (ws_ yJ3_charAt cJ3_charAt 2 (some .char)) rm_J3_charAt (va_Pc [.ref (g.2.2.2.2.2 x0), .int x1] (WV g σ)) (Qi g r) 0 0 (frN g) := by
  refine ct_of (by decide) (Nat.le_of_ble_eq_true rfl) ?_
  intro p e s m below meth c ls X hV hl
  have hF : FR g [] := FR_nil
  unfold F_J3_charAt at h
  have hl : lv_has ls 2 [(0, .ref (g.2.2.2.2.2 x0)), (1, .int x1)] := hl
  have X : FX g p m c s _ meth cJ3_charAt 2 RJ3 (some .char) "charAt" := X
  refine lv_iload_n X.1 X.2.1 dJ3_charAt_0 rfl (lv_at hl 1 rfl) ?_
  refine lv_aload_n X.1 X.2.1 dJ3_charAt_1 rfl (lv_at hl 0 rfl) ?_
  refine r_sL X hV dJ3_charAt_2 h (fun v1 h => ?_)
  obtain ⟨s1, hc, h⟩ := b1_inv h
  refine r_cv (va_runS (As := [.int x1, .int v1]) (rest := []) (cfX X) (c_J2_checkIndex l hc) (va_cwS 2 X.2.2.2.2.1 (lw_S q534 q535 q62 q536) rfl rfl rfl yd_J2_checkIndex ⟨Nat.le_of_ble_eq_true rfl, Nat.le_of_ble_eq_true rfl⟩) (preS X hV) rfl rfl hl.1 rfl (lv_room (Nat.le_of_ble_eq_true rfl)) dJ3_charAt_3 ⟨(Nat.le_of_ble_eq_true rfl), (Nat.le_of_ble_eq_true rfl)⟩) hF (fun H locs hV hF => ?_)
  refine lv_aload_n X.1 X.2.1 dJ3_charAt_6 rfl (lv_at hl 0 rfl) ?_
  refine lv_iload_n X.1 X.2.1 dJ3_charAt_7 rfl (lv_at hl 1 rfl) ?_
  refine r_sB X hV dJ3_charAt_8 h (fun v3 h => ?_)
  refine lv_sipush (v := 255) X.1 X.2.1 dJ3_charAt_9 (by decide) ?_
  refine lv_iand X.1 X.2.1 dJ3_charAt_12 ?_
  refine lv_i2c (v := ((v3 &&& 255 : Int32).toUInt32 % 65536).toInt32) X.1 X.2.1 dJ3_charAt_13 rfl ?_
  exact r_cret X hV hF h dJ3_charAt_14
/-! java/lang/String.charAt -/
theorem dJ2_charAt_0 : decode cJ2_charAt 0 = .ok (.aload_n 0, 1) := by decide +kernel
theorem dJ2_charAt_1 : decode cJ2_charAt 1 = .ok (.invokevirtual 492, 3) := by decide +kernel
theorem dJ2_charAt_4 : decode cJ2_charAt 4 = .ok (.ifCond .eq 12, 3) := by decide +kernel
theorem dJ2_charAt_7 : decode cJ2_charAt 7 = .ok (.aload_n 0, 1) := by decide +kernel
theorem dJ2_charAt_8 : decode cJ2_charAt 8 = .ok (.getfield 9, 3) := by decide +kernel
theorem dJ2_charAt_11 : decode cJ2_charAt 11 = .ok (.iload_n 1, 1) := by decide +kernel
theorem dJ2_charAt_12 : decode cJ2_charAt 12 = .ok (.invokestatic 495, 3) := by decide +kernel
theorem dJ2_charAt_15 : decode cJ2_charAt 15 = .ok (.ireturn, 1) := by decide +kernel
theorem yd_J2_charAt : yJ2_charAt.cls ≠ "java/lang/invoke/MethodHandle" ∧ yJ2_charAt.cls ≠ "java/lang/invoke/VarHandle" ∧ (parseMethodDescriptor yJ2_charAt.desc).map (fun d => d.parameters.length) = some 1 := by decide +kernel
abbrev rm_J2_charAt : Room := { frames := 3, cells := 0, slots := 0, locals := 64 }
set_option maxHeartbeats 4000000 in
theorem c_J2_charAt (l : Launch) {g : Gl} {σ : Hp} {x0 : Nat} {x1 : Int32} {r : Int32 × Hp} (h : F_J2_charAt σ x0 x1 = some r) : Met l yJ2_charAt (ws_ yJ2_charAt cJ2_charAt 2 (some .char)) rm_J2_charAt (va_Pc [.ref (g.2.2.2.2.1 x0), .int x1] (WV g σ)) (Qi g r) 0 0 (frN g) := by
  refine ct_of (by decide) (Nat.le_of_ble_eq_true rfl) ?_
  intro p e s m below meth c ls X hV hl
  have hF : FR g [] := FR_nil
  unfold F_J2_charAt at h
  have hl : lv_has ls 2 [(0, .ref (g.2.2.2.2.1 x0)), (1, .int x1)] := hl
  have X : FX g p m c s _ meth cJ2_charAt 2 RJ2 (some .char) "charAt" := X
  obtain ⟨-, h⟩ := sK_inv h
  refine lv_aload_n X.1 X.2.1 dJ2_charAt_0 rfl (lv_at hl 0 rfl) ?_
  obtain ⟨v1, s1, hc, h⟩ := b2_inv h
  refine r_ci (va_runV (C := RJ2) (As := []) (rest := []) (cfX X) (c_J2_isLatin1 l hc) (cwV 0 X.2.2.2.2.1 (lw_V q527 q528 q529 q62 q530) rfl rfl rfl ⟨rfl, yd_J2_isLatin1⟩ ⟨Nat.le_of_ble_eq_true rfl, Nat.le_of_ble_eq_true rfl⟩) (preStr X hV (F_J2_isLatin1_g hc)) rfl rfl hl.1 rfl (lv_room (Nat.le_of_ble_eq_true rfl)) dJ2_charAt_1 ⟨(Nat.le_of_ble_eq_true rfl), (Nat.le_of_ble_eq_true rfl)⟩) hF (fun H locs hV hF => ?_)
  refine r_ifeq (tgt := 16) X.1 X.2.1 dJ2_charAt_4 (by decide) h (fun h => ?_) (fun h => ?_)
  · cases h
  · refine lv_aload_n X.1 X.2.1 dJ2_charAt_7 rfl (lv_at hl 0 rfl) ?_
    refine r_sV X hV q1376 dJ2_charAt_8 h (fun h => ?_)
    refine lv_iload_n X.1 X.2.1 dJ2_charAt_11 rfl (lv_at hl 1 rfl) ?_
    obtain ⟨v2, s2, hc, h⟩ := b2_inv h
    refine r_ci (va_runS (As := [.ref (g.2.2.2.2.2 x0), .int x1]) (rest := []) (cfX X) (c_J3_charAt l hc) (va_cwS 2 X.2.2.2.2.1 (lw_S q531 q532 q63 q533) rfl rfl rfl yd_J3_charAt ⟨Nat.le_of_ble_eq_true rfl, Nat.le_of_ble_eq_true rfl⟩) (preS X hV) rfl rfl hl.1 rfl (lv_room (Nat.le_of_ble_eq_true rfl)) dJ2_charAt_12 ⟨(Nat.le_of_ble_eq_true rfl), (Nat.le_of_ble_eq_true rfl)⟩) hF (fun H locs hV hF => ?_)
    exact r_cret X hV hF h dJ2_charAt_15
/-! PalaceOfRooms$Reader.isWord -/
theorem dX5_isWord_0 : decode cX5_isWord 0 = .ok (.aload_n 0, 1) := by decide +kernel
theorem dX5_isWord_1 : decode cX5_isWord 1 = .ok (.getfield 45, 3) := by decide +kernel
theorem dX5_isWord_4 : decode cX5_isWord 4 = .ok (.aload_n 0, 1) := by decide +kernel
theorem dX5_isWord_5 : decode cX5_isWord 5 = .ok (.getfield 38, 3) := by decide +kernel
theorem dX5_isWord_8 : decode cX5_isWord 8 = .ok (.isub, 1) := by decide +kernel
theorem dX5_isWord_9 : decode cX5_isWord 9 = .ok (.aload_n 1, 1) := by decide +kernel
theorem dX5_isWord_10 : decode cX5_isWord 10 = .ok (.invokevirtual 48, 3) := by decide +kernel
theorem dX5_isWord_13 : decode cX5_isWord 13 = .ok (.if_icmp .ne 7, 3) := by decide +kernel
theorem dX5_isWord_16 : decode cX5_isWord 16 = .ok (.iconst 1, 1) := by decide +kernel
theorem dX5_isWord_17 : decode cX5_isWord 17 = .ok (.goto 4, 3) := by decide +kernel
theorem dX5_isWord_20 : decode cX5_isWord 20 = .ok (.iconst 0, 1) := by decide +kernel
theorem dX5_isWord_21 : decode cX5_isWord 21 = .ok (.istore_n 2, 1) := by decide +kernel
theorem dX5_isWord_22 : decode cX5_isWord 22 = .ok (.iconst 0, 1) := by decide +kernel
theorem dX5_isWord_23 : decode cX5_isWord 23 = .ok (.istore_n 3, 1) := by decide +kernel
theorem dX5_isWord_24 : decode cX5_isWord 24 = .ok (.iload_n 2, 1) := by decide +kernel
theorem dX5_isWord_25 : decode cX5_isWord 25 = .ok (.ifCond .eq 45, 3) := by decide +kernel
theorem dX5_isWord_28 : decode cX5_isWord 28 = .ok (.iload_n 3, 1) := by decide +kernel
theorem dX5_isWord_29 : decode cX5_isWord 29 = .ok (.aload_n 1, 1) := by decide +kernel
theorem dX5_isWord_30 : decode cX5_isWord 30 = .ok (.invokevirtual 48, 3) := by decide +kernel
theorem dX5_isWord_33 : decode cX5_isWord 33 = .ok (.if_icmp .ge 37, 3) := by decide +kernel
theorem dX5_isWord_36 : decode cX5_isWord 36 = .ok (.aload_n 0, 1) := by decide +kernel
theorem dX5_isWord_37 : decode cX5_isWord 37 = .ok (.getfield 3, 3) := by decide +kernel
theorem dX5_isWord_40 : decode cX5_isWord 40 = .ok (.getfield 15, 3) := by decide +kernel
theorem dX5_isWord_43 : decode cX5_isWord 43 = .ok (.aload_n 0, 1) := by decide +kernel
theorem dX5_isWord_44 : decode cX5_isWord 44 = .ok (.getfield 38, 3) := by decide +kernel
theorem dX5_isWord_47 : decode cX5_isWord 47 = .ok (.iload_n 3, 1) := by decide +kernel
theorem dX5_isWord_48 : decode cX5_isWord 48 = .ok (.iadd, 1) := by decide +kernel
theorem dX5_isWord_49 : decode cX5_isWord 49 = .ok (.baload, 1) := by decide +kernel
theorem dX5_isWord_50 : decode cX5_isWord 50 = .ok (.aload_n 1, 1) := by decide +kernel
theorem dX5_isWord_51 : decode cX5_isWord 51 = .ok (.iload_n 3, 1) := by decide +kernel
theorem dX5_isWord_52 : decode cX5_isWord 52 = .ok (.invokevirtual 53, 3) := by decide +kernel
theorem dX5_isWord_55 : decode cX5_isWord 55 = .ok (.if_icmp .ne 7, 3) := by decide +kernel
theorem dX5_isWord_58 : decode cX5_isWord 58 = .ok (.iconst 1, 1) := by decide +kernel
theorem dX5_isWord_59 : decode cX5_isWord 59 = .ok (.goto 4, 3) := by decide +kernel
theorem dX5_isWord_62 : decode cX5_isWord 62 = .ok (.iconst 0, 1) := by decide +kernel
theorem dX5_isWord_63 : decode cX5_isWord 63 = .ok (.istore_n 2, 1) := by decide +kernel
theorem dX5_isWord_64 : decode cX5_isWord 64 = .ok (.iinc 3 1, 3) := by decide +kernel
theorem dX5_isWord_67 : decode cX5_isWord 67 = .ok (.goto (-43), 3) := by decide +kernel
theorem dX5_isWord_70 : decode cX5_isWord 70 = .ok (.iload_n 2, 1) := by decide +kernel
theorem dX5_isWord_71 : decode cX5_isWord 71 = .ok (.ireturn, 1) := by decide +kernel
theorem yd_X5_isWord : yX5_isWord.cls ≠ "java/lang/invoke/MethodHandle" ∧ yX5_isWord.cls ≠ "java/lang/invoke/VarHandle" ∧ (parseMethodDescriptor yX5_isWord.desc).map (fun d => d.parameters.length) = some 1 := by decide +kernel
theorem fl_X5_45_5 : FLk RX5 45 5 4 "I" := ⟨RX5, TX5, 6, "PalaceOfRooms$Reader", rfl, by decide, (fun q => by have h1 := q.1; have h2 := q.2; omega), rfl, in_X5, Or.inl q166, Or.inl rfl⟩
abbrev rm_X5_isWord : Room := { frames := 4, cells := 0, slots := 0, locals := 85 }
set_option maxHeartbeats 4000000 in
theorem w_X5_isWord_24_b {p : Program} {l : Launch} {e : Env} {s : State} {m : MethodId} {args : Array Value} {below : List Frame} {meth : Method} {c : Code} {g : Gl} (X : FX g p m c s args meth cX5_isWord 4 RX5 (some .boolean) "isWord") {r : Int32 × Hp} {rec24 : Hp × Int32 × Int32 → Option (Int32 × Hp)} {x0 : Nat} {x1 : Nat} {σ : Hp} {x2 : Int32} {x3 : Int32} (hr24 : ∀ (st : Hp × Int32 × Int32), rec24 st = some r → ∀ (H : Heap) (locs : List Loc) (ls : Array Slot), HV g st.1 H → FR g locs → lv_has ls 4 [(0, .ref x0), (1, .ref (g.2.2.2.2.1 x1)), (2, .int st.2.1), (3, .int st.2.2)] → W p l e rm_X5_isWord s m args below meth c H locs 0 0 (MQ below (Qi g r) args s 0 0 (frN g)) (F0 m 24 ls [])) {H : Heap} {locs : List Loc} {ls : Array Slot} (h : B_X5_isWord_24 x0 x1 rec24 σ x2 x3 = some r) (hV : HV g σ H) (hF : FR g locs) (hl : lv_has ls 4 [(0, .ref x0), (1, .ref (g.2.2.2.2.1 x1)), (2, .int x2), (3, .int x3)]) : W p l e rm_X5_isWord s m args below meth c H locs 0 0 (MQ below (Qi g r) args s 0 0 (frN g)) (F0 m 24 ls []) := by
  unfold B_X5_isWord_24 at h
  refine lv_iload_n X.1 X.2.1 dX5_isWord_24 rfl (lv_at hl 2 rfl) ?_
  refine r_ifeq (tgt := 70) X.1 X.2.1 dX5_isWord_25 (by decide) h (fun h => ?_) (fun h => ?_)
  · refine lv_iload_n X.1 X.2.1 dX5_isWord_70 rfl (lv_at hl 2 rfl) ?_
    exact r_zrv X hV hF h dX5_isWord_71
  · refine lv_iload_n X.1 X.2.1 dX5_isWord_28 rfl (lv_at hl 3 rfl) ?_
    refine lv_aload_n X.1 X.2.1 dX5_isWord_29 rfl (lv_at hl 1 rfl) ?_
    obtain ⟨v1, s1, hc, h⟩ := b2_inv h
    refine r_ci (va_runV (C := RJ2) (As := []) (rest := [.int x3]) (cfX X) (c_J2_length l hc) (cwV 0 X.2.2.2.2.1 (lw_V q513 q514 q515 q62 q516) rfl rfl rfl ⟨rfl, yd_J2_length⟩ ⟨Nat.le_of_ble_eq_true rfl, Nat.le_of_ble_eq_true rfl⟩) (preStr X hV (F_J2_length_g hc)) rfl rfl hl.1 rfl (lv_room (Nat.le_of_ble_eq_true rfl)) dX5_isWord_30 ⟨(Nat.le_of_ble_eq_true rfl), (Nat.le_of_ble_eq_true rfl)⟩) hF (fun H locs hV hF => ?_)
    refine r_ge (tgt := 70) X.1 X.2.1 dX5_isWord_33 (by decide) h (fun h => ?_) (fun h => ?_)
    · refine lv_iload_n X.1 X.2.1 dX5_isWord_70 rfl (lv_at hl 2 rfl) ?_
      exact r_zrv X hV hF h dX5_isWord_71
    · refine lv_aload_n X.1 X.2.1 dX5_isWord_36 rfl (lv_at hl 0 rfl) ?_
      refine r_gR X hV fl_X5_3_5 (by decide) dX5_isWord_37 h (fun v2 h => ?_)
      refine r_gR X hV fl_X5_15_0 (by decide) dX5_isWord_40 h (fun v3 h => ?_)
      refine lv_aload_n X.1 X.2.1 dX5_isWord_43 rfl (lv_at hl 0 rfl) ?_
      refine r_gI X hV fl_X5_38_5 dX5_isWord_44 h (fun v4 h => ?_)
      refine lv_iload_n X.1 X.2.1 dX5_isWord_47 rfl (lv_at hl 3 rfl) ?_
      refine lv_iadd X.1 X.2.1 dX5_isWord_48 ?_
      refine r_ba X hV dX5_isWord_49 h (fun v5 h => ?_)
      refine lv_aload_n X.1 X.2.1 dX5_isWord_50 rfl (lv_at hl 1 rfl) ?_
      refine lv_iload_n X.1 X.2.1 dX5_isWord_51 rfl (lv_at hl 3 rfl) ?_
      obtain ⟨v6, s2, hc, h⟩ := b2_inv h
      refine r_ci (va_runV (C := RJ2) (As := [.int x3]) (rest := [.int v5]) (cfX X) (c_J2_charAt l hc) (cwV 1 X.2.2.2.2.1 (lw_V q523 q524 q525 q62 q526) rfl rfl rfl ⟨rfl, yd_J2_charAt⟩ ⟨Nat.le_of_ble_eq_true rfl, Nat.le_of_ble_eq_true rfl⟩) (preStr X hV (F_J2_charAt_g hc)) rfl rfl hl.1 rfl (lv_room (Nat.le_of_ble_eq_true rfl)) dX5_isWord_52 ⟨(Nat.le_of_ble_eq_true rfl), (Nat.le_of_ble_eq_true rfl)⟩) hF (fun H locs hV hF => ?_)
      refine r_ne (tgt := 62) X.1 X.2.1 dX5_isWord_55 (by decide) h (fun h => ?_) (fun h => ?_)
      · refine lv_iconst (v := 0) X.1 X.2.1 dX5_isWord_62 (by decide) ?_
        refine lv_istore_n (lv' := [(2, .int 0), (0, .ref x0), (1, .ref (g.2.2.2.2.1 x1)), (3, .int x3)]) X.1 X.2.1 dX5_isWord_63 rfl hl (by decide) rfl (fun ls hl => ?_)
        refine lv_iinc (v := x3 + 1) (lv' := [(3, .int (x3 + 1)), (2, .int 0), (0, .ref x0), (1, .ref (g.2.2.2.2.1 x1))]) X.1 X.2.1 dX5_isWord_64 hl (k := 3) rfl rfl (by decide) rfl (fun ls hl => ?_)
        refine lv_goto (tgt := 24) X.1 X.2.1 dX5_isWord_67 (by decide) ?_
        exact hr24 (s2, 0, x3 + 1) h _ _ _ hV hF (lv_sub hl [2, 3, 1, 0] rfl)
      · refine lv_iconst (v := 1) X.1 X.2.1 dX5_isWord_58 (by decide) ?_
        refine lv_goto (tgt := 63) X.1 X.2.1 dX5_isWord_59 (by decide) ?_
        refine lv_istore_n (lv' := [(2, .int 1), (0, .ref x0), (1, .ref (g.2.2.2.2.1 x1)), (3, .int x3)]) X.1 X.2.1 dX5_isWord_63 rfl hl (by decide) rfl (fun ls hl => ?_)
        refine lv_iinc (v := x3 + 1) (lv' := [(3, .int (x3 + 1)), (2, .int 1), (0, .ref x0), (1, .ref (g.2.2.2.2.1 x1))]) X.1 X.2.1 dX5_isWord_64 hl (k := 3) rfl rfl (by decide) rfl (fun ls hl => ?_)
        refine lv_goto (tgt := 24) X.1 X.2.1 dX5_isWord_67 (by decide) ?_
        exact hr24 (s2, 1, x3 + 1) h _ _ _ hV hF (lv_sub hl [2, 3, 1, 0] rfl)
set_option maxHeartbeats 4000000 in
theorem w_X5_isWord_24 {p : Program} {l : Launch} {e : Env} {s : State} {m : MethodId} {args : Array Value} {below : List Frame} {meth : Method} {c : Code} {g : Gl} (X : FX g p m c s args meth cX5_isWord 4 RX5 (some .boolean) "isWord") {r : Int32 × Hp} {x0 : Nat} {x1 : Nat}  : ∀ (n : Nat) (st : Hp × Int32 × Int32), L_X5_isWord_24 x0 x1 n st = some r → ∀ (H : Heap) (locs : List Loc) (ls : Array Slot), HV g st.1 H → FR g locs → lv_has ls 4 [(0, .ref x0), (1, .ref (g.2.2.2.2.1 x1)), (2, .int st.2.1), (3, .int st.2.2)] → W p l e rm_X5_isWord s m args below meth c H locs 0 0 (MQ below (Qi g r) args s 0 0 (frN g)) (F0 m 24 ls []) := by
  intro n
  induction n with
  | zero =>
    intro st h
    rw [L_X5_isWord_24_0] at h
    cases h
  | succ n ih =>
    intro st h H locs ls hV hF hl
    rw [L_X5_isWord_24_s] at h
    exact w_X5_isWord_24_b X  ih h hV hF hl
set_option maxHeartbeats 4000000 in
theorem c_X5_isWord (l : Launch) {g : Gl} {σ : Hp} {x0 : Nat} {x1 : Nat} {r : Int32 × Hp} (h : F_X5_isWord σ x0 x1 = some r) : Met l yX5_isWord (ws_ yX5_isWord cX5_isWord 4 (some .boolean)) rm_X5_isWord (va_Pc [.ref x0, .ref (g.2.2.2.2.1 x1)] (WV g σ)) (Qi g r) 0 0 (frN g) := by
  refine ct_of (by decide) (Nat.le_of_ble_eq_true rfl) ?_
  intro p e s m below meth c ls X hV hl
  have hF : FR g [] := FR_nil
  unfold F_X5_isWord at h
  have hl : lv_has ls 4 [(0, .ref x0), (1, .ref (g.2.2.2.2.1 x1))] := hl
  have X : FX g p m c s _ meth cX5_isWord 4 RX5 (some .boolean) "isWord" := X
  obtain ⟨-, h⟩ := gd_inv h
  refine lv_aload_n X.1 X.2.1 dX5_isWord_0 rfl (lv_at hl 0 rfl) ?_
  refine r_gI X hV fl_X5_45_5 dX5_isWord_1 h (fun v1 h => ?_)
  refine lv_aload_n X.1 X.2.1 dX5_isWord_4 rfl (lv_at hl 0 rfl) ?_
  refine r_gI X hV fl_X5_38_5 dX5_isWord_5 h (fun v2 h => ?_)
  refine lv_isub X.1 X.2.1 dX5_isWord_8 ?_
  refine lv_aload_n X.1 X.2.1 dX5_isWord_9 rfl (lv_at hl 1 rfl) ?_
  obtain ⟨v3, s1, hc, h⟩ := b2_inv h
  refine r_ci (va_runV (C := RJ2) (As := []) (rest := [.int (v1 - v2)]) (cfX X) (c_J2_length l hc) (cwV 0 X.2.2.2.2.1 (lw_V q513 q514 q515 q62 q516) rfl rfl rfl ⟨rfl, yd_J2_length⟩ ⟨Nat.le_of_ble_eq_true rfl, Nat.le_of_ble_eq_true rfl⟩) (preStr X hV (F_J2_length_g hc)) rfl rfl hl.1 rfl (lv_room (Nat.le_of_ble_eq_true rfl)) dX5_isWord_10 ⟨(Nat.le_of_ble_eq_true rfl), (Nat.le_of_ble_eq_true rfl)⟩) hF (fun H locs hV hF => ?_)
  refine r_ne (tgt := 20) X.1 X.2.1 dX5_isWord_13 (by decide) h (fun h => ?_) (fun h => ?_)
  · refine lv_iconst (v := 0) X.1 X.2.1 dX5_isWord_20 (by decide) ?_
    refine lv_istore_n (lv' := [(2, .int 0), (0, .ref x0), (1, .ref (g.2.2.2.2.1 x1))]) X.1 X.2.1 dX5_isWord_21 rfl hl (by decide) rfl (fun ls hl => ?_)
    refine lv_iconst (v := 0) X.1 X.2.1 dX5_isWord_22 (by decide) ?_
    refine lv_istore_n (lv' := [(3, .int 0), (2, .int 0), (0, .ref x0), (1, .ref (g.2.2.2.2.1 x1))]) X.1 X.2.1 dX5_isWord_23 rfl hl (by decide) rfl (fun ls hl => ?_)
    exact w_X5_isWord_24 X  FU (s1, 0, 0) h _ _ _ hV hF (lv_sub hl [2, 3, 1, 0] rfl)
  · refine lv_iconst (v := 1) X.1 X.2.1 dX5_isWord_16 (by decide) ?_
    refine lv_goto (tgt := 21) X.1 X.2.1 dX5_isWord_17 (by decide) ?_
    refine lv_istore_n (lv' := [(2, .int 1), (0, .ref x0), (1, .ref (g.2.2.2.2.1 x1))]) X.1 X.2.1 dX5_isWord_21 rfl hl (by decide) rfl (fun ls hl => ?_)
    refine lv_iconst (v := 0) X.1 X.2.1 dX5_isWord_22 (by decide) ?_
    refine lv_istore_n (lv' := [(3, .int 0), (2, .int 1), (0, .ref x0), (1, .ref (g.2.2.2.2.1 x1))]) X.1 X.2.1 dX5_isWord_23 rfl hl (by decide) rfl (fun ls hl => ?_)
    exact w_X5_isWord_24 X  FU (s1, 1, 0) h _ _ _ hV hF (lv_sub hl [2, 3, 1, 0] rfl)
/-! PalaceOfRooms$Reader.skips -/
theorem dX5_skips_0 : decode cX5_skips 0 = .ok (.aload_n 0, 1) := by decide +kernel
theorem dX5_skips_1 : decode cX5_skips 1 = .ok (.aload_n 1, 1) := by decide +kernel
theorem dX5_skips_2 : decode cX5_skips 2 = .ok (.invokevirtual 57, 3) := by decide +kernel
theorem dX5_skips_5 : decode cX5_skips 5 = .ok (.istore_n 2, 1) := by decide +kernel
theorem dX5_skips_6 : decode cX5_skips 6 = .ok (.iload_n 2, 1) := by decide +kernel
theorem dX5_skips_7 : decode cX5_skips 7 = .ok (.ifCond .eq 7, 3) := by decide +kernel
theorem dX5_skips_10 : decode cX5_skips 10 = .ok (.aload_n 0, 1) := by decide +kernel
theorem dX5_skips_11 : decode cX5_skips 11 = .ok (.invokevirtual 61, 3) := by decide +kernel
theorem dX5_skips_14 : decode cX5_skips 14 = .ok (.iload_n 2, 1) := by decide +kernel
theorem dX5_skips_15 : decode cX5_skips 15 = .ok (.ireturn, 1) := by decide +kernel
theorem yd_X5_skips : yX5_skips.cls ≠ "java/lang/invoke/MethodHandle" ∧ yX5_skips.cls ≠ "java/lang/invoke/VarHandle" ∧ (parseMethodDescriptor yX5_skips.desc).map (fun d => d.parameters.length) = some 1 := by decide +kernel
abbrev rm_X5_skips : Room := { frames := 5, cells := 0, slots := 0, locals := 108 }
set_option maxHeartbeats 4000000 in
theorem c_X5_skips (l : Launch) {g : Gl} {σ : Hp} {x0 : Nat} {x1 : Nat} {r : Int32 × Hp} (h : F_X5_skips σ x0 x1 = some r) : Met l yX5_skips (ws_ yX5_skips cX5_skips 3 (some .boolean)) rm_X5_skips (va_Pc [.ref x0, .ref (g.2.2.2.2.1 x1)] (WV g σ)) (Qi g r) 0 0 (frN g) := by
  refine ct_of (by decide) (Nat.le_of_ble_eq_true rfl) ?_
  intro p e s m below meth c ls X hV hl
  have hF : FR g [] := FR_nil
  unfold F_X5_skips at h
  have hl : lv_has ls 3 [(0, .ref x0), (1, .ref (g.2.2.2.2.1 x1))] := hl
  have X : FX g p m c s _ meth cX5_skips 3 RX5 (some .boolean) "skips" := X
  obtain ⟨-, h⟩ := gd_inv h
  refine lv_aload_n X.1 X.2.1 dX5_skips_0 rfl (lv_at hl 0 rfl) ?_
  refine lv_aload_n X.1 X.2.1 dX5_skips_1 rfl (lv_at hl 1 rfl) ?_
  obtain ⟨v1, s1, hc, h⟩ := b2_inv h
  refine r_ci (va_runV (C := RX5) (As := [.ref (g.2.2.2.2.1 x1)]) (rest := []) (cfX X) (c_X5_isWord l hc) (cwV 1 X.2.2.2.2.1 (lw_V q509 q511 qs9 q54 q512) rfl rfl rfl ⟨rfl, yd_X5_isWord⟩ ⟨Nat.le_of_ble_eq_true rfl, Nat.le_of_ble_eq_true rfl⟩) (preV X hV (F_X5_isWord_g hc) rfl) rfl rfl hl.1 rfl (lv_room (Nat.le_of_ble_eq_true rfl)) dX5_skips_2 ⟨(Nat.le_of_ble_eq_true rfl), (Nat.le_of_ble_eq_true rfl)⟩) hF (fun H locs hV hF => ?_)
  refine lv_istore_n (lv' := [(2, .int v1), (0, .ref x0), (1, .ref (g.2.2.2.2.1 x1))]) X.1 X.2.1 dX5_skips_5 rfl hl (by decide) rfl (fun ls hl => ?_)
  refine lv_iload_n X.1 X.2.1 dX5_skips_6 rfl (lv_at hl 0 rfl) ?_
  refine r_ifeq (tgt := 14) X.1 X.2.1 dX5_skips_7 (by decide) h (fun h => ?_) (fun h => ?_)
  · refine lv_iload_n X.1 X.2.1 dX5_skips_14 rfl (lv_at hl 0 rfl) ?_
    exact r_zrv X hV hF h dX5_skips_15
  · refine lv_aload_n X.1 X.2.1 dX5_skips_10 rfl (lv_at hl 1 rfl) ?_
    obtain ⟨s2, hc, h⟩ := b1_inv h
    refine r_cv (va_runV (C := RX5) (As := []) (rest := []) (cfX X) (c_X5_token l hc) (cwV 0 X.2.2.2.2.1 (lw_V q487 q489 qs5 q54 q490) rfl rfl rfl ⟨rfl, yd_X5_token⟩ ⟨Nat.le_of_ble_eq_true rfl, Nat.le_of_ble_eq_true rfl⟩) (preV X hV (F_X5_token_g hc) rfl) rfl rfl hl.1 rfl (lv_room (Nat.le_of_ble_eq_true rfl)) dX5_skips_11 ⟨(Nat.le_of_ble_eq_true rfl), (Nat.le_of_ble_eq_true rfl)⟩) hF (fun H locs hV hF => ?_)
    refine lv_iload_n X.1 X.2.1 dX5_skips_14 rfl (lv_at hl 0 rfl) ?_
    exact r_zrv X hV hF h dX5_skips_15
/-! java/lang/Throwable.<init> for classes {0: 11, 2: 'N'} -/
theorem dJ6_init_2_0 : decode cJ6_init_2 0 = .ok (.aload_n 0, 1) := by decide +kernel
theorem dJ6_init_2_1 : decode cJ6_init_2 1 = .ok (.invokespecial 1, 3) := by decide +kernel
theorem dJ6_init_2_4 : decode cJ6_init_2 4 = .ok (.aload_n 0, 1) := by decide +kernel
theorem dJ6_init_2_5 : decode cJ6_init_2 5 = .ok (.aload_n 0, 1) := by decide +kernel
theorem dJ6_init_2_6 : decode cJ6_init_2 6 = .ok (.putfield 7, 3) := by decide +kernel
theorem dJ6_init_2_9 : decode cJ6_init_2 9 = .ok (.aload_n 0, 1) := by decide +kernel
theorem dJ6_init_2_10 : decode cJ6_init_2 10 = .ok (.getstatic 13, 3) := by decide +kernel
theorem dJ6_init_2_13 : decode cJ6_init_2 13 = .ok (.putfield 17, 3) := by decide +kernel
theorem dJ6_init_2_16 : decode cJ6_init_2 16 = .ok (.aload_n 0, 1) := by decide +kernel
theorem dJ6_init_2_17 : decode cJ6_init_2 17 = .ok (.getstatic 20, 3) := by decide +kernel
theorem dJ6_init_2_20 : decode cJ6_init_2 20 = .ok (.putfield 24, 3) := by decide +kernel
theorem dJ6_init_2_23 : decode cJ6_init_2 23 = .ok (.iload 4, 2) := by decide +kernel
theorem dJ6_init_2_25 : decode cJ6_init_2 25 = .ok (.ifCond .eq 11, 3) := by decide +kernel
theorem dJ6_init_2_36 : decode cJ6_init_2 36 = .ok (.aload_n 0, 1) := by decide +kernel
theorem dJ6_init_2_37 : decode cJ6_init_2 37 = .ok (.aconst_null, 1) := by decide +kernel
theorem dJ6_init_2_38 : decode cJ6_init_2 38 = .ok (.putfield 17, 3) := by decide +kernel
theorem dJ6_init_2_41 : decode cJ6_init_2 41 = .ok (.aload_n 0, 1) := by decide +kernel
theorem dJ6_init_2_42 : decode cJ6_init_2 42 = .ok (.aload_n 1, 1) := by decide +kernel
theorem dJ6_init_2_43 : decode cJ6_init_2 43 = .ok (.putfield 31, 3) := by decide +kernel
theorem dJ6_init_2_46 : decode cJ6_init_2 46 = .ok (.aload_n 0, 1) := by decide +kernel
theorem dJ6_init_2_47 : decode cJ6_init_2 47 = .ok (.aload_n 2, 1) := by decide +kernel
theorem dJ6_init_2_48 : decode cJ6_init_2 48 = .ok (.putfield 7, 3) := by decide +kernel
theorem dJ6_init_2_51 : decode cJ6_init_2 51 = .ok (.iload_n 3, 1) := by decide +kernel
theorem dJ6_init_2_52 : decode cJ6_init_2 52 = .ok (.ifCond .ne 8, 3) := by decide +kernel
theorem dJ6_init_2_55 : decode cJ6_init_2 55 = .ok (.aload_n 0, 1) := by decide +kernel
theorem dJ6_init_2_56 : decode cJ6_init_2 56 = .ok (.aconst_null, 1) := by decide +kernel
theorem dJ6_init_2_57 : decode cJ6_init_2 57 = .ok (.putfield 24, 3) := by decide +kernel
theorem dJ6_init_2_60 : decode cJ6_init_2 60 = .ok (.return_, 1) := by decide +kernel
theorem yd_J6_init_2 : yJ6_init_2.cls ≠ "java/lang/invoke/MethodHandle" ∧ yJ6_init_2.cls ≠ "java/lang/invoke/VarHandle" ∧ (parseMethodDescriptor yJ6_init_2.desc).map (fun d => d.parameters.length) = some 4 := by decide +kernel
theorem fd_J6_7 : FDk RJ6 7 11 0 := ⟨RX11, TX11, 7, "java/lang/Throwable", tyX11, rfl, by decide, ⟨rfl, by decide⟩, in_X11, tyX11_ok, nmX11, rfl, (fun o => by cases o <;> exact ⟨rfl, rfl⟩), q620, Or.inl rfl⟩
theorem fd_J6_17 : FDk RJ6 17 11 1 := ⟨RX11, TX11, 7, "java/lang/Throwable", tyX11, rfl, by decide, ⟨rfl, by decide⟩, in_X11, tyX11_ok, nmX11, rfl, (fun o => by cases o <;> exact ⟨rfl, rfl⟩), q621, Or.inl rfl⟩
theorem fd_J6_24 : FDk RJ6 24 11 2 := ⟨RX11, TX11, 7, "java/lang/Throwable", tyX11, rfl, by decide, ⟨rfl, by decide⟩, in_X11, tyX11_ok, nmX11, rfl, (fun o => by cases o <;> exact ⟨rfl, rfl⟩), q622, Or.inl rfl⟩
theorem fd_J6_31 : FDk RJ6 31 11 3 := ⟨RX11, TX11, 7, "java/lang/Throwable", tyX11, rfl, by decide, ⟨rfl, by decide⟩, in_X11, tyX11_ok, nmX11, rfl, (fun o => by cases o <;> exact ⟨rfl, rfl⟩), q619, Or.inl rfl⟩
abbrev rm_J6_init_2_11 : Room := { frames := 1, cells := 0, slots := 0, locals := 20 }
set_option maxHeartbeats 4000000 in
theorem c_J6_init_2_11 (l : Launch) {g : Gl} {σ : Hp} {x0 : Nat} {x1 : Nat} {x3 : Int32} {x4 : Int32} {r : Hp} (h : F_J6_init_2_11 σ x0 x1 x3 x4 = some r) : Met l yJ6_init_2 (ws_ yJ6_init_2 cJ6_init_2 5 none) rm_J6_init_2_11 (va_Pc [.ref x0, .ref (g.2.2.2.2.1 x1), .null, .int x3, .int x4] (WV g σ)) (Qv g r) 0 0 (frN g) := by
  refine ct_of (by decide) (Nat.le_of_ble_eq_true rfl) ?_
  intro p e s m below meth c ls X hV hl
  have hF : FR g [] := FR_nil
  unfold F_J6_init_2_11 at h
  have hl : lv_has ls 5 [(0, .ref x0), (1, .ref (g.2.2.2.2.1 x1)), (2, .null), (3, .int x3), (4, .int x4)] := hl
  have X : FX g p m c s _ meth cJ6_init_2 5 RJ6 none "<init>" := X
  refine lv_aload_n X.1 X.2.1 dJ6_init_2_0 rfl (lv_at hl 0 rfl) ?_
  refine W.objInit X.1 X.2.1 X.2.2.2.1 (X.2.2.2.2.1 _ q592) (X.2.2.2.2.1 _ q83) (X.2.2.2.2.1 _ q84) rfl (by rw [X.2.2.1]; exact hl.1) rfl dJ6_init_2_1 (Nat.le_of_ble_eq_true rfl) (Nat.le_of_ble_eq_true rfl) ?_
  refine W.eq (g2 := F0 m 4 ls []) rfl ?_
  refine lv_aload_n X.1 X.2.1 dJ6_init_2_4 rfl (lv_at hl 0 rfl) ?_
  refine lv_aload_n X.1 X.2.1 dJ6_init_2_5 rfl (lv_at hl 0 rfl) ?_
  refine r_pd X hV hF fd_J6_7 (some x0) dJ6_init_2_6 h (fun H locs hV hF h => ?_)
  refine lv_aload_n X.1 X.2.1 dJ6_init_2_9 rfl (lv_at hl 0 rfl) ?_
  refine r_gsU X hV X.2.2.2.2.2.1.2.2.2.2.2.2.2.1.2.2.2.2.1 q593 dJ6_init_2_10 (fun o1 => ?_)
  refine r_pd X hV hF fd_J6_17 o1 dJ6_init_2_13 h (fun H locs hV hF h => ?_)
  refine lv_aload_n X.1 X.2.1 dJ6_init_2_16 rfl (lv_at hl 0 rfl) ?_
  refine r_gsU X hV X.2.2.2.2.2.1.2.2.2.2.2.2.2.1.2.2.2.2.2 q595 dJ6_init_2_17 (fun o2 => ?_)
  refine r_pd X hV hF fd_J6_24 o2 dJ6_init_2_20 h (fun H locs hV hF h => ?_)
  refine lv_iload X.1 X.2.1 dJ6_init_2_23 (lv_at hl 4 rfl) ?_
  refine r_ifeq (tgt := 36) X.1 X.2.1 dJ6_init_2_25 (by decide) h (fun h => ?_) (fun h => ?_)
  · refine lv_aload_n X.1 X.2.1 dJ6_init_2_36 rfl (lv_at hl 0 rfl) ?_
    refine lv_null X.1 X.2.1 dJ6_init_2_37 ?_
    refine r_pd X hV hF fd_J6_17 none dJ6_init_2_38 h (fun H locs hV hF h => ?_)
    refine lv_aload_n X.1 X.2.1 dJ6_init_2_41 rfl (lv_at hl 0 rfl) ?_
    refine lv_aload_n X.1 X.2.1 dJ6_init_2_42 rfl (lv_at hl 1 rfl) ?_
    refine r_pd X hV hF fd_J6_31 (some (g.2.2.2.2.1 x1)) dJ6_init_2_43 h (fun H locs hV hF h => ?_)
    refine lv_aload_n X.1 X.2.1 dJ6_init_2_46 rfl (lv_at hl 0 rfl) ?_
    refine lv_aload_nN X.1 X.2.1 dJ6_init_2_47 rfl (lv_at hl 2 rfl) ?_
    refine r_pd X hV hF fd_J6_7 none dJ6_init_2_48 h (fun H locs hV hF h => ?_)
    refine lv_iload_n X.1 X.2.1 dJ6_init_2_51 rfl (lv_at hl 3 rfl) ?_
    refine r_ifne (tgt := 60) X.1 X.2.1 dJ6_init_2_52 (by decide) h (fun h => ?_) (fun h => ?_)
    · exact r_vret X hV hF h dJ6_init_2_60
    · refine lv_aload_n X.1 X.2.1 dJ6_init_2_55 rfl (lv_at hl 0 rfl) ?_
      refine lv_null X.1 X.2.1 dJ6_init_2_56 ?_
      refine r_pd X hV hF fd_J6_24 none dJ6_init_2_57 h (fun H locs hV hF h => ?_)
      exact r_vret X hV hF h dJ6_init_2_60
  · cases h
/-! java/lang/Exception.<init> for classes {0: 11, 2: 'N'} -/
theorem dJ7_init_0 : decode cJ7_init 0 = .ok (.aload_n 0, 1) := by decide +kernel
theorem dJ7_init_1 : decode cJ7_init 1 = .ok (.aload_n 1, 1) := by decide +kernel
theorem dJ7_init_2 : decode cJ7_init 2 = .ok (.aload_n 2, 1) := by decide +kernel
theorem dJ7_init_3 : decode cJ7_init 3 = .ok (.iload_n 3, 1) := by decide +kernel
theorem dJ7_init_4 : decode cJ7_init 4 = .ok (.iload 4, 2) := by decide +kernel
theorem dJ7_init_6 : decode cJ7_init 6 = .ok (.invokespecial 16, 3) := by decide +kernel
theorem dJ7_init_9 : decode cJ7_init 9 = .ok (.return_, 1) := by decide +kernel
theorem yd_J7_init : yJ7_init.cls ≠ "java/lang/invoke/MethodHandle" ∧ yJ7_init.cls ≠ "java/lang/invoke/VarHandle" ∧ (parseMethodDescriptor yJ7_init.desc).map (fun d => d.parameters.length) = some 4 := by decide +kernel
abbrev rm_J7_init_11 : Room := { frames := 2, cells := 0, slots := 0, locals := 44 }
set_option maxHeartbeats 4000000 in
theorem c_J7_init_11 (l : Launch) {g : Gl} {σ : Hp} {x0 : Nat} {x1 : Nat} {x3 : Int32} {x4 : Int32} {r : Hp} (h : F_J7_init_11 σ x0 x1 x3 x4 = some r) : Met l yJ7_init (ws_ yJ7_init cJ7_init 5 none) rm_J7_init_11 (va_Pc [.ref x0, .ref (g.2.2.2.2.1 x1), .null, .int x3, .int x4] (WV g σ)) (Qv g r) 0 0 (frN g) := by
  refine ct_of (by decide) (Nat.le_of_ble_eq_true rfl) ?_
  intro p e s m below meth c ls X hV hl
  have hF : FR g [] := FR_nil
  unfold F_J7_init_11 at h
  have hl : lv_has ls 5 [(0, .ref x0), (1, .ref (g.2.2.2.2.1 x1)), (2, .null), (3, .int x3), (4, .int x4)] := hl
  have X : FX g p m c s _ meth cJ7_init 5 RJ7 none "<init>" := X
  refine lv_aload_n X.1 X.2.1 dJ7_init_0 rfl (lv_at hl 0 rfl) ?_
  refine lv_aload_n X.1 X.2.1 dJ7_init_1 rfl (lv_at hl 1 rfl) ?_
  refine lv_aload_nN X.1 X.2.1 dJ7_init_2 rfl (lv_at hl 2 rfl) ?_
  refine lv_iload_n X.1 X.2.1 dJ7_init_3 rfl (lv_at hl 3 rfl) ?_
  refine lv_iload X.1 X.2.1 dJ7_init_4 (lv_at hl 4 rfl) ?_
  obtain ⟨s1, hc, h⟩ := b1_inv h
  refine r_cv (va_runI (As := [.ref (g.2.2.2.2.1 x1), .null, .int x3, .int x4]) (rest := []) (cfX X) (c_J6_init_2_11 l hc) (cwI 4 X.2.2.2.2.1 (lw_meth q615) rfl rfl rfl (X.2.2.2.2.1 _ q66) (X.2.2.2.2.1 _ q613) (X.2.2.2.2.1 _ q614) rfl yd_J6_init_2 ⟨Nat.le_of_ble_eq_true rfl, Nat.le_of_ble_eq_true rfl⟩) (preS X hV) rfl rfl hl.1 rfl (lv_room (Nat.le_of_ble_eq_true rfl)) dJ7_init_6 ⟨(Nat.le_of_ble_eq_true rfl), (Nat.le_of_ble_eq_true rfl)⟩) hF (fun H locs hV hF => ?_)
  exact r_vret X hV hF h dJ7_init_9
/-! PalaceOfRooms$Fault.<init> -/
theorem dX11_init_0 : decode cX11_init 0 = .ok (.aload_n 0, 1) := by decide +kernel
theorem dX11_init_1 : decode cX11_init 1 = .ok (.ldc 1, 2) := by decide +kernel
theorem dX11_init_3 : decode cX11_init 3 = .ok (.aconst_null, 1) := by decide +kernel
theorem dX11_init_4 : decode cX11_init 4 = .ok (.iconst 0, 1) := by decide +kernel
theorem dX11_init_5 : decode cX11_init 5 = .ok (.iconst 0, 1) := by decide +kernel
theorem dX11_init_6 : decode cX11_init 6 = .ok (.invokespecial 3, 3) := by decide +kernel
theorem dX11_init_9 : decode cX11_init 9 = .ok (.aload_n 0, 1) := by decide +kernel
theorem dX11_init_10 : decode cX11_init 10 = .ok (.iload_n 1, 1) := by decide +kernel
theorem dX11_init_11 : decode cX11_init 11 = .ok (.putfield 9, 3) := by decide +kernel
theorem dX11_init_14 : decode cX11_init 14 = .ok (.return_, 1) := by decide +kernel
theorem yd_X11_init : yX11_init.cls ≠ "java/lang/invoke/MethodHandle" ∧ yX11_init.cls ≠ "java/lang/invoke/VarHandle" ∧ (parseMethodDescriptor yX11_init.desc).map (fun d => d.parameters.length) = some 1 := by decide +kernel
theorem fp_X11_9_11 : FPk RX11 9 11 6 "I" true := ⟨RX11, TX11, 7, "PalaceOfRooms$Fault", tyX11, rfl, by decide, (fun q => by have h1 := q.1; have h2 := q.2; omega), rfl, in_X11, tyX11_ok, (fun a ha b hb h => Or.inl (nmX11 a ha b hb h)), rfl, fun _ => rfl, (Or.inl q616), Or.inl rfl⟩
abbrev rm_X11_init : Room := { frames := 3, cells := 0, slots := 0, locals := 68 }
set_option maxHeartbeats 4000000 in
theorem c_X11_init (l : Launch) {g : Gl} {σ : Hp} {x0 : Nat} {x1 : Int32} {r : Hp} (h : F_X11_init σ x0 x1 = some r) : Met l yX11_init (ws_ yX11_init cX11_init 2 none) rm_X11_init (va_Pc [.ref x0, .int x1] (WV g σ)) (Qv g r) 0 0 (frN g) := by
  refine ct_of (by decide) (Nat.le_of_ble_eq_true rfl) ?_
  intro p e s m below meth c ls X hV hl
  have hF : FR g [] := FR_nil
  unfold F_X11_init at h
  have hl : lv_has ls 2 [(0, .ref x0), (1, .int x1)] := hl
  have X : FX g p m c s _ meth cX11_init 2 RX11 none "<init>" := X
  refine lv_aload_n X.1 X.2.1 dX11_init_0 rfl (lv_at hl 0 rfl) ?_
  refine va_ldcS (tx := "") X.1 X.2.1 X.2.2.2.1 (X.2.2.2.2.2.1.2.2.2.2.2.2.2.1.2.1 _ (List.mem_of_getElem? (i := 6) rfl)) dX11_init_1 ?_
  refine lv_null X.1 X.2.1 dX11_init_3 ?_
  refine lv_iconst (v := 0) X.1 X.2.1 dX11_init_4 (by decide) ?_
  refine lv_iconst (v := 0) X.1 X.2.1 dX11_init_5 (by decide) ?_
  obtain ⟨s1, hc, h⟩ := b1_inv h
  refine r_cv (va_runI (As := [.ref (g.2.2.2.2.1 6), .null, .int 0, .int 0]) (rest := []) (cfX X) (c_J7_init_11 l hc) (cwI 4 X.2.2.2.2.1 (lw_meth q612) rfl rfl rfl (X.2.2.2.2.1 _ q67) (X.2.2.2.2.1 _ q610) (X.2.2.2.2.1 _ q611) rfl yd_J7_init ⟨Nat.le_of_ble_eq_true rfl, Nat.le_of_ble_eq_true rfl⟩) (preS X hV) rfl rfl hl.1 rfl (lv_room (Nat.le_of_ble_eq_true rfl)) dX11_init_6 ⟨(Nat.le_of_ble_eq_true rfl), (Nat.le_of_ble_eq_true rfl)⟩) hF (fun H locs hV hF => ?_)
  refine lv_aload_n X.1 X.2.1 dX11_init_9 rfl (lv_at hl 0 rfl) ?_
  refine lv_iload_n X.1 X.2.1 dX11_init_10 rfl (lv_at hl 1 rfl) ?_
  refine r_pI X hV hF fp_X11_9_11 (fun _ => rfl) dX11_init_11 h (fun s2 H locs hV hF h => ?_)
  exact r_vret X hV hF h dX11_init_14
/-! PalaceOfRooms$Reader.need -/
theorem dX5_need_0 : decode cX5_need 0 = .ok (.iload_n 1, 1) := by decide +kernel
theorem dX5_need_1 : decode cX5_need 1 = .ok (.ifCond .ne 15, 3) := by decide +kernel
theorem dX5_need_4 : decode cX5_need 4 = .ok (.new 64, 3) := by decide +kernel
theorem dX5_need_7 : decode cX5_need 7 = .ok (.dup, 1) := by decide +kernel
theorem dX5_need_8 : decode cX5_need 8 = .ok (.aload_n 0, 1) := by decide +kernel
theorem dX5_need_9 : decode cX5_need 9 = .ok (.getfield 38, 3) := by decide +kernel
theorem dX5_need_12 : decode cX5_need 12 = .ok (.invokespecial 66, 3) := by decide +kernel
theorem dX5_need_15 : decode cX5_need 15 = .ok (.athrow, 1) := by decide +kernel
theorem dX5_need_16 : decode cX5_need 16 = .ok (.return_, 1) := by decide +kernel
theorem yd_X5_need : yX5_need.cls ≠ "java/lang/invoke/MethodHandle" ∧ yX5_need.cls ≠ "java/lang/invoke/VarHandle" ∧ (parseMethodDescriptor yX5_need.desc).map (fun d => d.parameters.length) = some 1 := by decide +kernel
theorem nw_X5_64 : NWk RX5 64 11 7 := ⟨RX11, TX11, 7, tyX11, rfl, in_X11, tyX11_ok, by decide +kernel, q569, q570, q68⟩
abbrev rm_X5_need : Room := { frames := 4, cells := 1, slots := 7, locals := 89 }
set_option maxHeartbeats 4000000 in
theorem c_X5_need (l : Launch) {g : Gl} {σ : Hp} {x0 : Nat} {x1 : Int32} {r : (Unit ⊕ Nat) × Hp} (h : F_X5_need σ x0 x1 = some r) : MetX l yX5_need (ws_ yX5_need cX5_need 2 none) rm_X5_need (va_Pc [.ref x0, .int x1] (WV g σ)) (QX g rV r) 1 7 (frN g) := by
  refine ctX_of (by decide) (Nat.le_of_ble_eq_true rfl) ?_
  intro p e s m below meth c ls X hE hV hl
  have hF : FR g [] := FR_nil
  unfold F_X5_need at h
  have hl : lv_has ls 2 [(0, .ref x0), (1, .int x1)] := hl
  have X : FX g p m c s _ meth cX5_need 2 RX5 none "need" := X
  obtain ⟨-, h⟩ := gd_inv h
  refine lv_iload_n X.1 X.2.1 dX5_need_0 rfl (lv_at hl 1 rfl) ?_
  refine r_ifne (tgt := 16) X.1 X.2.1 dX5_need_1 (by decide) h (fun h => ?_) (fun h => ?_)
  · refine W.widen (k := 1) (n := 7) (Nat.le_of_ble_eq_true rfl) (Nat.le_of_ble_eq_true rfl) ?_
    exact r_vretX X hV hF h dX5_need_16
  · refine r_new X hV nw_X5_64 (Nat.le_of_ble_eq_true rfl) (Nat.le_of_ble_eq_true rfl) dX5_need_4 (fun H hV => ?_)
    refine lv_dup X.1 X.2.1 dX5_need_7 rfl ?_
    refine lv_aload_n X.1 X.2.1 dX5_need_8 rfl (lv_at hl 0 rfl) ?_
    refine r_gI X hV fl_X5_38_5 dX5_need_9 h (fun v1 h => ?_)
    obtain ⟨s1, hc, h⟩ := b1_inv h
    refine r_cv (va_runI (As := [.int v1]) (rest := [.ref (hZ σ)]) (cfX X) (c_X11_init l hc) (cwI 1 X.2.2.2.2.1 (lw_meth q608) rfl rfl rfl (X.2.2.2.2.1 _ q68) (X.2.2.2.2.1 _ q606) (X.2.2.2.2.1 _ q607) rfl yd_X11_init ⟨Nat.le_of_ble_eq_true rfl, Nat.le_of_ble_eq_true rfl⟩) (preS X hV) rfl rfl hl.1 rfl (lv_room (Nat.le_of_ble_eq_true rfl)) dX5_need_12 ⟨(Nat.le_of_ble_eq_true rfl), (Nat.le_of_ble_eq_true rfl)⟩) hF (fun H locs hV hF => ?_)
    exact r_ath X hE hV hF h dX5_need_15
