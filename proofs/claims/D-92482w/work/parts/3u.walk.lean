set_option maxRecDepth 100000
/-! PalaceOfRooms.figures -/
theorem dX0_figures_0 : decode cX0_figures 0 = .ok (.iload_n 1, 1) := by decide +kernel
theorem dX0_figures_1 : decode cX0_figures 1 = .ok (.i2l, 1) := by decide +kernel
theorem dX0_figures_2 : decode cX0_figures 2 = .ok (.lconst 0, 1) := by decide +kernel
theorem dX0_figures_3 : decode cX0_figures 3 = .ok (.ldc2_w 267, 3) := by decide +kernel
theorem dX0_figures_6 : decode cX0_figures 6 = .ok (.invokestatic 5, 3) := by decide +kernel
theorem dX0_figures_9 : decode cX0_figures 9 = .ok (.ifCond .eq 20, 3) := by decide +kernel
theorem dX0_figures_12 : decode cX0_figures 12 = .ok (.iload_n 2, 1) := by decide +kernel
theorem dX0_figures_13 : decode cX0_figures 13 = .ok (.i2l, 1) := by decide +kernel
theorem dX0_figures_14 : decode cX0_figures 14 = .ok (.lconst 0, 1) := by decide +kernel
theorem dX0_figures_15 : decode cX0_figures 15 = .ok (.ldc2_w 267, 3) := by decide +kernel
theorem dX0_figures_18 : decode cX0_figures 18 = .ok (.invokestatic 5, 3) := by decide +kernel
theorem dX0_figures_21 : decode cX0_figures 21 = .ok (.ifCond .eq 8, 3) := by decide +kernel
theorem dX0_figures_24 : decode cX0_figures 24 = .ok (.iload_n 1, 1) := by decide +kernel
theorem dX0_figures_25 : decode cX0_figures 25 = .ok (.iload_n 2, 1) := by decide +kernel
theorem dX0_figures_26 : decode cX0_figures 26 = .ok (.if_icmp .ne 6, 3) := by decide +kernel
theorem dX0_figures_29 : decode cX0_figures 29 = .ok (.bipush (-2), 2) := by decide +kernel
theorem dX0_figures_31 : decode cX0_figures 31 = .ok (.ireturn, 1) := by decide +kernel
theorem dX0_figures_32 : decode cX0_figures 32 = .ok (.iload_n 3, 1) := by decide +kernel
theorem dX0_figures_33 : decode cX0_figures 33 = .ok (.i2l, 1) := by decide +kernel
theorem dX0_figures_34 : decode cX0_figures 34 = .ok (.lconst 0, 1) := by decide +kernel
theorem dX0_figures_35 : decode cX0_figures 35 = .ok (.ldc2_w 267, 3) := by decide +kernel
theorem dX0_figures_38 : decode cX0_figures 38 = .ok (.invokestatic 5, 3) := by decide +kernel
theorem dX0_figures_41 : decode cX0_figures 41 = .ok (.ifCond .ne 6, 3) := by decide +kernel
theorem dX0_figures_44 : decode cX0_figures 44 = .ok (.bipush (-3), 2) := by decide +kernel
theorem dX0_figures_46 : decode cX0_figures 46 = .ok (.ireturn, 1) := by decide +kernel
theorem dX0_figures_47 : decode cX0_figures 47 = .ok (.aload_n 0, 1) := by decide +kernel
theorem dX0_figures_48 : decode cX0_figures 48 = .ok (.getfield 75, 3) := by decide +kernel
theorem dX0_figures_51 : decode cX0_figures 51 = .ok (.iload_n 1, 1) := by decide +kernel
theorem dX0_figures_52 : decode cX0_figures 52 = .ok (.aaload, 1) := by decide +kernel
theorem dX0_figures_53 : decode cX0_figures 53 = .ok (.iload_n 2, 1) := by decide +kernel
theorem dX0_figures_54 : decode cX0_figures 54 = .ok (.iaload, 1) := by decide +kernel
theorem dX0_figures_55 : decode cX0_figures 55 = .ok (.istore 4, 2) := by decide +kernel
theorem dX0_figures_57 : decode cX0_figures 57 = .ok (.aload_n 0, 1) := by decide +kernel
theorem dX0_figures_58 : decode cX0_figures 58 = .ok (.getfield 75, 3) := by decide +kernel
theorem dX0_figures_61 : decode cX0_figures 61 = .ok (.iload_n 1, 1) := by decide +kernel
theorem dX0_figures_62 : decode cX0_figures 62 = .ok (.aaload, 1) := by decide +kernel
theorem dX0_figures_63 : decode cX0_figures 63 = .ok (.iload_n 2, 1) := by decide +kernel
theorem dX0_figures_64 : decode cX0_figures 64 = .ok (.iload_n 3, 1) := by decide +kernel
theorem dX0_figures_65 : decode cX0_figures 65 = .ok (.iastore, 1) := by decide +kernel
theorem dX0_figures_66 : decode cX0_figures 66 = .ok (.aload_n 0, 1) := by decide +kernel
theorem dX0_figures_67 : decode cX0_figures 67 = .ok (.getfield 75, 3) := by decide +kernel
theorem dX0_figures_70 : decode cX0_figures 70 = .ok (.iload_n 2, 1) := by decide +kernel
theorem dX0_figures_71 : decode cX0_figures 71 = .ok (.aaload, 1) := by decide +kernel
theorem dX0_figures_72 : decode cX0_figures 72 = .ok (.iload_n 1, 1) := by decide +kernel
theorem dX0_figures_73 : decode cX0_figures 73 = .ok (.iload_n 3, 1) := by decide +kernel
theorem dX0_figures_74 : decode cX0_figures 74 = .ok (.iastore, 1) := by decide +kernel
theorem dX0_figures_75 : decode cX0_figures 75 = .ok (.iload 4, 2) := by decide +kernel
theorem dX0_figures_77 : decode cX0_figures 77 = .ok (.ireturn, 1) := by decide +kernel
theorem yd_X0_figures : yX0_figures.cls ≠ "java/lang/invoke/MethodHandle" ∧ yX0_figures.cls ≠ "java/lang/invoke/VarHandle" ∧ (parseMethodDescriptor yX0_figures.desc).map (fun d => d.parameters.length) = some 3 := by decide +kernel
theorem fl_X0_75_0 : FLk RX0 75 0 16 "[[I" := ⟨RX0, TX0, 22, "PalaceOfRooms", rfl, by decide, (fun q => by have h1 := q.1; have h2 := q.2; omega), rfl, in_X0, Or.inl q272, Or.inl rfl⟩
abbrev rm_X0_figures : Room := { frames := 1, cells := 0, slots := 0, locals := 25 }
set_option maxHeartbeats 4000000 in
theorem c_X0_figures (l : Launch) {g : Gl} {σ : Hp} {x0 : Nat} {x1 : Int32} {x2 : Int32} {x3 : Int32} {r : Int32 × Hp} (h : F_X0_figures σ x0 x1 x2 x3 = some r) : Met l yX0_figures (ws_ yX0_figures cX0_figures 5 (some .int)) rm_X0_figures (va_Pc [.ref x0, .int x1, .int x2, .int x3] (WV g σ)) (Qi g r) 0 0 (frN g) := by
  refine ct_of (by decide) (Nat.le_of_ble_eq_true rfl) ?_
  intro p e s m below meth c ls X hV hl
  have hF : FR g [] := FR_nil
  unfold F_X0_figures at h
  have hl : lv_has ls 5 [(0, .ref x0), (1, .int x1), (2, .int x2), (3, .int x3)] := hl
  have X : FX g p m c s _ meth cX0_figures 5 RX0 (some .int) "figures" := X
  obtain ⟨-, h⟩ := gd_inv h
  refine lv_iload_n X.1 X.2.1 dX0_figures_0 rfl (lv_at hl 1 rfl) ?_
  refine lv_i2l (v := (x1 : Int32).toInt64) X.1 X.2.1 dX0_figures_1 rfl ?_
  refine lv_lconst (v := 0) X.1 X.2.1 dX0_figures_2 (by decide) ?_
  refine lv_ldc2 (v := 9) X.1 X.2.1 X.2.2.2.1 (X.2.2.2.2.1 _ q849) dX0_figures_3 ?_
  obtain ⟨v1, s1, hc, h⟩ := b2_inv h
  refine r_ci (va_runS (As := [.long ((x1 : Int32).toInt64), .long 0, .long 9]) (rest := []) (cfX X) (c_X0_isIn l hc) (va_cwS 3 X.2.2.2.2.1 (lw_S q331 q332 q49 q333) rfl rfl rfl yd_X0_isIn ⟨Nat.le_of_ble_eq_true rfl, Nat.le_of_ble_eq_true rfl⟩) (preS X hV) rfl rfl hl.1 rfl (lv_room (Nat.le_of_ble_eq_true rfl)) dX0_figures_6 ⟨(Nat.le_of_ble_eq_true rfl), (Nat.le_of_ble_eq_true rfl)⟩) hF (fun H locs hV hF => ?_)
  refine r_ifeq (tgt := 29) X.1 X.2.1 dX0_figures_9 (by decide) h (fun h => ?_) (fun h => ?_)
  · refine lv_bipush (v := (-2)) X.1 X.2.1 dX0_figures_29 (by decide) ?_
    exact r_iret X hV hF h dX0_figures_31
  · refine lv_iload_n X.1 X.2.1 dX0_figures_12 rfl (lv_at hl 2 rfl) ?_
    refine lv_i2l (v := (x2 : Int32).toInt64) X.1 X.2.1 dX0_figures_13 rfl ?_
    refine lv_lconst (v := 0) X.1 X.2.1 dX0_figures_14 (by decide) ?_
    refine lv_ldc2 (v := 9) X.1 X.2.1 X.2.2.2.1 (X.2.2.2.2.1 _ q849) dX0_figures_15 ?_
    obtain ⟨v2, s2, hc, h⟩ := b2_inv h
    refine r_ci (va_runS (As := [.long ((x2 : Int32).toInt64), .long 0, .long 9]) (rest := []) (cfX X) (c_X0_isIn l hc) (va_cwS 3 X.2.2.2.2.1 (lw_S q331 q332 q49 q333) rfl rfl rfl yd_X0_isIn ⟨Nat.le_of_ble_eq_true rfl, Nat.le_of_ble_eq_true rfl⟩) (preS X hV) rfl rfl hl.1 rfl (lv_room (Nat.le_of_ble_eq_true rfl)) dX0_figures_18 ⟨(Nat.le_of_ble_eq_true rfl), (Nat.le_of_ble_eq_true rfl)⟩) hF (fun H locs hV hF => ?_)
    refine r_ifeq (tgt := 29) X.1 X.2.1 dX0_figures_21 (by decide) h (fun h => ?_) (fun h => ?_)
    · refine lv_bipush (v := (-2)) X.1 X.2.1 dX0_figures_29 (by decide) ?_
      exact r_iret X hV hF h dX0_figures_31
    · refine lv_iload_n X.1 X.2.1 dX0_figures_24 rfl (lv_at hl 1 rfl) ?_
      refine lv_iload_n X.1 X.2.1 dX0_figures_25 rfl (lv_at hl 2 rfl) ?_
      refine r_ne (tgt := 32) X.1 X.2.1 dX0_figures_26 (by decide) h (fun h => ?_) (fun h => ?_)
      · refine lv_iload_n X.1 X.2.1 dX0_figures_32 rfl (lv_at hl 3 rfl) ?_
        refine lv_i2l (v := (x3 : Int32).toInt64) X.1 X.2.1 dX0_figures_33 rfl ?_
        refine lv_lconst (v := 0) X.1 X.2.1 dX0_figures_34 (by decide) ?_
        refine lv_ldc2 (v := 9) X.1 X.2.1 X.2.2.2.1 (X.2.2.2.2.1 _ q849) dX0_figures_35 ?_
        obtain ⟨v3, s3, hc, h⟩ := b2_inv h
        refine r_ci (va_runS (As := [.long ((x3 : Int32).toInt64), .long 0, .long 9]) (rest := []) (cfX X) (c_X0_isIn l hc) (va_cwS 3 X.2.2.2.2.1 (lw_S q331 q332 q49 q333) rfl rfl rfl yd_X0_isIn ⟨Nat.le_of_ble_eq_true rfl, Nat.le_of_ble_eq_true rfl⟩) (preS X hV) rfl rfl hl.1 rfl (lv_room (Nat.le_of_ble_eq_true rfl)) dX0_figures_38 ⟨(Nat.le_of_ble_eq_true rfl), (Nat.le_of_ble_eq_true rfl)⟩) hF (fun H locs hV hF => ?_)
        refine r_ifne (tgt := 47) X.1 X.2.1 dX0_figures_41 (by decide) h (fun h => ?_) (fun h => ?_)
        · refine lv_aload_n X.1 X.2.1 dX0_figures_47 rfl (lv_at hl 0 rfl) ?_
          refine r_gR X hV fl_X0_75_0 (by decide) dX0_figures_48 h (fun v4 h => ?_)
          refine lv_iload_n X.1 X.2.1 dX0_figures_51 rfl (lv_at hl 1 rfl) ?_
          refine r_aa X hV dX0_figures_52 (by decide) h (fun v5 h => ?_)
          refine lv_iload_n X.1 X.2.1 dX0_figures_53 rfl (lv_at hl 2 rfl) ?_
          refine r_ia X hV dX0_figures_54 h (fun v6 h => ?_)
          refine lv_istore (lv' := [(4, .int v6), (0, .ref x0), (1, .int x1), (2, .int x2), (3, .int x3)]) X.1 X.2.1 dX0_figures_55 hl (by decide) rfl (fun ls hl => ?_)
          refine lv_aload_n X.1 X.2.1 dX0_figures_57 rfl (lv_at hl 1 rfl) ?_
          refine r_gR X hV fl_X0_75_0 (by decide) dX0_figures_58 h (fun v7 h => ?_)
          refine lv_iload_n X.1 X.2.1 dX0_figures_61 rfl (lv_at hl 2 rfl) ?_
          refine r_aa X hV dX0_figures_62 (by decide) h (fun v8 h => ?_)
          refine lv_iload_n X.1 X.2.1 dX0_figures_63 rfl (lv_at hl 3 rfl) ?_
          refine lv_iload_n X.1 X.2.1 dX0_figures_64 rfl (lv_at hl 4 rfl) ?_
          refine r_is X hV hF dX0_figures_65 h (fun s4 H locs hV hF h => ?_)
          refine lv_aload_n X.1 X.2.1 dX0_figures_66 rfl (lv_at hl 1 rfl) ?_
          refine r_gR X hV fl_X0_75_0 (by decide) dX0_figures_67 h (fun v9 h => ?_)
          refine lv_iload_n X.1 X.2.1 dX0_figures_70 rfl (lv_at hl 3 rfl) ?_
          refine r_aa X hV dX0_figures_71 (by decide) h (fun v10 h => ?_)
          refine lv_iload_n X.1 X.2.1 dX0_figures_72 rfl (lv_at hl 2 rfl) ?_
          refine lv_iload_n X.1 X.2.1 dX0_figures_73 rfl (lv_at hl 4 rfl) ?_
          refine r_is X hV hF dX0_figures_74 h (fun s5 H locs hV hF h => ?_)
          refine lv_iload X.1 X.2.1 dX0_figures_75 (lv_at hl 0 rfl) ?_
          exact r_iret X hV hF h dX0_figures_77
        · refine lv_bipush (v := (-3)) X.1 X.2.1 dX0_figures_44 (by decide) ?_
          exact r_iret X hV hF h dX0_figures_46
      · refine lv_bipush (v := (-2)) X.1 X.2.1 dX0_figures_29 (by decide) ?_
        exact r_iret X hV hF h dX0_figures_31
/-! PalaceOfRooms.costOf -/
theorem dX0_costOf_0 : decode cX0_costOf 0 = .ok (.aload_n 0, 1) := by decide +kernel
theorem dX0_costOf_1 : decode cX0_costOf 1 = .ok (.iconst 0, 1) := by decide +kernel
theorem dX0_costOf_2 : decode cX0_costOf 2 = .ok (.iload_n 1, 1) := by decide +kernel
theorem dX0_costOf_3 : decode cX0_costOf 3 = .ok (.invokevirtual 112, 3) := by decide +kernel
theorem dX0_costOf_6 : decode cX0_costOf 6 = .ok (.istore_n 2, 1) := by decide +kernel
theorem dX0_costOf_7 : decode cX0_costOf 7 = .ok (.iload_n 2, 1) := by decide +kernel
theorem dX0_costOf_8 : decode cX0_costOf 8 = .ok (.iconst (-1), 1) := by decide +kernel
theorem dX0_costOf_9 : decode cX0_costOf 9 = .ok (.if_icmp .ne 7, 3) := by decide +kernel
theorem dX0_costOf_12 : decode cX0_costOf 12 = .ok (.iconst (-1), 1) := by decide +kernel
theorem dX0_costOf_13 : decode cX0_costOf 13 = .ok (.goto 15, 3) := by decide +kernel
theorem dX0_costOf_16 : decode cX0_costOf 16 = .ok (.iconst 2, 1) := by decide +kernel
theorem dX0_costOf_17 : decode cX0_costOf 17 = .ok (.iload_n 2, 1) := by decide +kernel
theorem dX0_costOf_18 : decode cX0_costOf 18 = .ok (.imul, 1) := by decide +kernel
theorem dX0_costOf_19 : decode cX0_costOf 19 = .ok (.aload_n 0, 1) := by decide +kernel
theorem dX0_costOf_20 : decode cX0_costOf 20 = .ok (.getfield 43, 3) := by decide +kernel
theorem dX0_costOf_23 : decode cX0_costOf 23 = .ok (.iload_n 1, 1) := by decide +kernel
theorem dX0_costOf_24 : decode cX0_costOf 24 = .ok (.invokevirtual 229, 3) := by decide +kernel
theorem dX0_costOf_27 : decode cX0_costOf 27 = .ok (.iadd, 1) := by decide +kernel
theorem dX0_costOf_28 : decode cX0_costOf 28 = .ok (.ireturn, 1) := by decide +kernel
theorem yd_X0_costOf : yX0_costOf.cls ≠ "java/lang/invoke/MethodHandle" ∧ yX0_costOf.cls ≠ "java/lang/invoke/VarHandle" ∧ (parseMethodDescriptor yX0_costOf.desc).map (fun d => d.parameters.length) = some 1 := by decide +kernel
abbrev rm_X0_costOf : Room := { frames := 2, cells := 0, slots := 0, locals := 43 }
set_option maxHeartbeats 4000000 in
theorem c_X0_costOf (l : Launch) {g : Gl} {σ : Hp} {x0 : Nat} {x1 : Int32} {r : Int32 × Hp} (h : F_X0_costOf σ x0 x1 = some r) : Met l yX0_costOf (ws_ yX0_costOf cX0_costOf 3 (some .int)) rm_X0_costOf (va_Pc [.ref x0, .int x1] (WV g σ)) (Qi g r) 0 0 (frN g) := by
  refine ct_of (by decide) (Nat.le_of_ble_eq_true rfl) ?_
  intro p e s m below meth c ls X hV hl
  have hF : FR g [] := FR_nil
  unfold F_X0_costOf at h
  have hl : lv_has ls 3 [(0, .ref x0), (1, .int x1)] := hl
  have X : FX g p m c s _ meth cX0_costOf 3 RX0 (some .int) "costOf" := X
  obtain ⟨-, h⟩ := gd_inv h
  refine lv_aload_n X.1 X.2.1 dX0_costOf_0 rfl (lv_at hl 0 rfl) ?_
  refine lv_iconst (v := 0) X.1 X.2.1 dX0_costOf_1 (by decide) ?_
  refine lv_iload_n X.1 X.2.1 dX0_costOf_2 rfl (lv_at hl 1 rfl) ?_
  obtain ⟨v1, s1, hc, h⟩ := b2_inv h
  refine r_ci (va_runV (C := RX0) (As := [.int 0, .int x1]) (rest := []) (cfX X) (c_X0_awayOf l hc) (cwV 2 X.2.2.2.2.1 (lw_V q338 q340 qs0 q49 q341) rfl rfl rfl ⟨rfl, yd_X0_awayOf⟩ ⟨Nat.le_of_ble_eq_true rfl, Nat.le_of_ble_eq_true rfl⟩) (preV X hV (F_X0_awayOf_g hc) rfl) rfl rfl hl.1 rfl (lv_room (Nat.le_of_ble_eq_true rfl)) dX0_costOf_3 ⟨(Nat.le_of_ble_eq_true rfl), (Nat.le_of_ble_eq_true rfl)⟩) hF (fun H locs hV hF => ?_)
  refine lv_istore_n (lv' := [(2, .int v1), (0, .ref x0), (1, .int x1)]) X.1 X.2.1 dX0_costOf_6 rfl hl (by decide) rfl (fun ls hl => ?_)
  refine lv_iload_n X.1 X.2.1 dX0_costOf_7 rfl (lv_at hl 0 rfl) ?_
  refine lv_iconst (v := (-1)) X.1 X.2.1 dX0_costOf_8 (by decide) ?_
  refine r_ne (tgt := 16) X.1 X.2.1 dX0_costOf_9 (by decide) h (fun h => ?_) (fun h => ?_)
  · refine lv_iconst (v := 2) X.1 X.2.1 dX0_costOf_16 (by decide) ?_
    refine lv_iload_n X.1 X.2.1 dX0_costOf_17 rfl (lv_at hl 0 rfl) ?_
    refine lv_imul X.1 X.2.1 dX0_costOf_18 ?_
    refine lv_aload_n X.1 X.2.1 dX0_costOf_19 rfl (lv_at hl 1 rfl) ?_
    refine r_gR X hV fl_X0_43_0 (by decide) dX0_costOf_20 h (fun v2 h => ?_)
    refine lv_iload_n X.1 X.2.1 dX0_costOf_23 rfl (lv_at hl 2 rfl) ?_
    obtain ⟨v3, s2, hc, h⟩ := b2_inv h
    refine r_ci (va_runV (C := RX1) (As := [.int x1]) (rest := [.int (2 * v1)]) (cfX X) (c_X1_held l hc) (cwV 1 X.2.2.2.2.1 (lw_V q731 q732 q733 q50 q734) rfl rfl rfl ⟨rfl, yd_X1_held⟩ ⟨Nat.le_of_ble_eq_true rfl, Nat.le_of_ble_eq_true rfl⟩) (preV X hV (F_X1_held_g hc) rfl) rfl rfl hl.1 rfl (lv_room (Nat.le_of_ble_eq_true rfl)) dX0_costOf_24 ⟨(Nat.le_of_ble_eq_true rfl), (Nat.le_of_ble_eq_true rfl)⟩) hF (fun H locs hV hF => ?_)
    refine lv_iadd X.1 X.2.1 dX0_costOf_27 ?_
    exact r_iret X hV hF h dX0_costOf_28
  · refine lv_iconst (v := (-1)) X.1 X.2.1 dX0_costOf_12 (by decide) ?_
    refine lv_goto (tgt := 28) X.1 X.2.1 dX0_costOf_13 (by decide) ?_
    exact r_iret X hV hF h dX0_costOf_28
/-! PalaceOfRooms.cost -/
theorem dX0_cost_0 : decode cX0_cost 0 = .ok (.iload_n 1, 1) := by decide +kernel
theorem dX0_cost_1 : decode cX0_cost 1 = .ok (.invokestatic 105, 3) := by decide +kernel
theorem dX0_cost_4 : decode cX0_cost 4 = .ok (.ifCond .eq 11, 3) := by decide +kernel
theorem dX0_cost_7 : decode cX0_cost 7 = .ok (.aload_n 0, 1) := by decide +kernel
theorem dX0_cost_8 : decode cX0_cost 8 = .ok (.iload_n 1, 1) := by decide +kernel
theorem dX0_cost_9 : decode cX0_cost 9 = .ok (.invokevirtual 269, 3) := by decide +kernel
theorem dX0_cost_12 : decode cX0_cost 12 = .ok (.goto 5, 3) := by decide +kernel
theorem dX0_cost_15 : decode cX0_cost 15 = .ok (.bipush (-2), 2) := by decide +kernel
theorem dX0_cost_17 : decode cX0_cost 17 = .ok (.ireturn, 1) := by decide +kernel
theorem yd_X0_cost : yX0_cost.cls ≠ "java/lang/invoke/MethodHandle" ∧ yX0_cost.cls ≠ "java/lang/invoke/VarHandle" ∧ (parseMethodDescriptor yX0_cost.desc).map (fun d => d.parameters.length) = some 1 := by decide +kernel
abbrev rm_X0_cost : Room := { frames := 3, cells := 0, slots := 0, locals := 65 }
set_option maxHeartbeats 4000000 in
theorem c_X0_cost (l : Launch) {g : Gl} {σ : Hp} {x0 : Nat} {x1 : Int32} {r : Int32 × Hp} (h : F_X0_cost σ x0 x1 = some r) : Met l yX0_cost (ws_ yX0_cost cX0_cost 2 (some .int)) rm_X0_cost (va_Pc [.ref x0, .int x1] (WV g σ)) (Qi g r) 0 0 (frN g) := by
  refine ct_of (by decide) (Nat.le_of_ble_eq_true rfl) ?_
  intro p e s m below meth c ls X hV hl
  have hF : FR g [] := FR_nil
  unfold F_X0_cost at h
  have hl : lv_has ls 2 [(0, .ref x0), (1, .int x1)] := hl
  have X : FX g p m c s _ meth cX0_cost 2 RX0 (some .int) "cost" := X
  obtain ⟨-, h⟩ := gd_inv h
  refine lv_iload_n X.1 X.2.1 dX0_cost_0 rfl (lv_at hl 1 rfl) ?_
  obtain ⟨v1, s1, hc, h⟩ := b2_inv h
  refine r_ci (va_runS (As := [.int x1]) (rest := []) (cfX X) (c_X0_isRoom l hc) (va_cwS 1 X.2.2.2.2.1 (lw_S q327 q328 q49 q329) rfl rfl rfl yd_X0_isRoom ⟨Nat.le_of_ble_eq_true rfl, Nat.le_of_ble_eq_true rfl⟩) (preS X hV) rfl rfl hl.1 rfl (lv_room (Nat.le_of_ble_eq_true rfl)) dX0_cost_1 ⟨(Nat.le_of_ble_eq_true rfl), (Nat.le_of_ble_eq_true rfl)⟩) hF (fun H locs hV hF => ?_)
  refine r_ifeq (tgt := 15) X.1 X.2.1 dX0_cost_4 (by decide) h (fun h => ?_) (fun h => ?_)
  · refine lv_bipush (v := (-2)) X.1 X.2.1 dX0_cost_15 (by decide) ?_
    exact r_iret X hV hF h dX0_cost_17
  · refine lv_aload_n X.1 X.2.1 dX0_cost_7 rfl (lv_at hl 0 rfl) ?_
    refine lv_iload_n X.1 X.2.1 dX0_cost_8 rfl (lv_at hl 1 rfl) ?_
    obtain ⟨v2, s2, hc, h⟩ := b2_inv h
    refine r_ci (va_runV (C := RX0) (As := [.int x1]) (rest := []) (cfX X) (c_X0_costOf l hc) (cwV 1 X.2.2.2.2.1 (lw_V q854 q856 qs17 q49 q857) rfl rfl rfl ⟨rfl, yd_X0_costOf⟩ ⟨Nat.le_of_ble_eq_true rfl, Nat.le_of_ble_eq_true rfl⟩) (preV X hV (F_X0_costOf_g hc) rfl) rfl rfl hl.1 rfl (lv_room (Nat.le_of_ble_eq_true rfl)) dX0_cost_9 ⟨(Nat.le_of_ble_eq_true rfl), (Nat.le_of_ble_eq_true rfl)⟩) hF (fun H locs hV hF => ?_)
    refine lv_goto (tgt := 17) X.1 X.2.1 dX0_cost_12 (by decide) ?_
    exact r_iret X hV hF h dX0_cost_17
/-! PalaceOfRooms.minutesOf -/
theorem dX0_minutesOf_0 : decode cX0_minutesOf 0 = .ok (.iload_n 0, 1) := by decide +kernel
theorem dX0_minutesOf_1 : decode cX0_minutesOf 1 = .ok (.bipush 7, 2) := by decide +kernel
theorem dX0_minutesOf_3 : decode cX0_minutesOf 3 = .ok (.iload_n 1, 1) := by decide +kernel
theorem dX0_minutesOf_4 : decode cX0_minutesOf 4 = .ok (.imul, 1) := by decide +kernel
theorem dX0_minutesOf_5 : decode cX0_minutesOf 5 = .ok (.ishr, 1) := by decide +kernel
theorem dX0_minutesOf_6 : decode cX0_minutesOf 6 = .ok (.bipush 127, 2) := by decide +kernel
theorem dX0_minutesOf_8 : decode cX0_minutesOf 8 = .ok (.iand, 1) := by decide +kernel
theorem dX0_minutesOf_9 : decode cX0_minutesOf 9 = .ok (.ireturn, 1) := by decide +kernel
theorem yd_X0_minutesOf : yX0_minutesOf.cls ≠ "java/lang/invoke/MethodHandle" ∧ yX0_minutesOf.cls ≠ "java/lang/invoke/VarHandle" ∧ (parseMethodDescriptor yX0_minutesOf.desc).map (fun d => d.parameters.length) = some 2 := by decide +kernel
abbrev rm_X0_minutesOf : Room := { frames := 0, cells := 0, slots := 0, locals := 0 }
set_option maxHeartbeats 4000000 in
theorem c_X0_minutesOf (l : Launch) {g : Gl} {σ : Hp} {x0 : Int32} {x1 : Int32} {r : Int32 × Hp} (h : F_X0_minutesOf σ x0 x1 = some r) : Met l yX0_minutesOf (ws_ yX0_minutesOf cX0_minutesOf 2 (some .int)) rm_X0_minutesOf (va_Pc [.int x0, .int x1] (WV g σ)) (Qi g r) 0 0 (frN g) := by
  refine ct_of (by decide) (Nat.le_of_ble_eq_true rfl) ?_
  intro p e s m below meth c ls X hV hl
  have hF : FR g [] := FR_nil
  unfold F_X0_minutesOf at h
  have hl : lv_has ls 2 [(0, .int x0), (1, .int x1)] := hl
  have X : FX g p m c s _ meth cX0_minutesOf 2 RX0 (some .int) "minutesOf" := X
  refine lv_iload_n X.1 X.2.1 dX0_minutesOf_0 rfl (lv_at hl 0 rfl) ?_
  refine lv_bipush (v := 7) X.1 X.2.1 dX0_minutesOf_1 (by decide) ?_
  refine lv_iload_n X.1 X.2.1 dX0_minutesOf_3 rfl (lv_at hl 1 rfl) ?_
  refine lv_imul X.1 X.2.1 dX0_minutesOf_4 ?_
  refine lv_ishr X.1 X.2.1 dX0_minutesOf_5 ?_
  refine lv_bipush (v := 127) X.1 X.2.1 dX0_minutesOf_6 (by decide) ?_
  refine lv_iand X.1 X.2.1 dX0_minutesOf_8 ?_
  exact r_iret X hV hF h dX0_minutesOf_9
/-! PalaceOfRooms.areMinutes -/
theorem dX0_areMinutes_0 : decode cX0_areMinutes 0 = .ok (.iload_n 0, 1) := by decide +kernel
theorem dX0_areMinutes_1 : decode cX0_areMinutes 1 = .ok (.i2l, 1) := by decide +kernel
theorem dX0_areMinutes_2 : decode cX0_areMinutes 2 = .ok (.lconst 1, 1) := by decide +kernel
theorem dX0_areMinutes_3 : decode cX0_areMinutes 3 = .ok (.ldc2_w 272, 3) := by decide +kernel
theorem dX0_areMinutes_6 : decode cX0_areMinutes 6 = .ok (.invokestatic 5, 3) := by decide +kernel
theorem dX0_areMinutes_9 : decode cX0_areMinutes 9 = .ok (.istore_n 2, 1) := by decide +kernel
theorem dX0_areMinutes_10 : decode cX0_areMinutes 10 = .ok (.iconst 0, 1) := by decide +kernel
theorem dX0_areMinutes_11 : decode cX0_areMinutes 11 = .ok (.istore_n 3, 1) := by decide +kernel
theorem dX0_areMinutes_12 : decode cX0_areMinutes 12 = .ok (.iload_n 2, 1) := by decide +kernel
theorem dX0_areMinutes_13 : decode cX0_areMinutes 13 = .ok (.ifCond .eq 30, 3) := by decide +kernel
theorem dX0_areMinutes_16 : decode cX0_areMinutes 16 = .ok (.iload_n 3, 1) := by decide +kernel
theorem dX0_areMinutes_17 : decode cX0_areMinutes 17 = .ok (.iload_n 0, 1) := by decide +kernel
theorem dX0_areMinutes_18 : decode cX0_areMinutes 18 = .ok (.if_icmp .ge 25, 3) := by decide +kernel
theorem dX0_areMinutes_21 : decode cX0_areMinutes 21 = .ok (.iload_n 1, 1) := by decide +kernel
theorem dX0_areMinutes_22 : decode cX0_areMinutes 22 = .ok (.iload_n 3, 1) := by decide +kernel
theorem dX0_areMinutes_23 : decode cX0_areMinutes 23 = .ok (.invokestatic 274, 3) := by decide +kernel
theorem dX0_areMinutes_26 : decode cX0_areMinutes 26 = .ok (.bipush 100, 2) := by decide +kernel
theorem dX0_areMinutes_28 : decode cX0_areMinutes 28 = .ok (.if_icmp .ge 7, 3) := by decide +kernel
theorem dX0_areMinutes_31 : decode cX0_areMinutes 31 = .ok (.iconst 1, 1) := by decide +kernel
theorem dX0_areMinutes_32 : decode cX0_areMinutes 32 = .ok (.goto 4, 3) := by decide +kernel
theorem dX0_areMinutes_35 : decode cX0_areMinutes 35 = .ok (.iconst 0, 1) := by decide +kernel
theorem dX0_areMinutes_36 : decode cX0_areMinutes 36 = .ok (.istore_n 2, 1) := by decide +kernel
theorem dX0_areMinutes_37 : decode cX0_areMinutes 37 = .ok (.iinc 3 1, 3) := by decide +kernel
theorem dX0_areMinutes_40 : decode cX0_areMinutes 40 = .ok (.goto (-28), 3) := by decide +kernel
theorem dX0_areMinutes_43 : decode cX0_areMinutes 43 = .ok (.iload_n 2, 1) := by decide +kernel
theorem dX0_areMinutes_44 : decode cX0_areMinutes 44 = .ok (.ireturn, 1) := by decide +kernel
theorem yd_X0_areMinutes : yX0_areMinutes.cls ≠ "java/lang/invoke/MethodHandle" ∧ yX0_areMinutes.cls ≠ "java/lang/invoke/VarHandle" ∧ (parseMethodDescriptor yX0_areMinutes.desc).map (fun d => d.parameters.length) = some 2 := by decide +kernel
abbrev rm_X0_areMinutes : Room := { frames := 1, cells := 0, slots := 0, locals := 25 }
set_option maxHeartbeats 4000000 in
theorem w_X0_areMinutes_12_b {p : Program} {l : Launch} {e : Env} {s : State} {m : MethodId} {args : Array Value} {below : List Frame} {meth : Method} {c : Code} {g : Gl} (X : FX g p m c s args meth cX0_areMinutes 4 RX0 (some .boolean) "areMinutes") {r : Int32 × Hp} {rec12 : Hp × Int32 × Int32 → Option (Int32 × Hp)} {x0 : Int32} {x1 : Int32} {σ : Hp} {x2 : Int32} {x3 : Int32} (hr12 : ∀ (st : Hp × Int32 × Int32), rec12 st = some r → ∀ (H : Heap) (locs : List Loc) (ls : Array Slot), HV g st.1 H → FR g locs → lv_has ls 4 [(0, .int x0), (1, .int x1), (2, .int st.2.1), (3, .int st.2.2)] → W p l e rm_X0_areMinutes s m args below meth c H locs 0 0 (MQ below (Qi g r) args s 0 0 (frN g)) (F0 m 12 ls [])) {H : Heap} {locs : List Loc} {ls : Array Slot} (h : B_X0_areMinutes_12 x0 x1 rec12 σ x2 x3 = some r) (hV : HV g σ H) (hF : FR g locs) (hl : lv_has ls 4 [(0, .int x0), (1, .int x1), (2, .int x2), (3, .int x3)]) : W p l e rm_X0_areMinutes s m args below meth c H locs 0 0 (MQ below (Qi g r) args s 0 0 (frN g)) (F0 m 12 ls []) := by
  unfold B_X0_areMinutes_12 at h
  refine lv_iload_n X.1 X.2.1 dX0_areMinutes_12 rfl (lv_at hl 2 rfl) ?_
  refine r_ifeq (tgt := 43) X.1 X.2.1 dX0_areMinutes_13 (by decide) h (fun h => ?_) (fun h => ?_)
  · refine lv_iload_n X.1 X.2.1 dX0_areMinutes_43 rfl (lv_at hl 2 rfl) ?_
    exact r_zrv X hV hF h dX0_areMinutes_44
  · refine lv_iload_n X.1 X.2.1 dX0_areMinutes_16 rfl (lv_at hl 3 rfl) ?_
    refine lv_iload_n X.1 X.2.1 dX0_areMinutes_17 rfl (lv_at hl 0 rfl) ?_
    refine r_ge (tgt := 43) X.1 X.2.1 dX0_areMinutes_18 (by decide) h (fun h => ?_) (fun h => ?_)
    · refine lv_iload_n X.1 X.2.1 dX0_areMinutes_43 rfl (lv_at hl 2 rfl) ?_
      exact r_zrv X hV hF h dX0_areMinutes_44
    · refine lv_iload_n X.1 X.2.1 dX0_areMinutes_21 rfl (lv_at hl 1 rfl) ?_
      refine lv_iload_n X.1 X.2.1 dX0_areMinutes_22 rfl (lv_at hl 3 rfl) ?_
      obtain ⟨v1, s1, hc, h⟩ := b2_inv h
      refine r_ci (va_runS (As := [.int x1, .int x3]) (rest := []) (cfX X) (c_X0_minutesOf l hc) (va_cwS 2 X.2.2.2.2.1 (lw_S q866 q867 q49 q868) rfl rfl rfl yd_X0_minutesOf ⟨Nat.le_of_ble_eq_true rfl, Nat.le_of_ble_eq_true rfl⟩) (preS X hV) rfl rfl hl.1 rfl (lv_room (Nat.le_of_ble_eq_true rfl)) dX0_areMinutes_23 ⟨(Nat.le_of_ble_eq_true rfl), (Nat.le_of_ble_eq_true rfl)⟩) hF (fun H locs hV hF => ?_)
      refine lv_bipush (v := 100) X.1 X.2.1 dX0_areMinutes_26 (by decide) ?_
      refine r_ge (tgt := 35) X.1 X.2.1 dX0_areMinutes_28 (by decide) h (fun h => ?_) (fun h => ?_)
      · refine lv_iconst (v := 0) X.1 X.2.1 dX0_areMinutes_35 (by decide) ?_
        refine lv_istore_n (lv' := [(2, .int 0), (0, .int x0), (1, .int x1), (3, .int x3)]) X.1 X.2.1 dX0_areMinutes_36 rfl hl (by decide) rfl (fun ls hl => ?_)
        refine lv_iinc (v := x3 + 1) (lv' := [(3, .int (x3 + 1)), (2, .int 0), (0, .int x0), (1, .int x1)]) X.1 X.2.1 dX0_areMinutes_37 hl (k := 3) rfl rfl (by decide) rfl (fun ls hl => ?_)
        refine lv_goto (tgt := 12) X.1 X.2.1 dX0_areMinutes_40 (by decide) ?_
        exact hr12 (s1, 0, x3 + 1) h _ _ _ hV hF (lv_sub hl [2, 3, 1, 0] rfl)
      · refine lv_iconst (v := 1) X.1 X.2.1 dX0_areMinutes_31 (by decide) ?_
        refine lv_goto (tgt := 36) X.1 X.2.1 dX0_areMinutes_32 (by decide) ?_
        refine lv_istore_n (lv' := [(2, .int 1), (0, .int x0), (1, .int x1), (3, .int x3)]) X.1 X.2.1 dX0_areMinutes_36 rfl hl (by decide) rfl (fun ls hl => ?_)
        refine lv_iinc (v := x3 + 1) (lv' := [(3, .int (x3 + 1)), (2, .int 1), (0, .int x0), (1, .int x1)]) X.1 X.2.1 dX0_areMinutes_37 hl (k := 3) rfl rfl (by decide) rfl (fun ls hl => ?_)
        refine lv_goto (tgt := 12) X.1 X.2.1 dX0_areMinutes_40 (by decide) ?_
        exact hr12 (s1, 1, x3 + 1) h _ _ _ hV hF (lv_sub hl [2, 3, 1, 0] rfl)
set_option maxHeartbeats 4000000 in
theorem w_X0_areMinutes_12 {p : Program} {l : Launch} {e : Env} {s : State} {m : MethodId} {args : Array Value} {below : List Frame} {meth : Method} {c : Code} {g : Gl} (X : FX g p m c s args meth cX0_areMinutes 4 RX0 (some .boolean) "areMinutes") {r : Int32 × Hp} {x0 : Int32} {x1 : Int32}  : ∀ (n : Nat) (st : Hp × Int32 × Int32), L_X0_areMinutes_12 x0 x1 n st = some r → ∀ (H : Heap) (locs : List Loc) (ls : Array Slot), HV g st.1 H → FR g locs → lv_has ls 4 [(0, .int x0), (1, .int x1), (2, .int st.2.1), (3, .int st.2.2)] → W p l e rm_X0_areMinutes s m args below meth c H locs 0 0 (MQ below (Qi g r) args s 0 0 (frN g)) (F0 m 12 ls []) := by
  intro n
  induction n with
  | zero =>
    intro st h
    rw [L_X0_areMinutes_12_0] at h
    cases h
  | succ n ih =>
    intro st h H locs ls hV hF hl
    rw [L_X0_areMinutes_12_s] at h
    exact w_X0_areMinutes_12_b X  ih h hV hF hl
set_option maxHeartbeats 4000000 in
theorem c_X0_areMinutes (l : Launch) {g : Gl} {σ : Hp} {x0 : Int32} {x1 : Int32} {r : Int32 × Hp} (h : F_X0_areMinutes σ x0 x1 = some r) : Met l yX0_areMinutes (ws_ yX0_areMinutes cX0_areMinutes 4 (some .boolean)) rm_X0_areMinutes (va_Pc [.int x0, .int x1] (WV g σ)) (Qi g r) 0 0 (frN g) := by
  refine ct_of (by decide) (Nat.le_of_ble_eq_true rfl) ?_
  intro p e s m below meth c ls X hV hl
  have hF : FR g [] := FR_nil
  unfold F_X0_areMinutes at h
  have hl : lv_has ls 4 [(0, .int x0), (1, .int x1)] := hl
  have X : FX g p m c s _ meth cX0_areMinutes 4 RX0 (some .boolean) "areMinutes" := X
  refine lv_iload_n X.1 X.2.1 dX0_areMinutes_0 rfl (lv_at hl 0 rfl) ?_
  refine lv_i2l (v := (x0 : Int32).toInt64) X.1 X.2.1 dX0_areMinutes_1 rfl ?_
  refine lv_lconst (v := 1) X.1 X.2.1 dX0_areMinutes_2 (by decide) ?_
  refine lv_ldc2 (v := 4) X.1 X.2.1 X.2.2.2.1 (X.2.2.2.2.1 _ q865) dX0_areMinutes_3 ?_
  obtain ⟨v1, s1, hc, h⟩ := b2_inv h
  refine r_ci (va_runS (As := [.long ((x0 : Int32).toInt64), .long 1, .long 4]) (rest := []) (cfX X) (c_X0_isIn l hc) (va_cwS 3 X.2.2.2.2.1 (lw_S q331 q332 q49 q333) rfl rfl rfl yd_X0_isIn ⟨Nat.le_of_ble_eq_true rfl, Nat.le_of_ble_eq_true rfl⟩) (preS X hV) rfl rfl hl.1 rfl (lv_room (Nat.le_of_ble_eq_true rfl)) dX0_areMinutes_6 ⟨(Nat.le_of_ble_eq_true rfl), (Nat.le_of_ble_eq_true rfl)⟩) hF (fun H locs hV hF => ?_)
  refine lv_istore_n (lv' := [(2, .int v1), (0, .int x0), (1, .int x1)]) X.1 X.2.1 dX0_areMinutes_9 rfl hl (by decide) rfl (fun ls hl => ?_)
  refine lv_iconst (v := 0) X.1 X.2.1 dX0_areMinutes_10 (by decide) ?_
  refine lv_istore_n (lv' := [(3, .int 0), (2, .int v1), (0, .int x0), (1, .int x1)]) X.1 X.2.1 dX0_areMinutes_11 rfl hl (by decide) rfl (fun ls hl => ?_)
  exact w_X0_areMinutes_12 X  FU (s1, v1, 0) h _ _ _ hV hF (lv_sub hl [2, 3, 1, 0] rfl)
/-! PalaceOfRooms.layCosts -/
theorem dX0_layCosts_0 : decode cX0_layCosts 0 = .ok (.iconst 0, 1) := by decide +kernel
theorem dX0_layCosts_1 : decode cX0_layCosts 1 = .ok (.istore_n 1, 1) := by decide +kernel
theorem dX0_layCosts_2 : decode cX0_layCosts 2 = .ok (.iload_n 1, 1) := by decide +kernel
theorem dX0_layCosts_3 : decode cX0_layCosts 3 = .ok (.bipush 8, 2) := by decide +kernel
theorem dX0_layCosts_5 : decode cX0_layCosts 5 = .ok (.if_icmp .ge 20, 3) := by decide +kernel
theorem dX0_layCosts_8 : decode cX0_layCosts 8 = .ok (.aload_n 0, 1) := by decide +kernel
theorem dX0_layCosts_9 : decode cX0_layCosts 9 = .ok (.getfield 95, 3) := by decide +kernel
theorem dX0_layCosts_12 : decode cX0_layCosts 12 = .ok (.iload_n 1, 1) := by decide +kernel
theorem dX0_layCosts_13 : decode cX0_layCosts 13 = .ok (.aload_n 0, 1) := by decide +kernel
theorem dX0_layCosts_14 : decode cX0_layCosts 14 = .ok (.iload_n 1, 1) := by decide +kernel
theorem dX0_layCosts_15 : decode cX0_layCosts 15 = .ok (.invokevirtual 269, 3) := by decide +kernel
theorem dX0_layCosts_18 : decode cX0_layCosts 18 = .ok (.iastore, 1) := by decide +kernel
theorem dX0_layCosts_19 : decode cX0_layCosts 19 = .ok (.iinc 1 1, 3) := by decide +kernel
theorem dX0_layCosts_22 : decode cX0_layCosts 22 = .ok (.goto (-20), 3) := by decide +kernel
theorem dX0_layCosts_25 : decode cX0_layCosts 25 = .ok (.return_, 1) := by decide +kernel
theorem yd_X0_layCosts : yX0_layCosts.cls ≠ "java/lang/invoke/MethodHandle" ∧ yX0_layCosts.cls ≠ "java/lang/invoke/VarHandle" ∧ (parseMethodDescriptor yX0_layCosts.desc).map (fun d => d.parameters.length) = some 0 := by decide +kernel
theorem fl_X0_95_0 : FLk RX0 95 0 20 "[I" := ⟨RX0, TX0, 22, "PalaceOfRooms", rfl, by decide, (fun q => by have h1 := q.1; have h2 := q.2; omega), rfl, in_X0, Or.inl q276, Or.inl rfl⟩
abbrev rm_X0_layCosts : Room := { frames := 3, cells := 0, slots := 0, locals := 65 }
set_option maxHeartbeats 4000000 in
theorem w_X0_layCosts_2_b {p : Program} {l : Launch} {e : Env} {s : State} {m : MethodId} {args : Array Value} {below : List Frame} {meth : Method} {c : Code} {g : Gl} (X : FX g p m c s args meth cX0_layCosts 2 RX0 none "layCosts") {r : Hp} {rec2 : Hp × Int32 → Option (Hp)} {x0 : Nat} {σ : Hp} {x1 : Int32} (hr2 : ∀ (st : Hp × Int32), rec2 st = some r → ∀ (H : Heap) (locs : List Loc) (ls : Array Slot), HV g st.1 H → FR g locs → lv_has ls 2 [(0, .ref x0), (1, .int st.2)] → W p l e rm_X0_layCosts s m args below meth c H locs 0 0 (MQ below (Qv g r) args s 0 0 (frN g)) (F0 m 2 ls [])) {H : Heap} {locs : List Loc} {ls : Array Slot} (h : B_X0_layCosts_2 x0 rec2 σ x1 = some r) (hV : HV g σ H) (hF : FR g locs) (hl : lv_has ls 2 [(0, .ref x0), (1, .int x1)]) : W p l e rm_X0_layCosts s m args below meth c H locs 0 0 (MQ below (Qv g r) args s 0 0 (frN g)) (F0 m 2 ls []) := by
  unfold B_X0_layCosts_2 at h
  refine lv_iload_n X.1 X.2.1 dX0_layCosts_2 rfl (lv_at hl 1 rfl) ?_
  refine lv_bipush (v := 8) X.1 X.2.1 dX0_layCosts_3 (by decide) ?_
  refine r_ge (tgt := 25) X.1 X.2.1 dX0_layCosts_5 (by decide) h (fun h => ?_) (fun h => ?_)
  · exact r_vret X hV hF h dX0_layCosts_25
  · refine lv_aload_n X.1 X.2.1 dX0_layCosts_8 rfl (lv_at hl 0 rfl) ?_
    refine r_gR X hV fl_X0_95_0 (by decide) dX0_layCosts_9 h (fun v1 h => ?_)
    refine lv_iload_n X.1 X.2.1 dX0_layCosts_12 rfl (lv_at hl 1 rfl) ?_
    refine lv_aload_n X.1 X.2.1 dX0_layCosts_13 rfl (lv_at hl 0 rfl) ?_
    refine lv_iload_n X.1 X.2.1 dX0_layCosts_14 rfl (lv_at hl 1 rfl) ?_
    obtain ⟨v2, s1, hc, h⟩ := b2_inv h
    refine r_ci (va_runV (C := RX0) (As := [.int x1]) (rest := [.int x1, .ref v1]) (cfX X) (c_X0_costOf l hc) (cwV 1 X.2.2.2.2.1 (lw_V q854 q856 qs17 q49 q857) rfl rfl rfl ⟨rfl, yd_X0_costOf⟩ ⟨Nat.le_of_ble_eq_true rfl, Nat.le_of_ble_eq_true rfl⟩) (preV X hV (F_X0_costOf_g hc) rfl) rfl rfl hl.1 rfl (lv_room (Nat.le_of_ble_eq_true rfl)) dX0_layCosts_15 ⟨(Nat.le_of_ble_eq_true rfl), (Nat.le_of_ble_eq_true rfl)⟩) hF (fun H locs hV hF => ?_)
    refine r_is X hV hF dX0_layCosts_18 h (fun s2 H locs hV hF h => ?_)
    refine lv_iinc (v := x1 + 1) (lv' := [(1, .int (x1 + 1)), (0, .ref x0)]) X.1 X.2.1 dX0_layCosts_19 hl (k := 1) rfl rfl (by decide) rfl (fun ls hl => ?_)
    refine lv_goto (tgt := 2) X.1 X.2.1 dX0_layCosts_22 (by decide) ?_
    exact hr2 (s2, x1 + 1) h _ _ _ hV hF (lv_sub hl [1, 0] rfl)
set_option maxHeartbeats 4000000 in
theorem w_X0_layCosts_2 {p : Program} {l : Launch} {e : Env} {s : State} {m : MethodId} {args : Array Value} {below : List Frame} {meth : Method} {c : Code} {g : Gl} (X : FX g p m c s args meth cX0_layCosts 2 RX0 none "layCosts") {r : Hp} {x0 : Nat}  : ∀ (n : Nat) (st : Hp × Int32), L_X0_layCosts_2 x0 n st = some r → ∀ (H : Heap) (locs : List Loc) (ls : Array Slot), HV g st.1 H → FR g locs → lv_has ls 2 [(0, .ref x0), (1, .int st.2)] → W p l e rm_X0_layCosts s m args below meth c H locs 0 0 (MQ below (Qv g r) args s 0 0 (frN g)) (F0 m 2 ls []) := by
  intro n
  induction n with
  | zero =>
    intro st h
    rw [L_X0_layCosts_2_0] at h
    cases h
  | succ n ih =>
    intro st h H locs ls hV hF hl
    rw [L_X0_layCosts_2_s] at h
    exact w_X0_layCosts_2_b X  ih h hV hF hl
set_option maxHeartbeats 4000000 in
theorem c_X0_layCosts (l : Launch) {g : Gl} {σ : Hp} {x0 : Nat} {r : Hp} (h : F_X0_layCosts σ x0 = some r) : Met l yX0_layCosts (ws_ yX0_layCosts cX0_layCosts 2 none) rm_X0_layCosts (va_Pc [.ref x0] (WV g σ)) (Qv g r) 0 0 (frN g) := by
  refine ct_of (by decide) (Nat.le_of_ble_eq_true rfl) ?_
  intro p e s m below meth c ls X hV hl
  have hF : FR g [] := FR_nil
  unfold F_X0_layCosts at h
  have hl : lv_has ls 2 [(0, .ref x0)] := hl
  have X : FX g p m c s _ meth cX0_layCosts 2 RX0 none "layCosts" := X
  obtain ⟨-, h⟩ := gd_inv h
  refine lv_iconst (v := 0) X.1 X.2.1 dX0_layCosts_0 (by decide) ?_
  refine lv_istore_n (lv' := [(1, .int 0), (0, .ref x0)]) X.1 X.2.1 dX0_layCosts_1 rfl hl (by decide) rfl (fun ls hl => ?_)
  exact w_X0_layCosts_2 X  FU (σ, 0) h _ _ _ hV hF (lv_sub hl [1, 0] rfl)
/-! PalaceOfRooms.layPlan -/
theorem dX0_layPlan_0 : decode cX0_layPlan 0 = .ok (.iload_n 1, 1) := by decide +kernel
theorem dX0_layPlan_1 : decode cX0_layPlan 1 = .ok (.istore_n 3, 1) := by decide +kernel
theorem dX0_layPlan_2 : decode cX0_layPlan 2 = .ok (.iload_n 2, 1) := by decide +kernel
theorem dX0_layPlan_3 : decode cX0_layPlan 3 = .ok (.iconst 1, 1) := by decide +kernel
theorem dX0_layPlan_4 : decode cX0_layPlan 4 = .ok (.isub, 1) := by decide +kernel
theorem dX0_layPlan_5 : decode cX0_layPlan 5 = .ok (.istore 4, 2) := by decide +kernel
theorem dX0_layPlan_7 : decode cX0_layPlan 7 = .ok (.iload 4, 2) := by decide +kernel
theorem dX0_layPlan_9 : decode cX0_layPlan 9 = .ok (.ifCond .lt 25, 3) := by decide +kernel
theorem dX0_layPlan_12 : decode cX0_layPlan 12 = .ok (.aload_n 0, 1) := by decide +kernel
theorem dX0_layPlan_13 : decode cX0_layPlan 13 = .ok (.getfield 92, 3) := by decide +kernel
theorem dX0_layPlan_16 : decode cX0_layPlan 16 = .ok (.iload 4, 2) := by decide +kernel
theorem dX0_layPlan_18 : decode cX0_layPlan 18 = .ok (.iload_n 3, 1) := by decide +kernel
theorem dX0_layPlan_19 : decode cX0_layPlan 19 = .ok (.bipush 9, 2) := by decide +kernel
theorem dX0_layPlan_21 : decode cX0_layPlan 21 = .ok (.irem, 1) := by decide +kernel
theorem dX0_layPlan_22 : decode cX0_layPlan 22 = .ok (.iastore, 1) := by decide +kernel
theorem dX0_layPlan_23 : decode cX0_layPlan 23 = .ok (.iload_n 3, 1) := by decide +kernel
theorem dX0_layPlan_24 : decode cX0_layPlan 24 = .ok (.bipush 9, 2) := by decide +kernel
theorem dX0_layPlan_26 : decode cX0_layPlan 26 = .ok (.idiv, 1) := by decide +kernel
theorem dX0_layPlan_27 : decode cX0_layPlan 27 = .ok (.istore_n 3, 1) := by decide +kernel
theorem dX0_layPlan_28 : decode cX0_layPlan 28 = .ok (.iinc 4 (-1), 3) := by decide +kernel
theorem dX0_layPlan_31 : decode cX0_layPlan 31 = .ok (.goto (-24), 3) := by decide +kernel
theorem dX0_layPlan_34 : decode cX0_layPlan 34 = .ok (.return_, 1) := by decide +kernel
theorem yd_X0_layPlan : yX0_layPlan.cls ≠ "java/lang/invoke/MethodHandle" ∧ yX0_layPlan.cls ≠ "java/lang/invoke/VarHandle" ∧ (parseMethodDescriptor yX0_layPlan.desc).map (fun d => d.parameters.length) = some 2 := by decide +kernel
theorem fl_X0_92_0 : FLk RX0 92 0 19 "[I" := ⟨RX0, TX0, 22, "PalaceOfRooms", rfl, by decide, (fun q => by have h1 := q.1; have h2 := q.2; omega), rfl, in_X0, Or.inl q275, Or.inl rfl⟩
abbrev rm_X0_layPlan : Room := { frames := 0, cells := 0, slots := 0, locals := 0 }
set_option maxHeartbeats 4000000 in
theorem w_X0_layPlan_7_b {p : Program} {l : Launch} {e : Env} {s : State} {m : MethodId} {args : Array Value} {below : List Frame} {meth : Method} {c : Code} {g : Gl} (X : FX g p m c s args meth cX0_layPlan 5 RX0 none "layPlan") {r : Hp} {rec7 : Hp × Int32 × Int32 → Option (Hp)} {x0 : Nat} {σ : Hp} {x3 : Int32} {x4 : Int32} (hr7 : ∀ (st : Hp × Int32 × Int32), rec7 st = some r → ∀ (H : Heap) (locs : List Loc) (ls : Array Slot), HV g st.1 H → FR g locs → lv_has ls 5 [(0, .ref x0), (3, .int st.2.1), (4, .int st.2.2)] → W p l e rm_X0_layPlan s m args below meth c H locs 0 0 (MQ below (Qv g r) args s 0 0 (frN g)) (F0 m 7 ls [])) {H : Heap} {locs : List Loc} {ls : Array Slot} (h : B_X0_layPlan_7 x0 rec7 σ x3 x4 = some r) (hV : HV g σ H) (hF : FR g locs) (hl : lv_has ls 5 [(0, .ref x0), (3, .int x3), (4, .int x4)]) : W p l e rm_X0_layPlan s m args below meth c H locs 0 0 (MQ below (Qv g r) args s 0 0 (frN g)) (F0 m 7 ls []) := by
  unfold B_X0_layPlan_7 at h
  refine lv_iload X.1 X.2.1 dX0_layPlan_7 (lv_at hl 2 rfl) ?_
  refine r_iflt (tgt := 34) X.1 X.2.1 dX0_layPlan_9 (by decide) h (fun h => ?_) (fun h => ?_)
  · exact r_vret X hV hF h dX0_layPlan_34
  · refine lv_aload_n X.1 X.2.1 dX0_layPlan_12 rfl (lv_at hl 0 rfl) ?_
    refine r_gR X hV fl_X0_92_0 (by decide) dX0_layPlan_13 h (fun v1 h => ?_)
    refine lv_iload X.1 X.2.1 dX0_layPlan_16 (lv_at hl 2 rfl) ?_
    refine lv_iload_n X.1 X.2.1 dX0_layPlan_18 rfl (lv_at hl 1 rfl) ?_
    refine lv_bipush (v := 9) X.1 X.2.1 dX0_layPlan_19 (by decide) ?_
    refine lv_irem X.1 X.2.1 dX0_layPlan_21 (by decide) ?_
    refine r_is X hV hF dX0_layPlan_22 h (fun s1 H locs hV hF h => ?_)
    refine lv_iload_n X.1 X.2.1 dX0_layPlan_23 rfl (lv_at hl 1 rfl) ?_
    refine lv_bipush (v := 9) X.1 X.2.1 dX0_layPlan_24 (by decide) ?_
    refine lv_idiv X.1 X.2.1 dX0_layPlan_26 (by decide) ?_
    refine lv_istore_n (lv' := [(3, .int (x3 / 9)), (0, .ref x0), (4, .int x4)]) X.1 X.2.1 dX0_layPlan_27 rfl hl (by decide) rfl (fun ls hl => ?_)
    refine lv_iinc (v := x4 + (-1)) (lv' := [(4, .int (x4 + (-1))), (3, .int (x3 / 9)), (0, .ref x0)]) X.1 X.2.1 dX0_layPlan_28 hl (k := 2) rfl rfl (by decide) rfl (fun ls hl => ?_)
    refine lv_goto (tgt := 7) X.1 X.2.1 dX0_layPlan_31 (by decide) ?_
    exact hr7 (s1, x3 / 9, x4 + (-1)) h _ _ _ hV hF (lv_sub hl [2, 1, 0] rfl)
set_option maxHeartbeats 4000000 in
theorem w_X0_layPlan_7 {p : Program} {l : Launch} {e : Env} {s : State} {m : MethodId} {args : Array Value} {below : List Frame} {meth : Method} {c : Code} {g : Gl} (X : FX g p m c s args meth cX0_layPlan 5 RX0 none "layPlan") {r : Hp} {x0 : Nat}  : ∀ (n : Nat) (st : Hp × Int32 × Int32), L_X0_layPlan_7 x0 n st = some r → ∀ (H : Heap) (locs : List Loc) (ls : Array Slot), HV g st.1 H → FR g locs → lv_has ls 5 [(0, .ref x0), (3, .int st.2.1), (4, .int st.2.2)] → W p l e rm_X0_layPlan s m args below meth c H locs 0 0 (MQ below (Qv g r) args s 0 0 (frN g)) (F0 m 7 ls []) := by
  intro n
  induction n with
  | zero =>
    intro st h
    rw [L_X0_layPlan_7_0] at h
    cases h
  | succ n ih =>
    intro st h H locs ls hV hF hl
    rw [L_X0_layPlan_7_s] at h
    exact w_X0_layPlan_7_b X  ih h hV hF hl
set_option maxHeartbeats 4000000 in
theorem c_X0_layPlan (l : Launch) {g : Gl} {σ : Hp} {x0 : Nat} {x1 : Int32} {x2 : Int32} {r : Hp} (h : F_X0_layPlan σ x0 x1 x2 = some r) : Met l yX0_layPlan (ws_ yX0_layPlan cX0_layPlan 5 none) rm_X0_layPlan (va_Pc [.ref x0, .int x1, .int x2] (WV g σ)) (Qv g r) 0 0 (frN g) := by
  refine ct_of (by decide) (Nat.le_of_ble_eq_true rfl) ?_
  intro p e s m below meth c ls X hV hl
  have hF : FR g [] := FR_nil
  unfold F_X0_layPlan at h
  have hl : lv_has ls 5 [(0, .ref x0), (1, .int x1), (2, .int x2)] := hl
  have X : FX g p m c s _ meth cX0_layPlan 5 RX0 none "layPlan" := X
  obtain ⟨-, h⟩ := gd_inv h
  refine lv_iload_n X.1 X.2.1 dX0_layPlan_0 rfl (lv_at hl 1 rfl) ?_
  refine lv_istore_n (lv' := [(3, .int x1), (0, .ref x0), (1, .int x1), (2, .int x2)]) X.1 X.2.1 dX0_layPlan_1 rfl hl (by decide) rfl (fun ls hl => ?_)
  refine lv_iload_n X.1 X.2.1 dX0_layPlan_2 rfl (lv_at hl 3 rfl) ?_
  refine lv_iconst (v := 1) X.1 X.2.1 dX0_layPlan_3 (by decide) ?_
  refine lv_isub X.1 X.2.1 dX0_layPlan_4 ?_
  refine lv_istore (lv' := [(4, .int (x2 - 1)), (3, .int x1), (0, .ref x0), (1, .int x1), (2, .int x2)]) X.1 X.2.1 dX0_layPlan_5 hl (by decide) rfl (fun ls hl => ?_)
  exact w_X0_layPlan_7 X  FU (σ, x1, x2 - 1) h _ _ _ hV hF (lv_sub hl [2, 1, 0] rfl)
/-! PalaceOfRooms$Kept.copy for classes {0: 3, 1: 3} -/
theorem dX2_copy_0 : decode cX2_copy 0 = .ok (.aload_n 0, 1) := by decide +kernel
theorem dX2_copy_1 : decode cX2_copy 1 = .ok (.aload_n 1, 1) := by decide +kernel
theorem dX2_copy_2 : decode cX2_copy 2 = .ok (.getfield 9, 3) := by decide +kernel
theorem dX2_copy_5 : decode cX2_copy 5 = .ok (.aload_n 1, 1) := by decide +kernel
theorem dX2_copy_6 : decode cX2_copy 6 = .ok (.getfield 15, 3) := by decide +kernel
theorem dX2_copy_9 : decode cX2_copy 9 = .ok (.invokevirtual 18, 3) := by decide +kernel
theorem dX2_copy_12 : decode cX2_copy 12 = .ok (.return_, 1) := by decide +kernel
theorem yd_X2_copy : yX2_copy.cls ≠ "java/lang/invoke/MethodHandle" ∧ yX2_copy.cls ≠ "java/lang/invoke/VarHandle" ∧ (parseMethodDescriptor yX2_copy.desc).map (fun d => d.parameters.length) = some 1 := by decide +kernel
abbrev rm_X2_copy_3 : Room := { frames := 1, cells := 0, slots := 0, locals := 22 }
set_option maxHeartbeats 4000000 in
theorem c_X2_copy_3 (l : Launch) {g : Gl} {σ : Hp} {x0 : Nat} {x1 : Nat} {r : Hp} (h : F_X2_copy_3 σ x0 x1 = some r) : Met l yX2_copy (ws_ yX2_copy cX2_copy 2 none) rm_X2_copy_3 (va_Pc [.ref x0, .ref x1] (WV g σ)) (Qv g r) 0 0 (frN g) := by
  refine ct_of (by decide) (Nat.le_of_ble_eq_true rfl) ?_
  intro p e s m below meth c ls X hV hl
  have hF : FR g [] := FR_nil
  unfold F_X2_copy_3 at h
  have hl : lv_has ls 2 [(0, .ref x0), (1, .ref x1)] := hl
  have X : FX g p m c s _ meth cX2_copy 2 RX2 none "copy" := X
  obtain ⟨-, h⟩ := gd_inv h
  refine lv_aload_n X.1 X.2.1 dX2_copy_0 rfl (lv_at hl 0 rfl) ?_
  refine lv_aload_n X.1 X.2.1 dX2_copy_1 rfl (lv_at hl 1 rfl) ?_
  refine r_gI X hV fl_X2_9_3 dX2_copy_2 h (fun v1 h => ?_)
  refine lv_aload_n X.1 X.2.1 dX2_copy_5 rfl (lv_at hl 1 rfl) ?_
  refine r_gI X hV fl_X2_15_3 dX2_copy_6 h (fun v2 h => ?_)
  obtain ⟨s1, hc, h⟩ := b1_inv h
  refine r_cv (va_runU (C := RX3) (x := ⟨"PalaceOfRooms$Kept", "lay", "(II)V"⟩) (As := [.int v1, .int v2]) (rest := []) (cfX X) (c_X2_lay_3 l hc) (va_cwU (owner := RX2) 2 X.2.2.2.2.1 (lw_app (lw_in _ [893, 1369, 1370, 397, 51] (by decide +kernel) (by decide +kernel)) (lw_meth q398)) rfl rfl rfl rfl yd_X2_lay ⟨Nat.le_of_ble_eq_true rfl, Nat.le_of_ble_eq_true rfl⟩) (preV X hV (F_X2_lay_3_g hc) rfl) rfl rfl hl.1 rfl (lv_room (Nat.le_of_ble_eq_true rfl)) dX2_copy_9 ⟨(Nat.le_of_ble_eq_true rfl), (Nat.le_of_ble_eq_true rfl)⟩) hF (fun H locs hV hF => ?_)
  exact r_vret X hV hF h dX2_copy_12
/-! PalaceOfRooms$Kept.copy for classes {0: 4, 1: 4} -/
abbrev rm_X2_copy_4 : Room := { frames := 1, cells := 0, slots := 0, locals := 22 }
set_option maxHeartbeats 4000000 in
theorem c_X2_copy_4 (l : Launch) {g : Gl} {σ : Hp} {x0 : Nat} {x1 : Nat} {r : Hp} (h : F_X2_copy_4 σ x0 x1 = some r) : Met l yX2_copy (ws_ yX2_copy cX2_copy 2 none) rm_X2_copy_4 (va_Pc [.ref x0, .ref x1] (WV g σ)) (Qv g r) 0 0 (frN g) := by
  refine ct_of (by decide) (Nat.le_of_ble_eq_true rfl) ?_
  intro p e s m below meth c ls X hV hl
  have hF : FR g [] := FR_nil
  unfold F_X2_copy_4 at h
  have hl : lv_has ls 2 [(0, .ref x0), (1, .ref x1)] := hl
  have X : FX g p m c s _ meth cX2_copy 2 RX2 none "copy" := X
  obtain ⟨-, h⟩ := gd_inv h
  refine lv_aload_n X.1 X.2.1 dX2_copy_0 rfl (lv_at hl 0 rfl) ?_
  refine lv_aload_n X.1 X.2.1 dX2_copy_1 rfl (lv_at hl 1 rfl) ?_
  refine r_gI X hV fl_X2_9_4 dX2_copy_2 h (fun v1 h => ?_)
  refine lv_aload_n X.1 X.2.1 dX2_copy_5 rfl (lv_at hl 1 rfl) ?_
  refine r_gI X hV fl_X2_15_4 dX2_copy_6 h (fun v2 h => ?_)
  obtain ⟨s1, hc, h⟩ := b1_inv h
  refine r_cv (va_runU (C := RX4) (x := ⟨"PalaceOfRooms$Kept", "lay", "(II)V"⟩) (As := [.int v1, .int v2]) (rest := []) (cfX X) (c_X2_lay_4 l hc) (va_cwU (owner := RX2) 2 X.2.2.2.2.1 (lw_app (lw_in _ [893, 1369, 1371, 397, 51] (by decide +kernel) (by decide +kernel)) (lw_meth q398)) rfl rfl rfl rfl yd_X2_lay ⟨Nat.le_of_ble_eq_true rfl, Nat.le_of_ble_eq_true rfl⟩) (preV X hV (F_X2_lay_4_g hc) rfl) rfl rfl hl.1 rfl (lv_room (Nat.le_of_ble_eq_true rfl)) dX2_copy_9 ⟨(Nat.le_of_ble_eq_true rfl), (Nat.le_of_ble_eq_true rfl)⟩) hF (fun H locs hV hF => ?_)
  exact r_vret X hV hF h dX2_copy_12
/-! PalaceOfRooms$Corner.copy -/
theorem dX3_copy_0 : decode cX3_copy 0 = .ok (.aload_n 0, 1) := by decide +kernel
theorem dX3_copy_1 : decode cX3_copy 1 = .ok (.aload_n 1, 1) := by decide +kernel
theorem dX3_copy_2 : decode cX3_copy 2 = .ok (.invokespecial 33, 3) := by decide +kernel
theorem dX3_copy_5 : decode cX3_copy 5 = .ok (.aload_n 0, 1) := by decide +kernel
theorem dX3_copy_6 : decode cX3_copy 6 = .ok (.getfield 12, 3) := by decide +kernel
theorem dX3_copy_9 : decode cX3_copy 9 = .ok (.aload_n 1, 1) := by decide +kernel
theorem dX3_copy_10 : decode cX3_copy 10 = .ok (.getfield 12, 3) := by decide +kernel
theorem dX3_copy_13 : decode cX3_copy 13 = .ok (.invokevirtual 37, 3) := by decide +kernel
theorem dX3_copy_16 : decode cX3_copy 16 = .ok (.return_, 1) := by decide +kernel
theorem yd_X3_copy : yX3_copy.cls ≠ "java/lang/invoke/MethodHandle" ∧ yX3_copy.cls ≠ "java/lang/invoke/VarHandle" ∧ (parseMethodDescriptor yX3_copy.desc).map (fun d => d.parameters.length) = some 1 := by decide +kernel
abbrev rm_X3_copy : Room := { frames := 2, cells := 0, slots := 0, locals := 43 }
set_option maxHeartbeats 4000000 in
theorem c_X3_copy (l : Launch) {g : Gl} {σ : Hp} {x0 : Nat} {x1 : Nat} {r : Hp} (h : F_X3_copy σ x0 x1 = some r) : Met l yX3_copy (ws_ yX3_copy cX3_copy 2 none) rm_X3_copy (va_Pc [.ref x0, .ref x1] (WV g σ)) (Qv g r) 0 0 (frN g) := by
  refine ct_of (by decide) (Nat.le_of_ble_eq_true rfl) ?_
  intro p e s m below meth c ls X hV hl
  have hF : FR g [] := FR_nil
  unfold F_X3_copy at h
  have hl : lv_has ls 2 [(0, .ref x0), (1, .ref x1)] := hl
  have X : FX g p m c s _ meth cX3_copy 2 RX3 none "copy" := X
  obtain ⟨-, h⟩ := gd_inv h
  refine lv_aload_n X.1 X.2.1 dX3_copy_0 rfl (lv_at hl 0 rfl) ?_
  refine lv_aload_n X.1 X.2.1 dX3_copy_1 rfl (lv_at hl 1 rfl) ?_
  obtain ⟨s1, hc, h⟩ := b1_inv h
  refine r_cv (va_runSU (C := RX3) (X.2.2.2.2.2.1.1 3 _ rfl).2 (As := [.ref x1]) (rest := []) (cfX X) (c_X2_copy_3 l hc) (va_cwSU 1 X.2.2.2.2.1 (lw_app (lw_in _ [890, 1368, 143, 891, 51] (by decide +kernel) (by decide +kernel)) (lw_meth q892)) rfl rfl rfl ⟨by decide +kernel, (yd_X2_copy).2.2⟩ ⟨Nat.le_of_ble_eq_true rfl, Nat.le_of_ble_eq_true rfl⟩) (preV X hV (F_X2_copy_3_g hc) rfl) rfl rfl hl.1 rfl (lv_room (Nat.le_of_ble_eq_true rfl)) dX3_copy_2 ⟨(Nat.le_of_ble_eq_true rfl), (Nat.le_of_ble_eq_true rfl)⟩) hF (fun H locs hV hF => ?_)
  refine lv_aload_n X.1 X.2.1 dX3_copy_5 rfl (lv_at hl 0 rfl) ?_
  refine r_gR X hV fl_X3_12_3 (by decide) dX3_copy_6 h (fun v2 h => ?_)
  refine lv_aload_n X.1 X.2.1 dX3_copy_9 rfl (lv_at hl 1 rfl) ?_
  refine r_gR X hV fl_X3_12_3 (by decide) dX3_copy_10 h (fun v3 h => ?_)
  obtain ⟨s2, hc, h⟩ := b1_inv h
  refine r_cv (va_runU (C := RX4) (x := ⟨"PalaceOfRooms$Ghost", "copy", "(LPalaceOfRooms$Kept;)V"⟩) (As := [.ref v3]) (rest := []) (cfX X) (c_X2_copy_4 l hc) (va_cwU (owner := RX2) 1 X.2.2.2.2.1 (lw_app (lw_in _ [894, 895, 897, 891, 51] (by decide +kernel) (by decide +kernel)) (lw_meth q892)) rfl rfl rfl rfl yd_X2_copy ⟨Nat.le_of_ble_eq_true rfl, Nat.le_of_ble_eq_true rfl⟩) (preV X hV (F_X2_copy_4_g hc) rfl) rfl rfl hl.1 rfl (lv_room (Nat.le_of_ble_eq_true rfl)) dX3_copy_13 ⟨(Nat.le_of_ble_eq_true rfl), (Nat.le_of_ble_eq_true rfl)⟩) hF (fun H locs hV hF => ?_)
  exact r_vret X hV hF h dX3_copy_16
/-! PalaceOfRooms$House.copy -/
theorem dX1_copy_0 : decode cX1_copy 0 = .ok (.iconst 0, 1) := by decide +kernel
theorem dX1_copy_1 : decode cX1_copy 1 = .ok (.istore_n 2, 1) := by decide +kernel
theorem dX1_copy_2 : decode cX1_copy 2 = .ok (.iload_n 2, 1) := by decide +kernel
theorem dX1_copy_3 : decode cX1_copy 3 = .ok (.bipush 48, 2) := by decide +kernel
theorem dX1_copy_5 : decode cX1_copy 5 = .ok (.if_icmp .ge 24, 3) := by decide +kernel
theorem dX1_copy_8 : decode cX1_copy 8 = .ok (.aload_n 0, 1) := by decide +kernel
theorem dX1_copy_9 : decode cX1_copy 9 = .ok (.getfield 17, 3) := by decide +kernel
theorem dX1_copy_12 : decode cX1_copy 12 = .ok (.iload_n 2, 1) := by decide +kernel
theorem dX1_copy_13 : decode cX1_copy 13 = .ok (.aaload, 1) := by decide +kernel
theorem dX1_copy_14 : decode cX1_copy 14 = .ok (.aload_n 1, 1) := by decide +kernel
theorem dX1_copy_15 : decode cX1_copy 15 = .ok (.getfield 17, 3) := by decide +kernel
theorem dX1_copy_18 : decode cX1_copy 18 = .ok (.iload_n 2, 1) := by decide +kernel
theorem dX1_copy_19 : decode cX1_copy 19 = .ok (.aaload, 1) := by decide +kernel
theorem dX1_copy_20 : decode cX1_copy 20 = .ok (.invokevirtual 22, 3) := by decide +kernel
theorem dX1_copy_23 : decode cX1_copy 23 = .ok (.iinc 2 1, 3) := by decide +kernel
theorem dX1_copy_26 : decode cX1_copy 26 = .ok (.goto (-24), 3) := by decide +kernel
theorem dX1_copy_29 : decode cX1_copy 29 = .ok (.return_, 1) := by decide +kernel
theorem yd_X1_copy : yX1_copy.cls ≠ "java/lang/invoke/MethodHandle" ∧ yX1_copy.cls ≠ "java/lang/invoke/VarHandle" ∧ (parseMethodDescriptor yX1_copy.desc).map (fun d => d.parameters.length) = some 1 := by decide +kernel
abbrev rm_X1_copy : Room := { frames := 3, cells := 0, slots := 0, locals := 64 }
set_option maxHeartbeats 4000000 in
theorem w_X1_copy_2_b {p : Program} {l : Launch} {e : Env} {s : State} {m : MethodId} {args : Array Value} {below : List Frame} {meth : Method} {c : Code} {g : Gl} (X : FX g p m c s args meth cX1_copy 3 RX1 none "copy") {r : Hp} {rec2 : Hp × Int32 → Option (Hp)} {x0 : Nat} {x1 : Nat} {σ : Hp} {x2 : Int32} (hr2 : ∀ (st : Hp × Int32), rec2 st = some r → ∀ (H : Heap) (locs : List Loc) (ls : Array Slot), HV g st.1 H → FR g locs → lv_has ls 3 [(0, .ref x0), (1, .ref x1), (2, .int st.2)] → W p l e rm_X1_copy s m args below meth c H locs 0 0 (MQ below (Qv g r) args s 0 0 (frN g)) (F0 m 2 ls [])) {H : Heap} {locs : List Loc} {ls : Array Slot} (h : B_X1_copy_2 x0 x1 rec2 σ x2 = some r) (hV : HV g σ H) (hF : FR g locs) (hl : lv_has ls 3 [(0, .ref x0), (1, .ref x1), (2, .int x2)]) : W p l e rm_X1_copy s m args below meth c H locs 0 0 (MQ below (Qv g r) args s 0 0 (frN g)) (F0 m 2 ls []) := by
  unfold B_X1_copy_2 at h
  refine lv_iload_n X.1 X.2.1 dX1_copy_2 rfl (lv_at hl 2 rfl) ?_
  refine lv_bipush (v := 48) X.1 X.2.1 dX1_copy_3 (by decide) ?_
  refine r_ge (tgt := 29) X.1 X.2.1 dX1_copy_5 (by decide) h (fun h => ?_) (fun h => ?_)
  · exact r_vret X hV hF h dX1_copy_29
  · refine lv_aload_n X.1 X.2.1 dX1_copy_8 rfl (lv_at hl 0 rfl) ?_
    refine r_gR X hV fl_X1_17_1 (by decide) dX1_copy_9 h (fun v1 h => ?_)
    refine lv_iload_n X.1 X.2.1 dX1_copy_12 rfl (lv_at hl 2 rfl) ?_
    refine r_aa X hV dX1_copy_13 (by decide) h (fun v2 h => ?_)
    refine lv_aload_n X.1 X.2.1 dX1_copy_14 rfl (lv_at hl 1 rfl) ?_
    refine r_gR X hV fl_X1_17_1 (by decide) dX1_copy_15 h (fun v3 h => ?_)
    refine lv_iload_n X.1 X.2.1 dX1_copy_18 rfl (lv_at hl 2 rfl) ?_
    refine r_aa X hV dX1_copy_19 (by decide) h (fun v4 h => ?_)
    obtain ⟨s1, hc, h⟩ := b1_inv h
    refine r_cv (va_runV (C := RX3) (As := [.ref v4]) (rest := []) (cfX X) (c_X3_copy l hc) (cwV 1 X.2.2.2.2.1 (lw_V q886 q887 q888 q52 q889) rfl rfl rfl ⟨rfl, yd_X3_copy⟩ ⟨Nat.le_of_ble_eq_true rfl, Nat.le_of_ble_eq_true rfl⟩) (preV X hV (F_X3_copy_g hc) rfl) rfl rfl hl.1 rfl (lv_room (Nat.le_of_ble_eq_true rfl)) dX1_copy_20 ⟨(Nat.le_of_ble_eq_true rfl), (Nat.le_of_ble_eq_true rfl)⟩) hF (fun H locs hV hF => ?_)
    refine lv_iinc (v := x2 + 1) (lv' := [(2, .int (x2 + 1)), (0, .ref x0), (1, .ref x1)]) X.1 X.2.1 dX1_copy_23 hl (k := 2) rfl rfl (by decide) rfl (fun ls hl => ?_)
    refine lv_goto (tgt := 2) X.1 X.2.1 dX1_copy_26 (by decide) ?_
    exact hr2 (s1, x2 + 1) h _ _ _ hV hF (lv_sub hl [1, 2, 0] rfl)
set_option maxHeartbeats 4000000 in
theorem w_X1_copy_2 {p : Program} {l : Launch} {e : Env} {s : State} {m : MethodId} {args : Array Value} {below : List Frame} {meth : Method} {c : Code} {g : Gl} (X : FX g p m c s args meth cX1_copy 3 RX1 none "copy") {r : Hp} {x0 : Nat} {x1 : Nat}  : ∀ (n : Nat) (st : Hp × Int32), L_X1_copy_2 x0 x1 n st = some r → ∀ (H : Heap) (locs : List Loc) (ls : Array Slot), HV g st.1 H → FR g locs → lv_has ls 3 [(0, .ref x0), (1, .ref x1), (2, .int st.2)] → W p l e rm_X1_copy s m args below meth c H locs 0 0 (MQ below (Qv g r) args s 0 0 (frN g)) (F0 m 2 ls []) := by
  intro n
  induction n with
  | zero =>
    intro st h
    rw [L_X1_copy_2_0] at h
    cases h
  | succ n ih =>
    intro st h H locs ls hV hF hl
    rw [L_X1_copy_2_s] at h
    exact w_X1_copy_2_b X  ih h hV hF hl
set_option maxHeartbeats 4000000 in
theorem c_X1_copy (l : Launch) {g : Gl} {σ : Hp} {x0 : Nat} {x1 : Nat} {r : Hp} (h : F_X1_copy σ x0 x1 = some r) : Met l yX1_copy (ws_ yX1_copy cX1_copy 3 none) rm_X1_copy (va_Pc [.ref x0, .ref x1] (WV g σ)) (Qv g r) 0 0 (frN g) := by
  refine ct_of (by decide) (Nat.le_of_ble_eq_true rfl) ?_
  intro p e s m below meth c ls X hV hl
  have hF : FR g [] := FR_nil
  unfold F_X1_copy at h
  have hl : lv_has ls 3 [(0, .ref x0), (1, .ref x1)] := hl
  have X : FX g p m c s _ meth cX1_copy 3 RX1 none "copy" := X
  obtain ⟨-, h⟩ := gd_inv h
  refine lv_iconst (v := 0) X.1 X.2.1 dX1_copy_0 (by decide) ?_
  refine lv_istore_n (lv' := [(2, .int 0), (0, .ref x0), (1, .ref x1)]) X.1 X.2.1 dX1_copy_1 rfl hl (by decide) rfl (fun ls hl => ?_)
  exact w_X1_copy_2 X  FU (σ, 0) h _ _ _ hV hF (lv_sub hl [1, 2, 0] rfl)
/-! PalaceOfRooms$House.strength -/
theorem dX1_strength_0 : decode cX1_strength 0 = .ok (.iconst 0, 1) := by decide +kernel
theorem dX1_strength_1 : decode cX1_strength 1 = .ok (.istore_n 1, 1) := by decide +kernel
theorem dX1_strength_2 : decode cX1_strength 2 = .ok (.aload_n 0, 1) := by decide +kernel
theorem dX1_strength_3 : decode cX1_strength 3 = .ok (.getfield 17, 3) := by decide +kernel
theorem dX1_strength_6 : decode cX1_strength 6 = .ok (.astore_n 2, 1) := by decide +kernel
theorem dX1_strength_7 : decode cX1_strength 7 = .ok (.aload_n 2, 1) := by decide +kernel
theorem dX1_strength_8 : decode cX1_strength 8 = .ok (.arraylength, 1) := by decide +kernel
theorem dX1_strength_9 : decode cX1_strength 9 = .ok (.istore_n 3, 1) := by decide +kernel
theorem dX1_strength_10 : decode cX1_strength 10 = .ok (.iconst 0, 1) := by decide +kernel
theorem dX1_strength_11 : decode cX1_strength 11 = .ok (.istore 4, 2) := by decide +kernel
theorem dX1_strength_13 : decode cX1_strength 13 = .ok (.iload 4, 2) := by decide +kernel
theorem dX1_strength_15 : decode cX1_strength 15 = .ok (.iload_n 3, 1) := by decide +kernel
theorem dX1_strength_16 : decode cX1_strength 16 = .ok (.if_icmp .ge 35, 3) := by decide +kernel
theorem dX1_strength_19 : decode cX1_strength 19 = .ok (.aload_n 2, 1) := by decide +kernel
theorem dX1_strength_20 : decode cX1_strength 20 = .ok (.iload 4, 2) := by decide +kernel
theorem dX1_strength_22 : decode cX1_strength 22 = .ok (.aaload, 1) := by decide +kernel
theorem dX1_strength_23 : decode cX1_strength 23 = .ok (.astore 5, 2) := by decide +kernel
theorem dX1_strength_25 : decode cX1_strength 25 = .ok (.iload_n 1, 1) := by decide +kernel
theorem dX1_strength_26 : decode cX1_strength 26 = .ok (.aload 5, 2) := by decide +kernel
theorem dX1_strength_28 : decode cX1_strength 28 = .ok (.invokevirtual 26, 3) := by decide +kernel
theorem dX1_strength_31 : decode cX1_strength 31 = .ok (.ifCond .eq 11, 3) := by decide +kernel
theorem dX1_strength_34 : decode cX1_strength 34 = .ok (.aload 5, 2) := by decide +kernel
theorem dX1_strength_36 : decode cX1_strength 36 = .ok (.getfield 42, 3) := by decide +kernel
theorem dX1_strength_39 : decode cX1_strength 39 = .ok (.goto 4, 3) := by decide +kernel
theorem dX1_strength_42 : decode cX1_strength 42 = .ok (.iconst 0, 1) := by decide +kernel
theorem dX1_strength_43 : decode cX1_strength 43 = .ok (.iadd, 1) := by decide +kernel
theorem dX1_strength_44 : decode cX1_strength 44 = .ok (.istore_n 1, 1) := by decide +kernel
theorem dX1_strength_45 : decode cX1_strength 45 = .ok (.iinc 4 1, 3) := by decide +kernel
theorem dX1_strength_48 : decode cX1_strength 48 = .ok (.goto (-35), 3) := by decide +kernel
theorem dX1_strength_51 : decode cX1_strength 51 = .ok (.iload_n 1, 1) := by decide +kernel
theorem dX1_strength_52 : decode cX1_strength 52 = .ok (.ireturn, 1) := by decide +kernel
theorem yd_X1_strength : yX1_strength.cls ≠ "java/lang/invoke/MethodHandle" ∧ yX1_strength.cls ≠ "java/lang/invoke/VarHandle" ∧ (parseMethodDescriptor yX1_strength.desc).map (fun d => d.parameters.length) = some 0 := by decide +kernel
abbrev rm_X1_strength : Room := { frames := 1, cells := 0, slots := 0, locals := 20 }
set_option maxHeartbeats 4000000 in
theorem w_X1_strength_13_b {p : Program} {l : Launch} {e : Env} {s : State} {m : MethodId} {args : Array Value} {below : List Frame} {meth : Method} {c : Code} {g : Gl} (X : FX g p m c s args meth cX1_strength 6 RX1 (some .int) "strength") {r : Int32 × Hp} {rec13 : Hp × Int32 × Int32 → Option (Int32 × Hp)} {x2 : Nat} {x3 : Int32} {σ : Hp} {x1 : Int32} {x4 : Int32} (hr13 : ∀ (st : Hp × Int32 × Int32), rec13 st = some r → ∀ (H : Heap) (locs : List Loc) (ls : Array Slot), HV g st.1 H → FR g locs → lv_has ls 6 [(1, .int st.2.1), (2, .ref x2), (3, .int x3), (4, .int st.2.2)] → W p l e rm_X1_strength s m args below meth c H locs 0 0 (MQ below (Qi g r) args s 0 0 (frN g)) (F0 m 13 ls [])) {H : Heap} {locs : List Loc} {ls : Array Slot} (h : B_X1_strength_13 x2 x3 rec13 σ x1 x4 = some r) (hV : HV g σ H) (hF : FR g locs) (hl : lv_has ls 6 [(1, .int x1), (2, .ref x2), (3, .int x3), (4, .int x4)]) : W p l e rm_X1_strength s m args below meth c H locs 0 0 (MQ below (Qi g r) args s 0 0 (frN g)) (F0 m 13 ls []) := by
  unfold B_X1_strength_13 at h
  refine lv_iload X.1 X.2.1 dX1_strength_13 (lv_at hl 3 rfl) ?_
  refine lv_iload_n X.1 X.2.1 dX1_strength_15 rfl (lv_at hl 2 rfl) ?_
  refine r_ge (tgt := 51) X.1 X.2.1 dX1_strength_16 (by decide) h (fun h => ?_) (fun h => ?_)
  · refine lv_iload_n X.1 X.2.1 dX1_strength_51 rfl (lv_at hl 0 rfl) ?_
    exact r_iret X hV hF h dX1_strength_52
  · refine lv_aload_n X.1 X.2.1 dX1_strength_19 rfl (lv_at hl 1 rfl) ?_
    refine lv_iload X.1 X.2.1 dX1_strength_20 (lv_at hl 3 rfl) ?_
    refine r_aa X hV dX1_strength_22 (by decide) h (fun v1 h => ?_)
    refine lv_astore (lv' := [(5, .ref v1), (1, .int x1), (2, .ref x2), (3, .int x3), (4, .int x4)]) X.1 X.2.1 dX1_strength_23 hl (by decide) rfl (fun ls hl => ?_)
    refine lv_iload_n X.1 X.2.1 dX1_strength_25 rfl (lv_at hl 1 rfl) ?_
    refine lv_aload X.1 X.2.1 dX1_strength_26 (lv_at hl 0 rfl) ?_
    obtain ⟨v2, s1, hc, h⟩ := b2_inv h
    refine r_ci (va_runU (C := RX3) (x := ⟨"PalaceOfRooms$Corner", "isThere", "()Z"⟩) (As := []) (rest := [.int x1]) (cfX X) (c_X2_isThere_3 l hc) (va_cwU (owner := RX2) 0 X.2.2.2.2.1 (lw_app (lw_in _ [436, 407, 409, 410, 51] (by decide +kernel) (by decide +kernel)) (lw_meth q411)) rfl rfl rfl rfl yd_X2_isThere ⟨Nat.le_of_ble_eq_true rfl, Nat.le_of_ble_eq_true rfl⟩) (preV X hV (F_X2_isThere_3_g hc) rfl) rfl rfl hl.1 rfl (lv_room (Nat.le_of_ble_eq_true rfl)) dX1_strength_28 ⟨(Nat.le_of_ble_eq_true rfl), (Nat.le_of_ble_eq_true rfl)⟩) hF (fun H locs hV hF => ?_)
    refine r_ifeq (tgt := 42) X.1 X.2.1 dX1_strength_31 (by decide) h (fun h => ?_) (fun h => ?_)
    · refine lv_iconst (v := 0) X.1 X.2.1 dX1_strength_42 (by decide) ?_
      refine lv_iadd X.1 X.2.1 dX1_strength_43 ?_
      refine lv_istore_n (lv' := [(1, .int (x1 + 0)), (5, .ref v1), (2, .ref x2), (3, .int x3), (4, .int x4)]) X.1 X.2.1 dX1_strength_44 rfl hl (by decide) rfl (fun ls hl => ?_)
      refine lv_iinc (v := x4 + 1) (lv' := [(4, .int (x4 + 1)), (1, .int (x1 + 0)), (5, .ref v1), (2, .ref x2), (3, .int x3)]) X.1 X.2.1 dX1_strength_45 hl (k := 4) rfl rfl (by decide) rfl (fun ls hl => ?_)
      refine lv_goto (tgt := 13) X.1 X.2.1 dX1_strength_48 (by decide) ?_
      exact hr13 (s1, x1 + 0, x4 + 1) h _ _ _ hV hF (lv_sub hl [1, 3, 4, 0] rfl)
    · refine lv_aload X.1 X.2.1 dX1_strength_34 (lv_at hl 0 rfl) ?_
      refine r_gI X hV fl_X1_42_3 dX1_strength_36 h (fun v3 h => ?_)
      refine lv_goto (tgt := 43) X.1 X.2.1 dX1_strength_39 (by decide) ?_
      refine lv_iadd X.1 X.2.1 dX1_strength_43 ?_
      refine lv_istore_n (lv' := [(1, .int (x1 + v3)), (5, .ref v1), (2, .ref x2), (3, .int x3), (4, .int x4)]) X.1 X.2.1 dX1_strength_44 rfl hl (by decide) rfl (fun ls hl => ?_)
      refine lv_iinc (v := x4 + 1) (lv' := [(4, .int (x4 + 1)), (1, .int (x1 + v3)), (5, .ref v1), (2, .ref x2), (3, .int x3)]) X.1 X.2.1 dX1_strength_45 hl (k := 4) rfl rfl (by decide) rfl (fun ls hl => ?_)
      refine lv_goto (tgt := 13) X.1 X.2.1 dX1_strength_48 (by decide) ?_
      exact hr13 (s1, x1 + v3, x4 + 1) h _ _ _ hV hF (lv_sub hl [1, 3, 4, 0] rfl)
set_option maxHeartbeats 4000000 in
theorem w_X1_strength_13 {p : Program} {l : Launch} {e : Env} {s : State} {m : MethodId} {args : Array Value} {below : List Frame} {meth : Method} {c : Code} {g : Gl} (X : FX g p m c s args meth cX1_strength 6 RX1 (some .int) "strength") {r : Int32 × Hp} {x2 : Nat} {x3 : Int32}  : ∀ (n : Nat) (st : Hp × Int32 × Int32), L_X1_strength_13 x2 x3 n st = some r → ∀ (H : Heap) (locs : List Loc) (ls : Array Slot), HV g st.1 H → FR g locs → lv_has ls 6 [(1, .int st.2.1), (2, .ref x2), (3, .int x3), (4, .int st.2.2)] → W p l e rm_X1_strength s m args below meth c H locs 0 0 (MQ below (Qi g r) args s 0 0 (frN g)) (F0 m 13 ls []) := by
  intro n
  induction n with
  | zero =>
    intro st h
    rw [L_X1_strength_13_0] at h
    cases h
  | succ n ih =>
    intro st h H locs ls hV hF hl
    rw [L_X1_strength_13_s] at h
    exact w_X1_strength_13_b X  ih h hV hF hl
set_option maxHeartbeats 4000000 in
theorem c_X1_strength (l : Launch) {g : Gl} {σ : Hp} {x0 : Nat} {r : Int32 × Hp} (h : F_X1_strength σ x0 = some r) : Met l yX1_strength (ws_ yX1_strength cX1_strength 6 (some .int)) rm_X1_strength (va_Pc [.ref x0] (WV g σ)) (Qi g r) 0 0 (frN g) := by
  refine ct_of (by decide) (Nat.le_of_ble_eq_true rfl) ?_
  intro p e s m below meth c ls X hV hl
  have hF : FR g [] := FR_nil
  unfold F_X1_strength at h
  have hl : lv_has ls 6 [(0, .ref x0)] := hl
  have X : FX g p m c s _ meth cX1_strength 6 RX1 (some .int) "strength" := X
  obtain ⟨-, h⟩ := gd_inv h
  refine lv_iconst (v := 0) X.1 X.2.1 dX1_strength_0 (by decide) ?_
  refine lv_istore_n (lv' := [(1, .int 0), (0, .ref x0)]) X.1 X.2.1 dX1_strength_1 rfl hl (by decide) rfl (fun ls hl => ?_)
  refine lv_aload_n X.1 X.2.1 dX1_strength_2 rfl (lv_at hl 1 rfl) ?_
  refine r_gR X hV fl_X1_17_1 (by decide) dX1_strength_3 h (fun v1 h => ?_)
  refine lv_astore_n (lv' := [(2, .ref v1), (1, .int 0), (0, .ref x0)]) X.1 X.2.1 dX1_strength_6 rfl hl (by decide) rfl (fun ls hl => ?_)
  refine lv_aload_n X.1 X.2.1 dX1_strength_7 rfl (lv_at hl 0 rfl) ?_
  refine r_len X hV dX1_strength_8 (by decide) h (fun v2 h => ?_)
  refine lv_istore_n (lv' := [(3, .int v2), (2, .ref v1), (1, .int 0), (0, .ref x0)]) X.1 X.2.1 dX1_strength_9 rfl hl (by decide) rfl (fun ls hl => ?_)
  refine lv_iconst (v := 0) X.1 X.2.1 dX1_strength_10 (by decide) ?_
  refine lv_istore (lv' := [(4, .int 0), (3, .int v2), (2, .ref v1), (1, .int 0), (0, .ref x0)]) X.1 X.2.1 dX1_strength_11 hl (by decide) rfl (fun ls hl => ?_)
  exact w_X1_strength_13 X  FU (σ, 0, 0) h _ _ _ hV hF (lv_sub hl [3, 2, 1, 0] rfl)
/-! PalaceOfRooms.strengthBehind -/
theorem dX0_strengthBehind_0 : decode cX0_strengthBehind 0 = .ok (.aload_n 0, 1) := by decide +kernel
theorem dX0_strengthBehind_1 : decode cX0_strengthBehind 1 = .ok (.getfield 47, 3) := by decide +kernel
theorem dX0_strengthBehind_4 : decode cX0_strengthBehind 4 = .ok (.aload_n 0, 1) := by decide +kernel
theorem dX0_strengthBehind_5 : decode cX0_strengthBehind 5 = .ok (.getfield 43, 3) := by decide +kernel
theorem dX0_strengthBehind_8 : decode cX0_strengthBehind 8 = .ok (.invokevirtual 277, 3) := by decide +kernel
theorem dX0_strengthBehind_11 : decode cX0_strengthBehind 11 = .ok (.iconst 0, 1) := by decide +kernel
theorem dX0_strengthBehind_12 : decode cX0_strengthBehind 12 = .ok (.istore_n 3, 1) := by decide +kernel
theorem dX0_strengthBehind_13 : decode cX0_strengthBehind 13 = .ok (.iload_n 3, 1) := by decide +kernel
theorem dX0_strengthBehind_14 : decode cX0_strengthBehind 14 = .ok (.iload_n 1, 1) := by decide +kernel
theorem dX0_strengthBehind_15 : decode cX0_strengthBehind 15 = .ok (.if_icmp .ge 72, 3) := by decide +kernel
theorem dX0_strengthBehind_18 : decode cX0_strengthBehind 18 = .ok (.aload_n 0, 1) := by decide +kernel
theorem dX0_strengthBehind_19 : decode cX0_strengthBehind 19 = .ok (.getfield 92, 3) := by decide +kernel
theorem dX0_strengthBehind_22 : decode cX0_strengthBehind 22 = .ok (.iload_n 3, 1) := by decide +kernel
theorem dX0_strengthBehind_23 : decode cX0_strengthBehind 23 = .ok (.iaload, 1) := by decide +kernel
theorem dX0_strengthBehind_24 : decode cX0_strengthBehind 24 = .ok (.bipush 8, 2) := by decide +kernel
theorem dX0_strengthBehind_26 : decode cX0_strengthBehind 26 = .ok (.if_icmp .eq 48, 3) := by decide +kernel
theorem dX0_strengthBehind_29 : decode cX0_strengthBehind 29 = .ok (.aload_n 0, 1) := by decide +kernel
theorem dX0_strengthBehind_30 : decode cX0_strengthBehind 30 = .ok (.getfield 95, 3) := by decide +kernel
theorem dX0_strengthBehind_33 : decode cX0_strengthBehind 33 = .ok (.aload_n 0, 1) := by decide +kernel
theorem dX0_strengthBehind_34 : decode cX0_strengthBehind 34 = .ok (.getfield 92, 3) := by decide +kernel
theorem dX0_strengthBehind_37 : decode cX0_strengthBehind 37 = .ok (.iload_n 3, 1) := by decide +kernel
theorem dX0_strengthBehind_38 : decode cX0_strengthBehind 38 = .ok (.iaload, 1) := by decide +kernel
theorem dX0_strengthBehind_39 : decode cX0_strengthBehind 39 = .ok (.iaload, 1) := by decide +kernel
theorem dX0_strengthBehind_40 : decode cX0_strengthBehind 40 = .ok (.istore 4, 2) := by decide +kernel
theorem dX0_strengthBehind_42 : decode cX0_strengthBehind 42 = .ok (.iload 4, 2) := by decide +kernel
theorem dX0_strengthBehind_44 : decode cX0_strengthBehind 44 = .ok (.iconst (-1), 1) := by decide +kernel
theorem dX0_strengthBehind_45 : decode cX0_strengthBehind 45 = .ok (.if_icmp .eq 13, 3) := by decide +kernel
theorem dX0_strengthBehind_48 : decode cX0_strengthBehind 48 = .ok (.iload 4, 2) := by decide +kernel
theorem dX0_strengthBehind_50 : decode cX0_strengthBehind 50 = .ok (.iload_n 2, 1) := by decide +kernel
theorem dX0_strengthBehind_51 : decode cX0_strengthBehind 51 = .ok (.iload_n 3, 1) := by decide +kernel
theorem dX0_strengthBehind_52 : decode cX0_strengthBehind 52 = .ok (.invokestatic 274, 3) := by decide +kernel
theorem dX0_strengthBehind_55 : decode cX0_strengthBehind 55 = .ok (.if_icmp .le 5, 3) := by decide +kernel
theorem dX0_strengthBehind_58 : decode cX0_strengthBehind 58 = .ok (.iconst (-1), 1) := by decide +kernel
theorem dX0_strengthBehind_59 : decode cX0_strengthBehind 59 = .ok (.ireturn, 1) := by decide +kernel
theorem dX0_strengthBehind_60 : decode cX0_strengthBehind 60 = .ok (.aload_n 0, 1) := by decide +kernel
theorem dX0_strengthBehind_61 : decode cX0_strengthBehind 61 = .ok (.getfield 47, 3) := by decide +kernel
theorem dX0_strengthBehind_64 : decode cX0_strengthBehind 64 = .ok (.aload_n 0, 1) := by decide +kernel
theorem dX0_strengthBehind_65 : decode cX0_strengthBehind 65 = .ok (.getfield 92, 3) := by decide +kernel
theorem dX0_strengthBehind_68 : decode cX0_strengthBehind 68 = .ok (.iload_n 3, 1) := by decide +kernel
theorem dX0_strengthBehind_69 : decode cX0_strengthBehind 69 = .ok (.iaload, 1) := by decide +kernel
theorem dX0_strengthBehind_70 : decode cX0_strengthBehind 70 = .ok (.invokevirtual 188, 3) := by decide +kernel
theorem dX0_strengthBehind_73 : decode cX0_strengthBehind 73 = .ok (.pop, 1) := by decide +kernel
theorem dX0_strengthBehind_74 : decode cX0_strengthBehind 74 = .ok (.aload_n 0, 1) := by decide +kernel
theorem dX0_strengthBehind_75 : decode cX0_strengthBehind 75 = .ok (.getfield 47, 3) := by decide +kernel
theorem dX0_strengthBehind_78 : decode cX0_strengthBehind 78 = .ok (.invokevirtual 185, 3) := by decide +kernel
theorem dX0_strengthBehind_81 : decode cX0_strengthBehind 81 = .ok (.iinc 3 1, 3) := by decide +kernel
theorem dX0_strengthBehind_84 : decode cX0_strengthBehind 84 = .ok (.goto (-71), 3) := by decide +kernel
theorem dX0_strengthBehind_87 : decode cX0_strengthBehind 87 = .ok (.aload_n 0, 1) := by decide +kernel
theorem dX0_strengthBehind_88 : decode cX0_strengthBehind 88 = .ok (.getfield 47, 3) := by decide +kernel
theorem dX0_strengthBehind_91 : decode cX0_strengthBehind 91 = .ok (.invokevirtual 281, 3) := by decide +kernel
theorem dX0_strengthBehind_94 : decode cX0_strengthBehind 94 = .ok (.ireturn, 1) := by decide +kernel
theorem yd_X0_strengthBehind : yX0_strengthBehind.cls ≠ "java/lang/invoke/MethodHandle" ∧ yX0_strengthBehind.cls ≠ "java/lang/invoke/VarHandle" ∧ (parseMethodDescriptor yX0_strengthBehind.desc).map (fun d => d.parameters.length) = some 2 := by decide +kernel
theorem fl_X0_47_0 : FLk RX0 47 0 8 "LPalaceOfRooms$House;" := ⟨RX0, TX0, 22, "PalaceOfRooms", rfl, by decide, (fun q => by have h1 := q.1; have h2 := q.2; omega), rfl, in_X0, Or.inl q259, Or.inl rfl⟩
abbrev rm_X0_strengthBehind : Room := { frames := 5, cells := 0, slots := 0, locals := 109 }
set_option maxHeartbeats 4000000 in
theorem w_X0_strengthBehind_13_b {p : Program} {l : Launch} {e : Env} {s : State} {m : MethodId} {args : Array Value} {below : List Frame} {meth : Method} {c : Code} {g : Gl} (X : FX g p m c s args meth cX0_strengthBehind 5 RX0 (some .int) "strengthBehind") {r : Int32 × Hp} {rec13 : Hp × Int32 → Option (Int32 × Hp)} {x0 : Nat} {x1 : Int32} {x2 : Int32} {σ : Hp} {x3 : Int32} (hr13 : ∀ (st : Hp × Int32), rec13 st = some r → ∀ (H : Heap) (locs : List Loc) (ls : Array Slot), HV g st.1 H → FR g locs → lv_has ls 5 [(0, .ref x0), (1, .int x1), (2, .int x2), (3, .int st.2)] → W p l e rm_X0_strengthBehind s m args below meth c H locs 0 0 (MQ below (Qi g r) args s 0 0 (frN g)) (F0 m 13 ls [])) {H : Heap} {locs : List Loc} {ls : Array Slot} (h : B_X0_strengthBehind_13 x0 x1 x2 rec13 σ x3 = some r) (hV : HV g σ H) (hF : FR g locs) (hl : lv_has ls 5 [(0, .ref x0), (1, .int x1), (2, .int x2), (3, .int x3)]) : W p l e rm_X0_strengthBehind s m args below meth c H locs 0 0 (MQ below (Qi g r) args s 0 0 (frN g)) (F0 m 13 ls []) := by
  unfold B_X0_strengthBehind_13 at h
  refine lv_iload_n X.1 X.2.1 dX0_strengthBehind_13 rfl (lv_at hl 3 rfl) ?_
  refine lv_iload_n X.1 X.2.1 dX0_strengthBehind_14 rfl (lv_at hl 1 rfl) ?_
  refine r_ge (tgt := 87) X.1 X.2.1 dX0_strengthBehind_15 (by decide) h (fun h => ?_) (fun h => ?_)
  · refine lv_aload_n X.1 X.2.1 dX0_strengthBehind_87 rfl (lv_at hl 0 rfl) ?_
    refine r_gR X hV fl_X0_47_0 (by decide) dX0_strengthBehind_88 h (fun v1 h => ?_)
    obtain ⟨v2, s1, hc, h⟩ := b2_inv h
    refine r_ci (va_runV (C := RX1) (As := []) (rest := []) (cfX X) (c_X1_strength l hc) (cwV 0 X.2.2.2.2.1 (lw_V q898 q899 q900 q50 q901) rfl rfl rfl ⟨rfl, yd_X1_strength⟩ ⟨Nat.le_of_ble_eq_true rfl, Nat.le_of_ble_eq_true rfl⟩) (preV X hV (F_X1_strength_g hc) rfl) rfl rfl hl.1 rfl (lv_room (Nat.le_of_ble_eq_true rfl)) dX0_strengthBehind_91 ⟨(Nat.le_of_ble_eq_true rfl), (Nat.le_of_ble_eq_true rfl)⟩) hF (fun H locs hV hF => ?_)
    exact r_iret X hV hF h dX0_strengthBehind_94
  · refine lv_aload_n X.1 X.2.1 dX0_strengthBehind_18 rfl (lv_at hl 0 rfl) ?_
    refine r_gR X hV fl_X0_92_0 (by decide) dX0_strengthBehind_19 h (fun v3 h => ?_)
    refine lv_iload_n X.1 X.2.1 dX0_strengthBehind_22 rfl (lv_at hl 3 rfl) ?_
    refine r_ia X hV dX0_strengthBehind_23 h (fun v4 h => ?_)
    refine lv_bipush (v := 8) X.1 X.2.1 dX0_strengthBehind_24 (by decide) ?_
    refine r_eq (tgt := 74) X.1 X.2.1 dX0_strengthBehind_26 (by decide) h (fun h => ?_) (fun h => ?_)
    · refine lv_aload_n X.1 X.2.1 dX0_strengthBehind_74 rfl (lv_at hl 0 rfl) ?_
      refine r_gR X hV fl_X0_47_0 (by decide) dX0_strengthBehind_75 h (fun v5 h => ?_)
      obtain ⟨s2, hc, h⟩ := b1_inv h
      refine r_cv (va_runV (C := RX1) (As := []) (rest := []) (cfX X) (c_X1_goBy l hc) (cwV 0 X.2.2.2.2.1 (lw_V q432 q433 q434 q50 q435) rfl rfl rfl ⟨rfl, yd_X1_goBy⟩ ⟨Nat.le_of_ble_eq_true rfl, Nat.le_of_ble_eq_true rfl⟩) (preV X hV (F_X1_goBy_g hc) rfl) rfl rfl hl.1 rfl (lv_room (Nat.le_of_ble_eq_true rfl)) dX0_strengthBehind_78 ⟨(Nat.le_of_ble_eq_true rfl), (Nat.le_of_ble_eq_true rfl)⟩) hF (fun H locs hV hF => ?_)
      refine lv_iinc (v := x3 + 1) (lv' := [(3, .int (x3 + 1)), (0, .ref x0), (1, .int x1), (2, .int x2)]) X.1 X.2.1 dX0_strengthBehind_81 hl (k := 3) rfl rfl (by decide) rfl (fun ls hl => ?_)
      refine lv_goto (tgt := 13) X.1 X.2.1 dX0_strengthBehind_84 (by decide) ?_
      exact hr13 (s2, x3 + 1) h _ _ _ hV hF (lv_sub hl [1, 2, 3, 0] rfl)
    · refine lv_aload_n X.1 X.2.1 dX0_strengthBehind_29 rfl (lv_at hl 0 rfl) ?_
      refine r_gR X hV fl_X0_95_0 (by decide) dX0_strengthBehind_30 h (fun v7 h => ?_)
      refine lv_aload_n X.1 X.2.1 dX0_strengthBehind_33 rfl (lv_at hl 0 rfl) ?_
      refine r_gR X hV fl_X0_92_0 (by decide) dX0_strengthBehind_34 h (fun v8 h => ?_)
      refine lv_iload_n X.1 X.2.1 dX0_strengthBehind_37 rfl (lv_at hl 3 rfl) ?_
      refine r_ia X hV dX0_strengthBehind_38 h (fun v9 h => ?_)
      refine r_ia X hV dX0_strengthBehind_39 h (fun v10 h => ?_)
      refine lv_istore (lv' := [(4, .int v10), (0, .ref x0), (1, .int x1), (2, .int x2), (3, .int x3)]) X.1 X.2.1 dX0_strengthBehind_40 hl (by decide) rfl (fun ls hl => ?_)
      refine lv_iload X.1 X.2.1 dX0_strengthBehind_42 (lv_at hl 0 rfl) ?_
      refine lv_iconst (v := (-1)) X.1 X.2.1 dX0_strengthBehind_44 (by decide) ?_
      refine r_eq (tgt := 58) X.1 X.2.1 dX0_strengthBehind_45 (by decide) h (fun h => ?_) (fun h => ?_)
      · refine lv_iconst (v := (-1)) X.1 X.2.1 dX0_strengthBehind_58 (by decide) ?_
        exact r_iret X hV hF h dX0_strengthBehind_59
      · refine lv_iload X.1 X.2.1 dX0_strengthBehind_48 (lv_at hl 0 rfl) ?_
        refine lv_iload_n X.1 X.2.1 dX0_strengthBehind_50 rfl (lv_at hl 3 rfl) ?_
        refine lv_iload_n X.1 X.2.1 dX0_strengthBehind_51 rfl (lv_at hl 4 rfl) ?_
        obtain ⟨v11, s3, hc, h⟩ := b2_inv h
        refine r_ci (va_runS (As := [.int x2, .int x3]) (rest := [.int v10]) (cfX X) (c_X0_minutesOf l hc) (va_cwS 2 X.2.2.2.2.1 (lw_S q866 q867 q49 q868) rfl rfl rfl yd_X0_minutesOf ⟨Nat.le_of_ble_eq_true rfl, Nat.le_of_ble_eq_true rfl⟩) (preS X hV) rfl rfl hl.1 rfl (lv_room (Nat.le_of_ble_eq_true rfl)) dX0_strengthBehind_52 ⟨(Nat.le_of_ble_eq_true rfl), (Nat.le_of_ble_eq_true rfl)⟩) hF (fun H locs hV hF => ?_)
        refine r_le (tgt := 60) X.1 X.2.1 dX0_strengthBehind_55 (by decide) h (fun h => ?_) (fun h => ?_)
        · refine lv_aload_n X.1 X.2.1 dX0_strengthBehind_60 rfl (lv_at hl 1 rfl) ?_
          refine r_gR X hV fl_X0_47_0 (by decide) dX0_strengthBehind_61 h (fun v12 h => ?_)
          refine lv_aload_n X.1 X.2.1 dX0_strengthBehind_64 rfl (lv_at hl 1 rfl) ?_
          refine r_gR X hV fl_X0_92_0 (by decide) dX0_strengthBehind_65 h (fun v13 h => ?_)
          refine lv_iload_n X.1 X.2.1 dX0_strengthBehind_68 rfl (lv_at hl 4 rfl) ?_
          refine r_ia X hV dX0_strengthBehind_69 h (fun v14 h => ?_)
          obtain ⟨v15, s4, hc, h⟩ := b2_inv h
          refine r_ci (va_runV (C := RX1) (As := [.int v14]) (rest := []) (cfX X) (c_X1_walk l hc) (cwV 1 X.2.2.2.2.1 (lw_V q465 q466 q467 q50 q468) rfl rfl rfl ⟨rfl, yd_X1_walk⟩ ⟨Nat.le_of_ble_eq_true rfl, Nat.le_of_ble_eq_true rfl⟩) (preV X hV (F_X1_walk_g hc) rfl) rfl rfl hl.1 rfl (lv_room (Nat.le_of_ble_eq_true rfl)) dX0_strengthBehind_70 ⟨(Nat.le_of_ble_eq_true rfl), (Nat.le_of_ble_eq_true rfl)⟩) hF (fun H locs hV hF => ?_)
          refine lv_pop X.1 X.2.1 dX0_strengthBehind_73 rfl ?_
          refine lv_aload_n X.1 X.2.1 dX0_strengthBehind_74 rfl (lv_at hl 1 rfl) ?_
          refine r_gR X hV fl_X0_47_0 (by decide) dX0_strengthBehind_75 h (fun v16 h => ?_)
          obtain ⟨s5, hc, h⟩ := b1_inv h
          refine r_cv (va_runV (C := RX1) (As := []) (rest := []) (cfX X) (c_X1_goBy l hc) (cwV 0 X.2.2.2.2.1 (lw_V q432 q433 q434 q50 q435) rfl rfl rfl ⟨rfl, yd_X1_goBy⟩ ⟨Nat.le_of_ble_eq_true rfl, Nat.le_of_ble_eq_true rfl⟩) (preV X hV (F_X1_goBy_g hc) rfl) rfl rfl hl.1 rfl (lv_room (Nat.le_of_ble_eq_true rfl)) dX0_strengthBehind_78 ⟨(Nat.le_of_ble_eq_true rfl), (Nat.le_of_ble_eq_true rfl)⟩) hF (fun H locs hV hF => ?_)
          refine lv_iinc (v := x3 + 1) (lv' := [(3, .int (x3 + 1)), (4, .int v10), (0, .ref x0), (1, .int x1), (2, .int x2)]) X.1 X.2.1 dX0_strengthBehind_81 hl (k := 4) rfl rfl (by decide) rfl (fun ls hl => ?_)
          refine lv_goto (tgt := 13) X.1 X.2.1 dX0_strengthBehind_84 (by decide) ?_
          exact hr13 (s5, x3 + 1) h _ _ _ hV hF (lv_sub hl [2, 3, 4, 0] rfl)
        · refine lv_iconst (v := (-1)) X.1 X.2.1 dX0_strengthBehind_58 (by decide) ?_
          exact r_iret X hV hF h dX0_strengthBehind_59
set_option maxHeartbeats 4000000 in
theorem w_X0_strengthBehind_13 {p : Program} {l : Launch} {e : Env} {s : State} {m : MethodId} {args : Array Value} {below : List Frame} {meth : Method} {c : Code} {g : Gl} (X : FX g p m c s args meth cX0_strengthBehind 5 RX0 (some .int) "strengthBehind") {r : Int32 × Hp} {x0 : Nat} {x1 : Int32} {x2 : Int32}  : ∀ (n : Nat) (st : Hp × Int32), L_X0_strengthBehind_13 x0 x1 x2 n st = some r → ∀ (H : Heap) (locs : List Loc) (ls : Array Slot), HV g st.1 H → FR g locs → lv_has ls 5 [(0, .ref x0), (1, .int x1), (2, .int x2), (3, .int st.2)] → W p l e rm_X0_strengthBehind s m args below meth c H locs 0 0 (MQ below (Qi g r) args s 0 0 (frN g)) (F0 m 13 ls []) := by
  intro n
  induction n with
  | zero =>
    intro st h
    rw [L_X0_strengthBehind_13_0] at h
    cases h
  | succ n ih =>
    intro st h H locs ls hV hF hl
    rw [L_X0_strengthBehind_13_s] at h
    exact w_X0_strengthBehind_13_b X  ih h hV hF hl
set_option maxHeartbeats 4000000 in
theorem c_X0_strengthBehind (l : Launch) {g : Gl} {σ : Hp} {x0 : Nat} {x1 : Int32} {x2 : Int32} {r : Int32 × Hp} (h : F_X0_strengthBehind σ x0 x1 x2 = some r) : Met l yX0_strengthBehind (ws_ yX0_strengthBehind cX0_strengthBehind 5 (some .int)) rm_X0_strengthBehind (va_Pc [.ref x0, .int x1, .int x2] (WV g σ)) (Qi g r) 0 0 (frN g) := by
  refine ct_of (by decide) (Nat.le_of_ble_eq_true rfl) ?_
  intro p e s m below meth c ls X hV hl
  have hF : FR g [] := FR_nil
  unfold F_X0_strengthBehind at h
  have hl : lv_has ls 5 [(0, .ref x0), (1, .int x1), (2, .int x2)] := hl
  have X : FX g p m c s _ meth cX0_strengthBehind 5 RX0 (some .int) "strengthBehind" := X
  obtain ⟨-, h⟩ := gd_inv h
  refine lv_aload_n X.1 X.2.1 dX0_strengthBehind_0 rfl (lv_at hl 0 rfl) ?_
  refine r_gR X hV fl_X0_47_0 (by decide) dX0_strengthBehind_1 h (fun v1 h => ?_)
  refine lv_aload_n X.1 X.2.1 dX0_strengthBehind_4 rfl (lv_at hl 0 rfl) ?_
  refine r_gR X hV fl_X0_43_0 (by decide) dX0_strengthBehind_5 h (fun v2 h => ?_)
  obtain ⟨s1, hc, h⟩ := b1_inv h
  refine r_cv (va_runV (C := RX1) (As := [.ref v2]) (rest := []) (cfX X) (c_X1_copy l hc) (cwV 1 X.2.2.2.2.1 (lw_V q882 q883 q884 q50 q885) rfl rfl rfl ⟨rfl, yd_X1_copy⟩ ⟨Nat.le_of_ble_eq_true rfl, Nat.le_of_ble_eq_true rfl⟩) (preV X hV (F_X1_copy_g hc) rfl) rfl rfl hl.1 rfl (lv_room (Nat.le_of_ble_eq_true rfl)) dX0_strengthBehind_8 ⟨(Nat.le_of_ble_eq_true rfl), (Nat.le_of_ble_eq_true rfl)⟩) hF (fun H locs hV hF => ?_)
  refine lv_iconst (v := 0) X.1 X.2.1 dX0_strengthBehind_11 (by decide) ?_
  refine lv_istore_n (lv' := [(3, .int 0), (0, .ref x0), (1, .int x1), (2, .int x2)]) X.1 X.2.1 dX0_strengthBehind_12 rfl hl (by decide) rfl (fun ls hl => ?_)
  exact w_X0_strengthBehind_13 X  FU (s1, 0) h _ _ _ hV hF (lv_sub hl [1, 2, 3, 0] rfl)
