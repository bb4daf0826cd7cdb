set_option maxRecDepth 100000
/-! PalaceOfRoomsModel.put -/
theorem dX10_put_0 : decode cX10_put 0 = .ok (.iload_n 1, 1) := by decide +kernel
theorem dX10_put_1 : decode cX10_put 1 = .ok (.invokestatic 112, 3) := by decide +kernel
theorem dX10_put_4 : decode cX10_put 4 = .ok (.ifCond .eq 10, 3) := by decide +kernel
theorem dX10_put_7 : decode cX10_put 7 = .ok (.iload_n 2, 1) := by decide +kernel
theorem dX10_put_8 : decode cX10_put 8 = .ok (.invokestatic 118, 3) := by decide +kernel
theorem dX10_put_11 : decode cX10_put 11 = .ok (.ifCond .ne 6, 3) := by decide +kernel
theorem dX10_put_14 : decode cX10_put 14 = .ok (.bipush (-2), 2) := by decide +kernel
theorem dX10_put_16 : decode cX10_put 16 = .ok (.ireturn, 1) := by decide +kernel
theorem dX10_put_17 : decode cX10_put 17 = .ok (.aload_n 0, 1) := by decide +kernel
theorem dX10_put_18 : decode cX10_put 18 = .ok (.iload_n 1, 1) := by decide +kernel
theorem dX10_put_19 : decode cX10_put 19 = .ok (.invokevirtual 121, 3) := by decide +kernel
theorem dX10_put_22 : decode cX10_put 22 = .ok (.iconst (-1), 1) := by decide +kernel
theorem dX10_put_23 : decode cX10_put 23 = .ok (.if_icmp .eq 6, 3) := by decide +kernel
theorem dX10_put_26 : decode cX10_put 26 = .ok (.bipush (-4), 2) := by decide +kernel
theorem dX10_put_28 : decode cX10_put 28 = .ok (.ireturn, 1) := by decide +kernel
theorem dX10_put_29 : decode cX10_put 29 = .ok (.aload_n 0, 1) := by decide +kernel
theorem dX10_put_30 : decode cX10_put 30 = .ok (.getfield 32, 3) := by decide +kernel
theorem dX10_put_33 : decode cX10_put 33 = .ok (.iload_n 2, 1) := by decide +kernel
theorem dX10_put_34 : decode cX10_put 34 = .ok (.iaload, 1) := by decide +kernel
theorem dX10_put_35 : decode cX10_put 35 = .ok (.istore_n 3, 1) := by decide +kernel
theorem dX10_put_36 : decode cX10_put 36 = .ok (.iload_n 3, 1) := by decide +kernel
theorem dX10_put_37 : decode cX10_put 37 = .ok (.iconst (-1), 1) := by decide +kernel
theorem dX10_put_38 : decode cX10_put 38 = .ok (.if_icmp .eq 16, 3) := by decide +kernel
theorem dX10_put_41 : decode cX10_put 41 = .ok (.aload_n 0, 1) := by decide +kernel
theorem dX10_put_42 : decode cX10_put 42 = .ok (.getfield 35, 3) := by decide +kernel
theorem dX10_put_45 : decode cX10_put 45 = .ok (.iload_n 2, 1) := by decide +kernel
theorem dX10_put_46 : decode cX10_put 46 = .ok (.iaload, 1) := by decide +kernel
theorem dX10_put_47 : decode cX10_put 47 = .ok (.ifCond .le 7, 3) := by decide +kernel
theorem dX10_put_50 : decode cX10_put 50 = .ok (.iconst 1, 1) := by decide +kernel
theorem dX10_put_51 : decode cX10_put 51 = .ok (.goto 4, 3) := by decide +kernel
theorem dX10_put_54 : decode cX10_put 54 = .ok (.iconst 0, 1) := by decide +kernel
theorem dX10_put_55 : decode cX10_put 55 = .ok (.istore 4, 2) := by decide +kernel
theorem dX10_put_57 : decode cX10_put 57 = .ok (.aload_n 0, 1) := by decide +kernel
theorem dX10_put_58 : decode cX10_put 58 = .ok (.getfield 38, 3) := by decide +kernel
theorem dX10_put_61 : decode cX10_put 61 = .ok (.iload_n 2, 1) := by decide +kernel
theorem dX10_put_62 : decode cX10_put 62 = .ok (.iload 4, 2) := by decide +kernel
theorem dX10_put_64 : decode cX10_put 64 = .ok (.ifCond .eq 7, 3) := by decide +kernel
theorem dX10_put_67 : decode cX10_put 67 = .ok (.iload_n 3, 1) := by decide +kernel
theorem dX10_put_68 : decode cX10_put 68 = .ok (.goto 4, 3) := by decide +kernel
theorem dX10_put_71 : decode cX10_put 71 = .ok (.iconst (-1), 1) := by decide +kernel
theorem dX10_put_72 : decode cX10_put 72 = .ok (.iastore, 1) := by decide +kernel
theorem dX10_put_73 : decode cX10_put 73 = .ok (.aload_n 0, 1) := by decide +kernel
theorem dX10_put_74 : decode cX10_put 74 = .ok (.getfield 41, 3) := by decide +kernel
theorem dX10_put_77 : decode cX10_put 77 = .ok (.iload_n 2, 1) := by decide +kernel
theorem dX10_put_78 : decode cX10_put 78 = .ok (.iload 4, 2) := by decide +kernel
theorem dX10_put_80 : decode cX10_put 80 = .ok (.ifCond .eq 12, 3) := by decide +kernel
theorem dX10_put_83 : decode cX10_put 83 = .ok (.aload_n 0, 1) := by decide +kernel
theorem dX10_put_84 : decode cX10_put 84 = .ok (.getfield 35, 3) := by decide +kernel
theorem dX10_put_87 : decode cX10_put 87 = .ok (.iload_n 2, 1) := by decide +kernel
theorem dX10_put_88 : decode cX10_put 88 = .ok (.iaload, 1) := by decide +kernel
theorem dX10_put_89 : decode cX10_put 89 = .ok (.goto 4, 3) := by decide +kernel
theorem dX10_put_92 : decode cX10_put 92 = .ok (.iconst 0, 1) := by decide +kernel
theorem dX10_put_93 : decode cX10_put 93 = .ok (.iastore, 1) := by decide +kernel
theorem dX10_put_94 : decode cX10_put 94 = .ok (.aload_n 0, 1) := by decide +kernel
theorem dX10_put_95 : decode cX10_put 95 = .ok (.getfield 32, 3) := by decide +kernel
theorem dX10_put_98 : decode cX10_put 98 = .ok (.iload_n 2, 1) := by decide +kernel
theorem dX10_put_99 : decode cX10_put 99 = .ok (.iload_n 1, 1) := by decide +kernel
theorem dX10_put_100 : decode cX10_put 100 = .ok (.iastore, 1) := by decide +kernel
theorem dX10_put_101 : decode cX10_put 101 = .ok (.aload_n 0, 1) := by decide +kernel
theorem dX10_put_102 : decode cX10_put 102 = .ok (.getfield 35, 3) := by decide +kernel
theorem dX10_put_105 : decode cX10_put 105 = .ok (.iload_n 2, 1) := by decide +kernel
theorem dX10_put_106 : decode cX10_put 106 = .ok (.bipush 100, 2) := by decide +kernel
theorem dX10_put_108 : decode cX10_put 108 = .ok (.iastore, 1) := by decide +kernel
theorem dX10_put_109 : decode cX10_put 109 = .ok (.aload_n 0, 1) := by decide +kernel
theorem dX10_put_110 : decode cX10_put 110 = .ok (.getfield 44, 3) := by decide +kernel
theorem dX10_put_113 : decode cX10_put 113 = .ok (.iload_n 2, 1) := by decide +kernel
theorem dX10_put_114 : decode cX10_put 114 = .ok (.aload_n 0, 1) := by decide +kernel
theorem dX10_put_115 : decode cX10_put 115 = .ok (.getfield 125, 3) := by decide +kernel
theorem dX10_put_118 : decode cX10_put 118 = .ok (.iastore, 1) := by decide +kernel
theorem dX10_put_119 : decode cX10_put 119 = .ok (.iload_n 3, 1) := by decide +kernel
theorem dX10_put_120 : decode cX10_put 120 = .ok (.ireturn, 1) := by decide +kernel
theorem yd_X10_put : yX10_put.cls ≠ "java/lang/invoke/MethodHandle" ∧ yX10_put.cls ≠ "java/lang/invoke/VarHandle" ∧ (parseMethodDescriptor yX10_put.desc).map (fun d => d.parameters.length) = some 2 := by decide +kernel
theorem fl_X10_35_10 : FLk RX10 35 10 10 "[I" := ⟨RX10, TX10, 39, "PalaceOfRoomsModel", rfl, by decide, (fun q => by have h1 := q.1; have h2 := q.2; omega), rfl, in_X10, Or.inl q989, Or.inl rfl⟩
theorem fl_X10_125_10 : FLk RX10 125 10 0 "I" := ⟨RX10, TX10, 39, "PalaceOfRoomsModel", rfl, by decide, (fun q => by have h1 := q.1; have h2 := q.2; omega), rfl, in_X10, Or.inl q979, Or.inl rfl⟩
theorem fl_X10_41_10 : FLk RX10 41 10 12 "[I" := ⟨RX10, TX10, 39, "PalaceOfRoomsModel", rfl, by decide, (fun q => by have h1 := q.1; have h2 := q.2; omega), rfl, in_X10, Or.inl q991, Or.inl rfl⟩
abbrev rm_X10_put : Room := { frames := 2, cells := 0, slots := 0, locals := 42 }
set_option maxHeartbeats 4000000 in
theorem w_X10_put_93 {p : Program} {l : Launch} {e : Env} {s : State} {m : MethodId} {args : Array Value} {below : List Frame} {meth : Method} {c : Code} {g : Gl} (X : FX g p m c s args meth cX10_put 5 RX10 (some .int) "put") {r : Int32 × Hp} {σ : Hp} {x0 : Nat} {x1 : Int32} {x2 : Int32} {x3 : Int32} {y0 : Int32} {y1 : Int32} {y2 : Nat}  {H : Heap} {locs : List Loc} {ls : Array Slot} (h : F_X10_put_93 σ x0 x1 x2 x3 y0 y1 y2 = some r) (hV : HV g σ H) (hF : FR g locs) (hl : lv_has ls 5 [(0, .ref x0), (1, .int x1), (2, .int x2), (3, .int x3)]) : W p l e rm_X10_put s m args below meth c H locs 0 0 (MQ below (Qi g r) args s 0 0 (frN g)) (F0 m 93 ls [.int y0, .int y1, .ref y2]) := by
  unfold F_X10_put_93 at h
  refine r_is X hV hF dX10_put_93 h (fun s1 H locs hV hF h => ?_)
  refine lv_aload_n X.1 X.2.1 dX10_put_94 rfl (lv_at hl 0 rfl) ?_
  refine r_gR X hV fl_X10_32_10 (by decide) dX10_put_95 h (fun v1 h => ?_)
  refine lv_iload_n X.1 X.2.1 dX10_put_98 rfl (lv_at hl 2 rfl) ?_
  refine lv_iload_n X.1 X.2.1 dX10_put_99 rfl (lv_at hl 1 rfl) ?_
  refine r_is X hV hF dX10_put_100 h (fun s2 H locs hV hF h => ?_)
  refine lv_aload_n X.1 X.2.1 dX10_put_101 rfl (lv_at hl 0 rfl) ?_
  refine r_gR X hV fl_X10_35_10 (by decide) dX10_put_102 h (fun v2 h => ?_)
  refine lv_iload_n X.1 X.2.1 dX10_put_105 rfl (lv_at hl 2 rfl) ?_
  refine lv_bipush (v := 100) X.1 X.2.1 dX10_put_106 (by decide) ?_
  refine r_is X hV hF dX10_put_108 h (fun s3 H locs hV hF h => ?_)
  refine lv_aload_n X.1 X.2.1 dX10_put_109 rfl (lv_at hl 0 rfl) ?_
  refine r_gR X hV fl_X10_44_10 (by decide) dX10_put_110 h (fun v3 h => ?_)
  refine lv_iload_n X.1 X.2.1 dX10_put_113 rfl (lv_at hl 2 rfl) ?_
  refine lv_aload_n X.1 X.2.1 dX10_put_114 rfl (lv_at hl 0 rfl) ?_
  refine r_gI X hV fl_X10_125_10 dX10_put_115 h (fun v4 h => ?_)
  refine r_is X hV hF dX10_put_118 h (fun s4 H locs hV hF h => ?_)
  refine lv_iload_n X.1 X.2.1 dX10_put_119 rfl (lv_at hl 3 rfl) ?_
  exact r_iret X hV hF h dX10_put_120
set_option maxHeartbeats 4000000 in
theorem w_X10_put_72 {p : Program} {l : Launch} {e : Env} {s : State} {m : MethodId} {args : Array Value} {below : List Frame} {meth : Method} {c : Code} {g : Gl} (X : FX g p m c s args meth cX10_put 5 RX10 (some .int) "put") {r : Int32 × Hp} {σ : Hp} {x0 : Nat} {x1 : Int32} {x2 : Int32} {x3 : Int32} {x4 : Int32} {y0 : Int32} {y1 : Int32} {y2 : Nat}  {H : Heap} {locs : List Loc} {ls : Array Slot} (h : F_X10_put_72 σ x0 x1 x2 x3 x4 y0 y1 y2 = some r) (hV : HV g σ H) (hF : FR g locs) (hl : lv_has ls 5 [(0, .ref x0), (1, .int x1), (2, .int x2), (3, .int x3), (4, .int x4)]) : W p l e rm_X10_put s m args below meth c H locs 0 0 (MQ below (Qi g r) args s 0 0 (frN g)) (F0 m 72 ls [.int y0, .int y1, .ref y2]) := by
  unfold F_X10_put_72 at h
  refine r_is X hV hF dX10_put_72 h (fun s1 H locs hV hF h => ?_)
  refine lv_aload_n X.1 X.2.1 dX10_put_73 rfl (lv_at hl 0 rfl) ?_
  refine r_gR X hV fl_X10_41_10 (by decide) dX10_put_74 h (fun v1 h => ?_)
  refine lv_iload_n X.1 X.2.1 dX10_put_77 rfl (lv_at hl 2 rfl) ?_
  refine lv_iload X.1 X.2.1 dX10_put_78 (lv_at hl 4 rfl) ?_
  refine r_ifeq (tgt := 92) X.1 X.2.1 dX10_put_80 (by decide) h (fun h => ?_) (fun h => ?_)
  · refine lv_iconst (v := 0) X.1 X.2.1 dX10_put_92 (by decide) ?_
    exact w_X10_put_93 X  h hV hF (lv_sub hl [0, 1, 2, 3] rfl)
  · refine lv_aload_n X.1 X.2.1 dX10_put_83 rfl (lv_at hl 0 rfl) ?_
    refine r_gR X hV fl_X10_35_10 (by decide) dX10_put_84 h (fun v2 h => ?_)
    refine lv_iload_n X.1 X.2.1 dX10_put_87 rfl (lv_at hl 2 rfl) ?_
    refine r_ia X hV dX10_put_88 h (fun v3 h => ?_)
    refine lv_goto (tgt := 93) X.1 X.2.1 dX10_put_89 (by decide) ?_
    exact w_X10_put_93 X  h hV hF (lv_sub hl [0, 1, 2, 3] rfl)
set_option maxHeartbeats 4000000 in
theorem w_X10_put_55 {p : Program} {l : Launch} {e : Env} {s : State} {m : MethodId} {args : Array Value} {below : List Frame} {meth : Method} {c : Code} {g : Gl} (X : FX g p m c s args meth cX10_put 5 RX10 (some .int) "put") {r : Int32 × Hp} {σ : Hp} {x0 : Nat} {x1 : Int32} {x2 : Int32} {x3 : Int32} {y0 : Int32}  {H : Heap} {locs : List Loc} {ls : Array Slot} (h : F_X10_put_55 σ x0 x1 x2 x3 y0 = some r) (hV : HV g σ H) (hF : FR g locs) (hl : lv_has ls 5 [(0, .ref x0), (1, .int x1), (2, .int x2), (3, .int x3)]) : W p l e rm_X10_put s m args below meth c H locs 0 0 (MQ below (Qi g r) args s 0 0 (frN g)) (F0 m 55 ls [.int y0]) := by
  unfold F_X10_put_55 at h
  refine lv_istore (lv' := [(4, .int y0), (0, .ref x0), (1, .int x1), (2, .int x2), (3, .int x3)]) X.1 X.2.1 dX10_put_55 hl (by decide) rfl (fun ls hl => ?_)
  refine lv_aload_n X.1 X.2.1 dX10_put_57 rfl (lv_at hl 1 rfl) ?_
  refine r_gR X hV fl_X10_38_10 (by decide) dX10_put_58 h (fun v1 h => ?_)
  refine lv_iload_n X.1 X.2.1 dX10_put_61 rfl (lv_at hl 3 rfl) ?_
  refine lv_iload X.1 X.2.1 dX10_put_62 (lv_at hl 0 rfl) ?_
  refine r_ifeq (tgt := 71) X.1 X.2.1 dX10_put_64 (by decide) h (fun h => ?_) (fun h => ?_)
  · refine lv_iconst (v := (-1)) X.1 X.2.1 dX10_put_71 (by decide) ?_
    exact w_X10_put_72 X  h hV hF (lv_sub hl [1, 2, 3, 4, 0] rfl)
  · refine lv_iload_n X.1 X.2.1 dX10_put_67 rfl (lv_at hl 4 rfl) ?_
    refine lv_goto (tgt := 72) X.1 X.2.1 dX10_put_68 (by decide) ?_
    exact w_X10_put_72 X  h hV hF (lv_sub hl [1, 2, 3, 4, 0] rfl)
set_option maxHeartbeats 4000000 in
theorem w_X10_put_54 {p : Program} {l : Launch} {e : Env} {s : State} {m : MethodId} {args : Array Value} {below : List Frame} {meth : Method} {c : Code} {g : Gl} (X : FX g p m c s args meth cX10_put 5 RX10 (some .int) "put") {r : Int32 × Hp} {σ : Hp} {x0 : Nat} {x1 : Int32} {x2 : Int32} {x3 : Int32}  {H : Heap} {locs : List Loc} {ls : Array Slot} (h : F_X10_put_54 σ x0 x1 x2 x3 = some r) (hV : HV g σ H) (hF : FR g locs) (hl : lv_has ls 5 [(0, .ref x0), (1, .int x1), (2, .int x2), (3, .int x3)]) : W p l e rm_X10_put s m args below meth c H locs 0 0 (MQ below (Qi g r) args s 0 0 (frN g)) (F0 m 54 ls []) := by
  unfold F_X10_put_54 at h
  refine lv_iconst (v := 0) X.1 X.2.1 dX10_put_54 (by decide) ?_
  exact w_X10_put_55 X  h hV hF (lv_sub hl [0, 1, 2, 3] rfl)
set_option maxHeartbeats 4000000 in
theorem c_X10_put (l : Launch) {g : Gl} {σ : Hp} {x0 : Nat} {x1 : Int32} {x2 : Int32} {r : Int32 × Hp} (h : F_X10_put σ x0 x1 x2 = some r) : Met l yX10_put (ws_ yX10_put cX10_put 5 (some .int)) rm_X10_put (va_Pc [.ref x0, .int x1, .int x2] (WV g σ)) (Qi g r) 0 0 (frN g) := by
  refine ct_of (by decide) (Nat.le_of_ble_eq_true rfl) ?_
  intro p e s m below meth c ls X hV hl
  have hF : FR g [] := FR_nil
  unfold F_X10_put at h
  have hl : lv_has ls 5 [(0, .ref x0), (1, .int x1), (2, .int x2)] := hl
  have X : FX g p m c s _ meth cX10_put 5 RX10 (some .int) "put" := X
  obtain ⟨-, h⟩ := gd_inv h
  refine lv_iload_n X.1 X.2.1 dX10_put_0 rfl (lv_at hl 1 rfl) ?_
  obtain ⟨v1, s1, hc, h⟩ := b2_inv h
  refine r_ci (va_runS (As := [.int x1]) (rest := []) (cfX X) (c_X10_isThing l hc) (va_cwS 1 X.2.2.2.2.1 (lw_S q1123 q1124 q59 q1125) rfl rfl rfl yd_X10_isThing ⟨Nat.le_of_ble_eq_true rfl, Nat.le_of_ble_eq_true rfl⟩) (preS X hV) rfl rfl hl.1 rfl (lv_room (Nat.le_of_ble_eq_true rfl)) dX10_put_1 ⟨(Nat.le_of_ble_eq_true rfl), (Nat.le_of_ble_eq_true rfl)⟩) hF (fun H locs hV hF => ?_)
  refine r_ifeq (tgt := 14) X.1 X.2.1 dX10_put_4 (by decide) h (fun h => ?_) (fun h => ?_)
  · refine lv_bipush (v := (-2)) X.1 X.2.1 dX10_put_14 (by decide) ?_
    exact r_iret X hV hF h dX10_put_16
  · refine lv_iload_n X.1 X.2.1 dX10_put_7 rfl (lv_at hl 2 rfl) ?_
    obtain ⟨v2, s2, hc, h⟩ := b2_inv h
    refine r_ci (va_runS (As := [.int x2]) (rest := []) (cfX X) (c_X10_isCorner l hc) (va_cwS 1 X.2.2.2.2.1 (lw_S q1146 q1147 q59 q1148) rfl rfl rfl yd_X10_isCorner ⟨Nat.le_of_ble_eq_true rfl, Nat.le_of_ble_eq_true rfl⟩) (preS X hV) rfl rfl hl.1 rfl (lv_room (Nat.le_of_ble_eq_true rfl)) dX10_put_8 ⟨(Nat.le_of_ble_eq_true rfl), (Nat.le_of_ble_eq_true rfl)⟩) hF (fun H locs hV hF => ?_)
    refine r_ifne (tgt := 17) X.1 X.2.1 dX10_put_11 (by decide) h (fun h => ?_) (fun h => ?_)
    · refine lv_aload_n X.1 X.2.1 dX10_put_17 rfl (lv_at hl 0 rfl) ?_
      refine lv_iload_n X.1 X.2.1 dX10_put_18 rfl (lv_at hl 1 rfl) ?_
      obtain ⟨v3, s3, hc, h⟩ := b2_inv h
      refine r_ci (va_runV (C := RX10) (As := [.int x1]) (rest := []) (cfX X) (c_X10_cornerOf l hc) (cwV 1 X.2.2.2.2.1 (lw_V q1149 q1151 qs25 q59 q1152) rfl rfl rfl ⟨rfl, yd_X10_cornerOf⟩ ⟨Nat.le_of_ble_eq_true rfl, Nat.le_of_ble_eq_true rfl⟩) (preV X hV (F_X10_cornerOf_g hc) rfl) rfl rfl hl.1 rfl (lv_room (Nat.le_of_ble_eq_true rfl)) dX10_put_19 ⟨(Nat.le_of_ble_eq_true rfl), (Nat.le_of_ble_eq_true rfl)⟩) hF (fun H locs hV hF => ?_)
      refine lv_iconst (v := (-1)) X.1 X.2.1 dX10_put_22 (by decide) ?_
      refine r_eq (tgt := 29) X.1 X.2.1 dX10_put_23 (by decide) h (fun h => ?_) (fun h => ?_)
      · refine lv_aload_n X.1 X.2.1 dX10_put_29 rfl (lv_at hl 0 rfl) ?_
        refine r_gR X hV fl_X10_32_10 (by decide) dX10_put_30 h (fun v4 h => ?_)
        refine lv_iload_n X.1 X.2.1 dX10_put_33 rfl (lv_at hl 2 rfl) ?_
        refine r_ia X hV dX10_put_34 h (fun v5 h => ?_)
        refine lv_istore_n (lv' := [(3, .int v5), (0, .ref x0), (1, .int x1), (2, .int x2)]) X.1 X.2.1 dX10_put_35 rfl hl (by decide) rfl (fun ls hl => ?_)
        refine lv_iload_n X.1 X.2.1 dX10_put_36 rfl (lv_at hl 0 rfl) ?_
        refine lv_iconst (v := (-1)) X.1 X.2.1 dX10_put_37 (by decide) ?_
        refine r_eq (tgt := 54) X.1 X.2.1 dX10_put_38 (by decide) h (fun h => ?_) (fun h => ?_)
        · exact w_X10_put_54 X  h hV hF (lv_sub hl [1, 2, 3, 0] rfl)
        · refine lv_aload_n X.1 X.2.1 dX10_put_41 rfl (lv_at hl 1 rfl) ?_
          refine r_gR X hV fl_X10_35_10 (by decide) dX10_put_42 h (fun v6 h => ?_)
          refine lv_iload_n X.1 X.2.1 dX10_put_45 rfl (lv_at hl 3 rfl) ?_
          refine r_ia X hV dX10_put_46 h (fun v7 h => ?_)
          refine r_ifle (tgt := 54) X.1 X.2.1 dX10_put_47 (by decide) h (fun h => ?_) (fun h => ?_)
          · exact w_X10_put_54 X  h hV hF (lv_sub hl [1, 2, 3, 0] rfl)
          · refine lv_iconst (v := 1) X.1 X.2.1 dX10_put_50 (by decide) ?_
            refine lv_goto (tgt := 55) X.1 X.2.1 dX10_put_51 (by decide) ?_
            exact w_X10_put_55 X  h hV hF (lv_sub hl [1, 2, 3, 0] rfl)
      · refine lv_bipush (v := (-4)) X.1 X.2.1 dX10_put_26 (by decide) ?_
        exact r_iret X hV hF h dX10_put_28
    · refine lv_bipush (v := (-2)) X.1 X.2.1 dX10_put_14 (by decide) ?_
      exact r_iret X hV hF h dX10_put_16
/-! PalaceOfRoomsModel.clear -/
theorem dX10_clear_0 : decode cX10_clear 0 = .ok (.iload_n 1, 1) := by decide +kernel
theorem dX10_clear_1 : decode cX10_clear 1 = .ok (.invokestatic 118, 3) := by decide +kernel
theorem dX10_clear_4 : decode cX10_clear 4 = .ok (.ifCond .ne 6, 3) := by decide +kernel
theorem dX10_clear_7 : decode cX10_clear 7 = .ok (.bipush (-2), 2) := by decide +kernel
theorem dX10_clear_9 : decode cX10_clear 9 = .ok (.ireturn, 1) := by decide +kernel
theorem dX10_clear_10 : decode cX10_clear 10 = .ok (.aload_n 0, 1) := by decide +kernel
theorem dX10_clear_11 : decode cX10_clear 11 = .ok (.getfield 32, 3) := by decide +kernel
theorem dX10_clear_14 : decode cX10_clear 14 = .ok (.iload_n 1, 1) := by decide +kernel
theorem dX10_clear_15 : decode cX10_clear 15 = .ok (.iaload, 1) := by decide +kernel
theorem dX10_clear_16 : decode cX10_clear 16 = .ok (.iconst (-1), 1) := by decide +kernel
theorem dX10_clear_17 : decode cX10_clear 17 = .ok (.if_icmp .ne 6, 3) := by decide +kernel
theorem dX10_clear_20 : decode cX10_clear 20 = .ok (.bipush (-4), 2) := by decide +kernel
theorem dX10_clear_22 : decode cX10_clear 22 = .ok (.ireturn, 1) := by decide +kernel
theorem dX10_clear_23 : decode cX10_clear 23 = .ok (.aload_n 0, 1) := by decide +kernel
theorem dX10_clear_24 : decode cX10_clear 24 = .ok (.getfield 32, 3) := by decide +kernel
theorem dX10_clear_27 : decode cX10_clear 27 = .ok (.iload_n 1, 1) := by decide +kernel
theorem dX10_clear_28 : decode cX10_clear 28 = .ok (.iaload, 1) := by decide +kernel
theorem dX10_clear_29 : decode cX10_clear 29 = .ok (.istore_n 2, 1) := by decide +kernel
theorem dX10_clear_30 : decode cX10_clear 30 = .ok (.aload_n 0, 1) := by decide +kernel
theorem dX10_clear_31 : decode cX10_clear 31 = .ok (.getfield 32, 3) := by decide +kernel
theorem dX10_clear_34 : decode cX10_clear 34 = .ok (.iload_n 1, 1) := by decide +kernel
theorem dX10_clear_35 : decode cX10_clear 35 = .ok (.iconst (-1), 1) := by decide +kernel
theorem dX10_clear_36 : decode cX10_clear 36 = .ok (.iastore, 1) := by decide +kernel
theorem dX10_clear_37 : decode cX10_clear 37 = .ok (.aload_n 0, 1) := by decide +kernel
theorem dX10_clear_38 : decode cX10_clear 38 = .ok (.getfield 38, 3) := by decide +kernel
theorem dX10_clear_41 : decode cX10_clear 41 = .ok (.iload_n 1, 1) := by decide +kernel
theorem dX10_clear_42 : decode cX10_clear 42 = .ok (.iconst (-1), 1) := by decide +kernel
theorem dX10_clear_43 : decode cX10_clear 43 = .ok (.iastore, 1) := by decide +kernel
theorem dX10_clear_44 : decode cX10_clear 44 = .ok (.aload_n 0, 1) := by decide +kernel
theorem dX10_clear_45 : decode cX10_clear 45 = .ok (.getfield 35, 3) := by decide +kernel
theorem dX10_clear_48 : decode cX10_clear 48 = .ok (.iload_n 1, 1) := by decide +kernel
theorem dX10_clear_49 : decode cX10_clear 49 = .ok (.iconst 0, 1) := by decide +kernel
theorem dX10_clear_50 : decode cX10_clear 50 = .ok (.iastore, 1) := by decide +kernel
theorem dX10_clear_51 : decode cX10_clear 51 = .ok (.aload_n 0, 1) := by decide +kernel
theorem dX10_clear_52 : decode cX10_clear 52 = .ok (.getfield 41, 3) := by decide +kernel
theorem dX10_clear_55 : decode cX10_clear 55 = .ok (.iload_n 1, 1) := by decide +kernel
theorem dX10_clear_56 : decode cX10_clear 56 = .ok (.iconst 0, 1) := by decide +kernel
theorem dX10_clear_57 : decode cX10_clear 57 = .ok (.iastore, 1) := by decide +kernel
theorem dX10_clear_58 : decode cX10_clear 58 = .ok (.iload_n 2, 1) := by decide +kernel
theorem dX10_clear_59 : decode cX10_clear 59 = .ok (.ireturn, 1) := by decide +kernel
theorem yd_X10_clear : yX10_clear.cls ≠ "java/lang/invoke/MethodHandle" ∧ yX10_clear.cls ≠ "java/lang/invoke/VarHandle" ∧ (parseMethodDescriptor yX10_clear.desc).map (fun d => d.parameters.length) = some 1 := by decide +kernel
abbrev rm_X10_clear : Room := { frames := 2, cells := 0, slots := 0, locals := 42 }
set_option maxHeartbeats 4000000 in
theorem c_X10_clear (l : Launch) {g : Gl} {σ : Hp} {x0 : Nat} {x1 : Int32} {r : Int32 × Hp} (h : F_X10_clear σ x0 x1 = some r) : Met l yX10_clear (ws_ yX10_clear cX10_clear 3 (some .int)) rm_X10_clear (va_Pc [.ref x0, .int x1] (WV g σ)) (Qi g r) 0 0 (frN g) := by
  refine ct_of (by decide) (Nat.le_of_ble_eq_true rfl) ?_
  intro p e s m below meth c ls X hV hl
  have hF : FR g [] := FR_nil
  unfold F_X10_clear at h
  have hl : lv_has ls 3 [(0, .ref x0), (1, .int x1)] := hl
  have X : FX g p m c s _ meth cX10_clear 3 RX10 (some .int) "clear" := X
  obtain ⟨-, h⟩ := gd_inv h
  refine lv_iload_n X.1 X.2.1 dX10_clear_0 rfl (lv_at hl 1 rfl) ?_
  obtain ⟨v1, s1, hc, h⟩ := b2_inv h
  refine r_ci (va_runS (As := [.int x1]) (rest := []) (cfX X) (c_X10_isCorner l hc) (va_cwS 1 X.2.2.2.2.1 (lw_S q1146 q1147 q59 q1148) rfl rfl rfl yd_X10_isCorner ⟨Nat.le_of_ble_eq_true rfl, Nat.le_of_ble_eq_true rfl⟩) (preS X hV) rfl rfl hl.1 rfl (lv_room (Nat.le_of_ble_eq_true rfl)) dX10_clear_1 ⟨(Nat.le_of_ble_eq_true rfl), (Nat.le_of_ble_eq_true rfl)⟩) hF (fun H locs hV hF => ?_)
  refine r_ifne (tgt := 10) X.1 X.2.1 dX10_clear_4 (by decide) h (fun h => ?_) (fun h => ?_)
  · refine lv_aload_n X.1 X.2.1 dX10_clear_10 rfl (lv_at hl 0 rfl) ?_
    refine r_gR X hV fl_X10_32_10 (by decide) dX10_clear_11 h (fun v2 h => ?_)
    refine lv_iload_n X.1 X.2.1 dX10_clear_14 rfl (lv_at hl 1 rfl) ?_
    refine r_ia X hV dX10_clear_15 h (fun v3 h => ?_)
    refine lv_iconst (v := (-1)) X.1 X.2.1 dX10_clear_16 (by decide) ?_
    refine r_ne (tgt := 23) X.1 X.2.1 dX10_clear_17 (by decide) h (fun h => ?_) (fun h => ?_)
    · refine lv_aload_n X.1 X.2.1 dX10_clear_23 rfl (lv_at hl 0 rfl) ?_
      refine r_gR X hV fl_X10_32_10 (by decide) dX10_clear_24 h (fun v4 h => ?_)
      refine lv_iload_n X.1 X.2.1 dX10_clear_27 rfl (lv_at hl 1 rfl) ?_
      refine r_ia X hV dX10_clear_28 h (fun v5 h => ?_)
      refine lv_istore_n (lv' := [(2, .int v5), (0, .ref x0), (1, .int x1)]) X.1 X.2.1 dX10_clear_29 rfl hl (by decide) rfl (fun ls hl => ?_)
      refine lv_aload_n X.1 X.2.1 dX10_clear_30 rfl (lv_at hl 1 rfl) ?_
      refine r_gR X hV fl_X10_32_10 (by decide) dX10_clear_31 h (fun v6 h => ?_)
      refine lv_iload_n X.1 X.2.1 dX10_clear_34 rfl (lv_at hl 2 rfl) ?_
      refine lv_iconst (v := (-1)) X.1 X.2.1 dX10_clear_35 (by decide) ?_
      refine r_is X hV hF dX10_clear_36 h (fun s2 H locs hV hF h => ?_)
      refine lv_aload_n X.1 X.2.1 dX10_clear_37 rfl (lv_at hl 1 rfl) ?_
      refine r_gR X hV fl_X10_38_10 (by decide) dX10_clear_38 h (fun v7 h => ?_)
      refine lv_iload_n X.1 X.2.1 dX10_clear_41 rfl (lv_at hl 2 rfl) ?_
      refine lv_iconst (v := (-1)) X.1 X.2.1 dX10_clear_42 (by decide) ?_
      refine r_is X hV hF dX10_clear_43 h (fun s3 H locs hV hF h => ?_)
      refine lv_aload_n X.1 X.2.1 dX10_clear_44 rfl (lv_at hl 1 rfl) ?_
      refine r_gR X hV fl_X10_35_10 (by decide) dX10_clear_45 h (fun v8 h => ?_)
      refine lv_iload_n X.1 X.2.1 dX10_clear_48 rfl (lv_at hl 2 rfl) ?_
      refine lv_iconst (v := 0) X.1 X.2.1 dX10_clear_49 (by decide) ?_
      refine r_is X hV hF dX10_clear_50 h (fun s4 H locs hV hF h => ?_)
      refine lv_aload_n X.1 X.2.1 dX10_clear_51 rfl (lv_at hl 1 rfl) ?_
      refine r_gR X hV fl_X10_41_10 (by decide) dX10_clear_52 h (fun v9 h => ?_)
      refine lv_iload_n X.1 X.2.1 dX10_clear_55 rfl (lv_at hl 2 rfl) ?_
      refine lv_iconst (v := 0) X.1 X.2.1 dX10_clear_56 (by decide) ?_
      refine r_is X hV hF dX10_clear_57 h (fun s5 H locs hV hF h => ?_)
      refine lv_iload_n X.1 X.2.1 dX10_clear_58 rfl (lv_at hl 0 rfl) ?_
      exact r_iret X hV hF h dX10_clear_59
    · refine lv_bipush (v := (-4)) X.1 X.2.1 dX10_clear_20 (by decide) ?_
      exact r_iret X hV hF h dX10_clear_22
  · refine lv_bipush (v := (-2)) X.1 X.2.1 dX10_clear_7 (by decide) ?_
    exact r_iret X hV hF h dX10_clear_9
/-! PalaceOfRoomsModel.corner -/
theorem dX10_corner_0 : decode cX10_corner 0 = .ok (.iload_n 1, 1) := by decide +kernel
theorem dX10_corner_1 : decode cX10_corner 1 = .ok (.invokestatic 118, 3) := by decide +kernel
theorem dX10_corner_4 : decode cX10_corner 4 = .ok (.ifCond .ne 6, 3) := by decide +kernel
theorem dX10_corner_7 : decode cX10_corner 7 = .ok (.bipush (-2), 2) := by decide +kernel
theorem dX10_corner_9 : decode cX10_corner 9 = .ok (.ireturn, 1) := by decide +kernel
theorem dX10_corner_10 : decode cX10_corner 10 = .ok (.iload_n 2, 1) := by decide +kernel
theorem dX10_corner_11 : decode cX10_corner 11 = .ok (.tableswitch 96 0 4 #[33, 40, 61, 68, 89], 33) := by decide +kernel
theorem dX10_corner_44 : decode cX10_corner 44 = .ok (.aload_n 0, 1) := by decide +kernel
theorem dX10_corner_45 : decode cX10_corner 45 = .ok (.getfield 32, 3) := by decide +kernel
theorem dX10_corner_48 : decode cX10_corner 48 = .ok (.iload_n 1, 1) := by decide +kernel
theorem dX10_corner_49 : decode cX10_corner 49 = .ok (.iaload, 1) := by decide +kernel
theorem dX10_corner_50 : decode cX10_corner 50 = .ok (.ireturn, 1) := by decide +kernel
theorem dX10_corner_51 : decode cX10_corner 51 = .ok (.aload_n 0, 1) := by decide +kernel
theorem dX10_corner_52 : decode cX10_corner 52 = .ok (.getfield 32, 3) := by decide +kernel
theorem dX10_corner_55 : decode cX10_corner 55 = .ok (.iload_n 1, 1) := by decide +kernel
theorem dX10_corner_56 : decode cX10_corner 56 = .ok (.iaload, 1) := by decide +kernel
theorem dX10_corner_57 : decode cX10_corner 57 = .ok (.iconst (-1), 1) := by decide +kernel
theorem dX10_corner_58 : decode cX10_corner 58 = .ok (.if_icmp .ne 7, 3) := by decide +kernel
theorem dX10_corner_61 : decode cX10_corner 61 = .ok (.iconst (-1), 1) := by decide +kernel
theorem dX10_corner_62 : decode cX10_corner 62 = .ok (.goto 9, 3) := by decide +kernel
theorem dX10_corner_65 : decode cX10_corner 65 = .ok (.aload_n 0, 1) := by decide +kernel
theorem dX10_corner_66 : decode cX10_corner 66 = .ok (.getfield 35, 3) := by decide +kernel
theorem dX10_corner_69 : decode cX10_corner 69 = .ok (.iload_n 1, 1) := by decide +kernel
theorem dX10_corner_70 : decode cX10_corner 70 = .ok (.iaload, 1) := by decide +kernel
theorem dX10_corner_71 : decode cX10_corner 71 = .ok (.ireturn, 1) := by decide +kernel
theorem dX10_corner_72 : decode cX10_corner 72 = .ok (.aload_n 0, 1) := by decide +kernel
theorem dX10_corner_73 : decode cX10_corner 73 = .ok (.getfield 38, 3) := by decide +kernel
theorem dX10_corner_76 : decode cX10_corner 76 = .ok (.iload_n 1, 1) := by decide +kernel
theorem dX10_corner_77 : decode cX10_corner 77 = .ok (.iaload, 1) := by decide +kernel
theorem dX10_corner_78 : decode cX10_corner 78 = .ok (.ireturn, 1) := by decide +kernel
theorem dX10_corner_79 : decode cX10_corner 79 = .ok (.aload_n 0, 1) := by decide +kernel
theorem dX10_corner_80 : decode cX10_corner 80 = .ok (.getfield 38, 3) := by decide +kernel
theorem dX10_corner_83 : decode cX10_corner 83 = .ok (.iload_n 1, 1) := by decide +kernel
theorem dX10_corner_84 : decode cX10_corner 84 = .ok (.iaload, 1) := by decide +kernel
theorem dX10_corner_85 : decode cX10_corner 85 = .ok (.iconst (-1), 1) := by decide +kernel
theorem dX10_corner_86 : decode cX10_corner 86 = .ok (.if_icmp .ne 7, 3) := by decide +kernel
theorem dX10_corner_89 : decode cX10_corner 89 = .ok (.iconst (-1), 1) := by decide +kernel
theorem dX10_corner_90 : decode cX10_corner 90 = .ok (.goto 9, 3) := by decide +kernel
theorem dX10_corner_93 : decode cX10_corner 93 = .ok (.aload_n 0, 1) := by decide +kernel
theorem dX10_corner_94 : decode cX10_corner 94 = .ok (.getfield 41, 3) := by decide +kernel
theorem dX10_corner_97 : decode cX10_corner 97 = .ok (.iload_n 1, 1) := by decide +kernel
theorem dX10_corner_98 : decode cX10_corner 98 = .ok (.iaload, 1) := by decide +kernel
theorem dX10_corner_99 : decode cX10_corner 99 = .ok (.ireturn, 1) := by decide +kernel
theorem dX10_corner_100 : decode cX10_corner 100 = .ok (.aload_n 0, 1) := by decide +kernel
theorem dX10_corner_101 : decode cX10_corner 101 = .ok (.getfield 44, 3) := by decide +kernel
theorem dX10_corner_104 : decode cX10_corner 104 = .ok (.iload_n 1, 1) := by decide +kernel
theorem dX10_corner_105 : decode cX10_corner 105 = .ok (.iaload, 1) := by decide +kernel
theorem dX10_corner_106 : decode cX10_corner 106 = .ok (.ireturn, 1) := by decide +kernel
theorem dX10_corner_107 : decode cX10_corner 107 = .ok (.bipush (-3), 2) := by decide +kernel
theorem dX10_corner_109 : decode cX10_corner 109 = .ok (.ireturn, 1) := by decide +kernel
theorem yd_X10_corner : yX10_corner.cls ≠ "java/lang/invoke/MethodHandle" ∧ yX10_corner.cls ≠ "java/lang/invoke/VarHandle" ∧ (parseMethodDescriptor yX10_corner.desc).map (fun d => d.parameters.length) = some 2 := by decide +kernel
abbrev rm_X10_corner : Room := { frames := 2, cells := 0, slots := 0, locals := 42 }
set_option maxHeartbeats 4000000 in
theorem c_X10_corner (l : Launch) {g : Gl} {σ : Hp} {x0 : Nat} {x1 : Int32} {x2 : Int32} {r : Int32 × Hp} (h : F_X10_corner σ x0 x1 x2 = some r) : Met l yX10_corner (ws_ yX10_corner cX10_corner 3 (some .int)) rm_X10_corner (va_Pc [.ref x0, .int x1, .int x2] (WV g σ)) (Qi g r) 0 0 (frN g) := by
  refine ct_of (by decide) (Nat.le_of_ble_eq_true rfl) ?_
  intro p e s m below meth c ls X hV hl
  have hF : FR g [] := FR_nil
  unfold F_X10_corner at h
  have hl : lv_has ls 3 [(0, .ref x0), (1, .int x1), (2, .int x2)] := hl
  have X : FX g p m c s _ meth cX10_corner 3 RX10 (some .int) "corner" := X
  obtain ⟨-, h⟩ := gd_inv h
  refine lv_iload_n X.1 X.2.1 dX10_corner_0 rfl (lv_at hl 1 rfl) ?_
  obtain ⟨v1, s1, hc, h⟩ := b2_inv h
  refine r_ci (va_runS (As := [.int x1]) (rest := []) (cfX X) (c_X10_isCorner l hc) (va_cwS 1 X.2.2.2.2.1 (lw_S q1146 q1147 q59 q1148) rfl rfl rfl yd_X10_isCorner ⟨Nat.le_of_ble_eq_true rfl, Nat.le_of_ble_eq_true rfl⟩) (preS X hV) rfl rfl hl.1 rfl (lv_room (Nat.le_of_ble_eq_true rfl)) dX10_corner_1 ⟨(Nat.le_of_ble_eq_true rfl), (Nat.le_of_ble_eq_true rfl)⟩) hF (fun H locs hV hF => ?_)
  refine r_ifne (tgt := 10) X.1 X.2.1 dX10_corner_4 (by decide) h (fun h => ?_) (fun h => ?_)
  · refine lv_iload_n X.1 X.2.1 dX10_corner_10 rfl (lv_at hl 2 rfl) ?_
    refine r_case (tgt := 44) (off := 33) 0 X.1 X.2.1 dX10_corner_11 (by decide) (by decide) rfl (by decide) h (fun h => ?_) (fun n0 h => ?_)
    · refine lv_aload_n X.1 X.2.1 dX10_corner_44 rfl (lv_at hl 0 rfl) ?_
      refine r_gR X hV fl_X10_32_10 (by decide) dX10_corner_45 h (fun v2 h => ?_)
      refine lv_iload_n X.1 X.2.1 dX10_corner_48 rfl (lv_at hl 1 rfl) ?_
      refine r_ia X hV dX10_corner_49 h (fun v3 h => ?_)
      exact r_iret X hV hF h dX10_corner_50
    refine r_case (tgt := 51) (off := 40) 1 X.1 X.2.1 dX10_corner_11 (by decide) (by decide) rfl (by decide) h (fun h => ?_) (fun n1 h => ?_)
    · refine lv_aload_n X.1 X.2.1 dX10_corner_51 rfl (lv_at hl 0 rfl) ?_
      refine r_gR X hV fl_X10_32_10 (by decide) dX10_corner_52 h (fun v4 h => ?_)
      refine lv_iload_n X.1 X.2.1 dX10_corner_55 rfl (lv_at hl 1 rfl) ?_
      refine r_ia X hV dX10_corner_56 h (fun v5 h => ?_)
      refine lv_iconst (v := (-1)) X.1 X.2.1 dX10_corner_57 (by decide) ?_
      refine r_ne (tgt := 65) X.1 X.2.1 dX10_corner_58 (by decide) h (fun h => ?_) (fun h => ?_)
      · refine lv_aload_n X.1 X.2.1 dX10_corner_65 rfl (lv_at hl 0 rfl) ?_
        refine r_gR X hV fl_X10_35_10 (by decide) dX10_corner_66 h (fun v6 h => ?_)
        refine lv_iload_n X.1 X.2.1 dX10_corner_69 rfl (lv_at hl 1 rfl) ?_
        refine r_ia X hV dX10_corner_70 h (fun v7 h => ?_)
        exact r_iret X hV hF h dX10_corner_71
      · refine lv_iconst (v := (-1)) X.1 X.2.1 dX10_corner_61 (by decide) ?_
        refine lv_goto (tgt := 71) X.1 X.2.1 dX10_corner_62 (by decide) ?_
        exact r_iret X hV hF h dX10_corner_71
    refine r_case (tgt := 72) (off := 61) 2 X.1 X.2.1 dX10_corner_11 (by decide) (by decide) rfl (by decide) h (fun h => ?_) (fun n2 h => ?_)
    · refine lv_aload_n X.1 X.2.1 dX10_corner_72 rfl (lv_at hl 0 rfl) ?_
      refine r_gR X hV fl_X10_38_10 (by decide) dX10_corner_73 h (fun v8 h => ?_)
      refine lv_iload_n X.1 X.2.1 dX10_corner_76 rfl (lv_at hl 1 rfl) ?_
      refine r_ia X hV dX10_corner_77 h (fun v9 h => ?_)
      exact r_iret X hV hF h dX10_corner_78
    refine r_case (tgt := 79) (off := 68) 3 X.1 X.2.1 dX10_corner_11 (by decide) (by decide) rfl (by decide) h (fun h => ?_) (fun n3 h => ?_)
    · refine lv_aload_n X.1 X.2.1 dX10_corner_79 rfl (lv_at hl 0 rfl) ?_
      refine r_gR X hV fl_X10_38_10 (by decide) dX10_corner_80 h (fun v10 h => ?_)
      refine lv_iload_n X.1 X.2.1 dX10_corner_83 rfl (lv_at hl 1 rfl) ?_
      refine r_ia X hV dX10_corner_84 h (fun v11 h => ?_)
      refine lv_iconst (v := (-1)) X.1 X.2.1 dX10_corner_85 (by decide) ?_
      refine r_ne (tgt := 93) X.1 X.2.1 dX10_corner_86 (by decide) h (fun h => ?_) (fun h => ?_)
      · refine lv_aload_n X.1 X.2.1 dX10_corner_93 rfl (lv_at hl 0 rfl) ?_
        refine r_gR X hV fl_X10_41_10 (by decide) dX10_corner_94 h (fun v12 h => ?_)
        refine lv_iload_n X.1 X.2.1 dX10_corner_97 rfl (lv_at hl 1 rfl) ?_
        refine r_ia X hV dX10_corner_98 h (fun v13 h => ?_)
        exact r_iret X hV hF h dX10_corner_99
      · refine lv_iconst (v := (-1)) X.1 X.2.1 dX10_corner_89 (by decide) ?_
        refine lv_goto (tgt := 99) X.1 X.2.1 dX10_corner_90 (by decide) ?_
        exact r_iret X hV hF h dX10_corner_99
    refine r_case (tgt := 100) (off := 89) 4 X.1 X.2.1 dX10_corner_11 (by decide) (by decide) rfl (by decide) h (fun h => ?_) (fun n4 h => ?_)
    · refine lv_aload_n X.1 X.2.1 dX10_corner_100 rfl (lv_at hl 0 rfl) ?_
      refine r_gR X hV fl_X10_44_10 (by decide) dX10_corner_101 h (fun v14 h => ?_)
      refine lv_iload_n X.1 X.2.1 dX10_corner_104 rfl (lv_at hl 1 rfl) ?_
      refine r_ia X hV dX10_corner_105 h (fun v15 h => ?_)
      exact r_iret X hV hF h dX10_corner_106
    refine lv_tableOut (tgt := 107) X.1 X.2.1 dX10_corner_11 (tsw_out (n := 5) (by decide) (fun i hi => by
      match i, hi with
      | 0, _ => exact n0
      | 1, _ => exact n1
      | 2, _ => exact n2
      | 3, _ => exact n3
      | 4, _ => exact n4)) (by decide) ?_
    refine lv_bipush (v := (-3)) X.1 X.2.1 dX10_corner_107 (by decide) ?_
    exact r_iret X hV hF h dX10_corner_109
  · refine lv_bipush (v := (-2)) X.1 X.2.1 dX10_corner_7 (by decide) ?_
    exact r_iret X hV hF h dX10_corner_9
/-! PalaceOfRoomsModel.where -/
theorem dX10_where_0 : decode cX10_where 0 = .ok (.iload_n 1, 1) := by decide +kernel
theorem dX10_where_1 : decode cX10_where 1 = .ok (.invokestatic 112, 3) := by decide +kernel
theorem dX10_where_4 : decode cX10_where 4 = .ok (.ifCond .eq 11, 3) := by decide +kernel
theorem dX10_where_7 : decode cX10_where 7 = .ok (.aload_n 0, 1) := by decide +kernel
theorem dX10_where_8 : decode cX10_where 8 = .ok (.iload_n 1, 1) := by decide +kernel
theorem dX10_where_9 : decode cX10_where 9 = .ok (.invokevirtual 121, 3) := by decide +kernel
theorem dX10_where_12 : decode cX10_where 12 = .ok (.goto 5, 3) := by decide +kernel
theorem dX10_where_15 : decode cX10_where 15 = .ok (.bipush (-2), 2) := by decide +kernel
theorem dX10_where_17 : decode cX10_where 17 = .ok (.ireturn, 1) := by decide +kernel
theorem yd_X10_where : yX10_where.cls ≠ "java/lang/invoke/MethodHandle" ∧ yX10_where.cls ≠ "java/lang/invoke/VarHandle" ∧ (parseMethodDescriptor yX10_where.desc).map (fun d => d.parameters.length) = some 1 := by decide +kernel
abbrev rm_X10_where : Room := { frames := 2, cells := 0, slots := 0, locals := 42 }
set_option maxHeartbeats 4000000 in
theorem c_X10_where (l : Launch) {g : Gl} {σ : Hp} {x0 : Nat} {x1 : Int32} {r : Int32 × Hp} (h : F_X10_where σ x0 x1 = some r) : Met l yX10_where (ws_ yX10_where cX10_where 2 (some .int)) rm_X10_where (va_Pc [.ref x0, .int x1] (WV g σ)) (Qi g r) 0 0 (frN g) := by
  refine ct_of (by decide) (Nat.le_of_ble_eq_true rfl) ?_
  intro p e s m below meth c ls X hV hl
  have hF : FR g [] := FR_nil
  unfold F_X10_where at h
  have hl : lv_has ls 2 [(0, .ref x0), (1, .int x1)] := hl
  have X : FX g p m c s _ meth cX10_where 2 RX10 (some .int) "where" := X
  obtain ⟨-, h⟩ := gd_inv h
  refine lv_iload_n X.1 X.2.1 dX10_where_0 rfl (lv_at hl 1 rfl) ?_
  obtain ⟨v1, s1, hc, h⟩ := b2_inv h
  refine r_ci (va_runS (As := [.int x1]) (rest := []) (cfX X) (c_X10_isThing l hc) (va_cwS 1 X.2.2.2.2.1 (lw_S q1123 q1124 q59 q1125) rfl rfl rfl yd_X10_isThing ⟨Nat.le_of_ble_eq_true rfl, Nat.le_of_ble_eq_true rfl⟩) (preS X hV) rfl rfl hl.1 rfl (lv_room (Nat.le_of_ble_eq_true rfl)) dX10_where_1 ⟨(Nat.le_of_ble_eq_true rfl), (Nat.le_of_ble_eq_true rfl)⟩) hF (fun H locs hV hF => ?_)
  refine r_ifeq (tgt := 15) X.1 X.2.1 dX10_where_4 (by decide) h (fun h => ?_) (fun h => ?_)
  · refine lv_bipush (v := (-2)) X.1 X.2.1 dX10_where_15 (by decide) ?_
    exact r_iret X hV hF h dX10_where_17
  · refine lv_aload_n X.1 X.2.1 dX10_where_7 rfl (lv_at hl 0 rfl) ?_
    refine lv_iload_n X.1 X.2.1 dX10_where_8 rfl (lv_at hl 1 rfl) ?_
    obtain ⟨v2, s2, hc, h⟩ := b2_inv h
    refine r_ci (va_runV (C := RX10) (As := [.int x1]) (rest := []) (cfX X) (c_X10_cornerOf l hc) (cwV 1 X.2.2.2.2.1 (lw_V q1149 q1151 qs25 q59 q1152) rfl rfl rfl ⟨rfl, yd_X10_cornerOf⟩ ⟨Nat.le_of_ble_eq_true rfl, Nat.le_of_ble_eq_true rfl⟩) (preV X hV (F_X10_cornerOf_g hc) rfl) rfl rfl hl.1 rfl (lv_room (Nat.le_of_ble_eq_true rfl)) dX10_where_9 ⟨(Nat.le_of_ble_eq_true rfl), (Nat.le_of_ble_eq_true rfl)⟩) hF (fun H locs hV hF => ?_)
    refine lv_goto (tgt := 17) X.1 X.2.1 dX10_where_12 (by decide) ?_
    exact r_iret X hV hF h dX10_where_17
/-! PalaceOfRoomsModel.lookAhead -/
theorem dX10_lookAhead_0 : decode cX10_lookAhead 0 = .ok (.iconst 0, 1) := by decide +kernel
theorem dX10_lookAhead_1 : decode cX10_lookAhead 1 = .ok (.istore_n 1, 1) := by decide +kernel
theorem dX10_lookAhead_2 : decode cX10_lookAhead 2 = .ok (.iload_n 1, 1) := by decide +kernel
theorem dX10_lookAhead_3 : decode cX10_lookAhead 3 = .ok (.bipush 48, 2) := by decide +kernel
theorem dX10_lookAhead_5 : decode cX10_lookAhead 5 = .ok (.if_icmp .ge 61, 3) := by decide +kernel
theorem dX10_lookAhead_8 : decode cX10_lookAhead 8 = .ok (.aload_n 0, 1) := by decide +kernel
theorem dX10_lookAhead_9 : decode cX10_lookAhead 9 = .ok (.getfield 50, 3) := by decide +kernel
theorem dX10_lookAhead_12 : decode cX10_lookAhead 12 = .ok (.iload_n 1, 1) := by decide +kernel
theorem dX10_lookAhead_13 : decode cX10_lookAhead 13 = .ok (.aload_n 0, 1) := by decide +kernel
theorem dX10_lookAhead_14 : decode cX10_lookAhead 14 = .ok (.getfield 32, 3) := by decide +kernel
theorem dX10_lookAhead_17 : decode cX10_lookAhead 17 = .ok (.iload_n 1, 1) := by decide +kernel
theorem dX10_lookAhead_18 : decode cX10_lookAhead 18 = .ok (.iaload, 1) := by decide +kernel
theorem dX10_lookAhead_19 : decode cX10_lookAhead 19 = .ok (.iconst (-1), 1) := by decide +kernel
theorem dX10_lookAhead_20 : decode cX10_lookAhead 20 = .ok (.if_icmp .ne 7, 3) := by decide +kernel
theorem dX10_lookAhead_23 : decode cX10_lookAhead 23 = .ok (.iconst 0, 1) := by decide +kernel
theorem dX10_lookAhead_24 : decode cX10_lookAhead 24 = .ok (.goto 9, 3) := by decide +kernel
theorem dX10_lookAhead_27 : decode cX10_lookAhead 27 = .ok (.aload_n 0, 1) := by decide +kernel
theorem dX10_lookAhead_28 : decode cX10_lookAhead 28 = .ok (.getfield 35, 3) := by decide +kernel
theorem dX10_lookAhead_31 : decode cX10_lookAhead 31 = .ok (.iload_n 1, 1) := by decide +kernel
theorem dX10_lookAhead_32 : decode cX10_lookAhead 32 = .ok (.iaload, 1) := by decide +kernel
theorem dX10_lookAhead_33 : decode cX10_lookAhead 33 = .ok (.iastore, 1) := by decide +kernel
theorem dX10_lookAhead_34 : decode cX10_lookAhead 34 = .ok (.aload_n 0, 1) := by decide +kernel
theorem dX10_lookAhead_35 : decode cX10_lookAhead 35 = .ok (.getfield 53, 3) := by decide +kernel
theorem dX10_lookAhead_38 : decode cX10_lookAhead 38 = .ok (.iload_n 1, 1) := by decide +kernel
theorem dX10_lookAhead_39 : decode cX10_lookAhead 39 = .ok (.aload_n 0, 1) := by decide +kernel
theorem dX10_lookAhead_40 : decode cX10_lookAhead 40 = .ok (.getfield 38, 3) := by decide +kernel
theorem dX10_lookAhead_43 : decode cX10_lookAhead 43 = .ok (.iload_n 1, 1) := by decide +kernel
theorem dX10_lookAhead_44 : decode cX10_lookAhead 44 = .ok (.iaload, 1) := by decide +kernel
theorem dX10_lookAhead_45 : decode cX10_lookAhead 45 = .ok (.iconst (-1), 1) := by decide +kernel
theorem dX10_lookAhead_46 : decode cX10_lookAhead 46 = .ok (.if_icmp .ne 7, 3) := by decide +kernel
theorem dX10_lookAhead_49 : decode cX10_lookAhead 49 = .ok (.iconst 0, 1) := by decide +kernel
theorem dX10_lookAhead_50 : decode cX10_lookAhead 50 = .ok (.goto 9, 3) := by decide +kernel
theorem dX10_lookAhead_53 : decode cX10_lookAhead 53 = .ok (.aload_n 0, 1) := by decide +kernel
theorem dX10_lookAhead_54 : decode cX10_lookAhead 54 = .ok (.getfield 41, 3) := by decide +kernel
theorem dX10_lookAhead_57 : decode cX10_lookAhead 57 = .ok (.iload_n 1, 1) := by decide +kernel
theorem dX10_lookAhead_58 : decode cX10_lookAhead 58 = .ok (.iaload, 1) := by decide +kernel
theorem dX10_lookAhead_59 : decode cX10_lookAhead 59 = .ok (.iastore, 1) := by decide +kernel
theorem dX10_lookAhead_60 : decode cX10_lookAhead 60 = .ok (.iinc 1 1, 3) := by decide +kernel
theorem dX10_lookAhead_63 : decode cX10_lookAhead 63 = .ok (.goto (-61), 3) := by decide +kernel
theorem dX10_lookAhead_66 : decode cX10_lookAhead 66 = .ok (.return_, 1) := by decide +kernel
theorem yd_X10_lookAhead : yX10_lookAhead.cls ≠ "java/lang/invoke/MethodHandle" ∧ yX10_lookAhead.cls ≠ "java/lang/invoke/VarHandle" ∧ (parseMethodDescriptor yX10_lookAhead.desc).map (fun d => d.parameters.length) = some 0 := by decide +kernel
theorem fl_X10_53_10 : FLk RX10 53 10 16 "[I" := ⟨RX10, TX10, 39, "PalaceOfRoomsModel", rfl, by decide, (fun q => by have h1 := q.1; have h2 := q.2; omega), rfl, in_X10, Or.inl q995, Or.inl rfl⟩
theorem fl_X10_50_10 : FLk RX10 50 10 15 "[I" := ⟨RX10, TX10, 39, "PalaceOfRoomsModel", rfl, by decide, (fun q => by have h1 := q.1; have h2 := q.2; omega), rfl, in_X10, Or.inl q994, Or.inl rfl⟩
abbrev rm_X10_lookAhead : Room := { frames := 0, cells := 0, slots := 0, locals := 0 }
set_option maxHeartbeats 4000000 in
theorem w_X10_lookAhead_33 {p : Program} {l : Launch} {e : Env} {s : State} {m : MethodId} {args : Array Value} {below : List Frame} {meth : Method} {c : Code} {g : Gl} (X : FX g p m c s args meth cX10_lookAhead 2 RX10 none "lookAhead") {r : Hp} {rec2 : Hp × Int32 → Option (Hp)} {σ : Hp} {x0 : Nat} {x1 : Int32} {y0 : Int32} {y1 : Int32} {y2 : Nat} (hr2 : ∀ (st : Hp × Int32), rec2 st = some r → ∀ (H : Heap) (locs : List Loc) (ls : Array Slot), HV g st.1 H → FR g locs → lv_has ls 2 [(0, .ref x0), (1, .int st.2)] → W p l e rm_X10_lookAhead s m args below meth c H locs 0 0 (MQ below (Qv g r) args s 0 0 (frN g)) (F0 m 2 ls [])) {H : Heap} {locs : List Loc} {ls : Array Slot} (h : F_X10_lookAhead_33 rec2 σ x0 x1 y0 y1 y2 = some r) (hV : HV g σ H) (hF : FR g locs) (hl : lv_has ls 2 [(0, .ref x0), (1, .int x1)]) : W p l e rm_X10_lookAhead s m args below meth c H locs 0 0 (MQ below (Qv g r) args s 0 0 (frN g)) (F0 m 33 ls [.int y0, .int y1, .ref y2]) := by
  unfold F_X10_lookAhead_33 at h
  refine r_is X hV hF dX10_lookAhead_33 h (fun s1 H locs hV hF h => ?_)
  refine lv_aload_n X.1 X.2.1 dX10_lookAhead_34 rfl (lv_at hl 0 rfl) ?_
  refine r_gR X hV fl_X10_53_10 (by decide) dX10_lookAhead_35 h (fun v1 h => ?_)
  refine lv_iload_n X.1 X.2.1 dX10_lookAhead_38 rfl (lv_at hl 1 rfl) ?_
  refine lv_aload_n X.1 X.2.1 dX10_lookAhead_39 rfl (lv_at hl 0 rfl) ?_
  refine r_gR X hV fl_X10_38_10 (by decide) dX10_lookAhead_40 h (fun v2 h => ?_)
  refine lv_iload_n X.1 X.2.1 dX10_lookAhead_43 rfl (lv_at hl 1 rfl) ?_
  refine r_ia X hV dX10_lookAhead_44 h (fun v3 h => ?_)
  refine lv_iconst (v := (-1)) X.1 X.2.1 dX10_lookAhead_45 (by decide) ?_
  refine r_ne (tgt := 53) X.1 X.2.1 dX10_lookAhead_46 (by decide) h (fun h => ?_) (fun h => ?_)
  · refine lv_aload_n X.1 X.2.1 dX10_lookAhead_53 rfl (lv_at hl 0 rfl) ?_
    refine r_gR X hV fl_X10_41_10 (by decide) dX10_lookAhead_54 h (fun v4 h => ?_)
    refine lv_iload_n X.1 X.2.1 dX10_lookAhead_57 rfl (lv_at hl 1 rfl) ?_
    refine r_ia X hV dX10_lookAhead_58 h (fun v5 h => ?_)
    refine r_is X hV hF dX10_lookAhead_59 h (fun s2 H locs hV hF h => ?_)
    refine lv_iinc (v := x1 + 1) (lv' := [(1, .int (x1 + 1)), (0, .ref x0)]) X.1 X.2.1 dX10_lookAhead_60 hl (k := 1) rfl rfl (by decide) rfl (fun ls hl => ?_)
    refine lv_goto (tgt := 2) X.1 X.2.1 dX10_lookAhead_63 (by decide) ?_
    exact hr2 (s2, x1 + 1) h _ _ _ hV hF (lv_sub hl [1, 0] rfl)
  · refine lv_iconst (v := 0) X.1 X.2.1 dX10_lookAhead_49 (by decide) ?_
    refine lv_goto (tgt := 59) X.1 X.2.1 dX10_lookAhead_50 (by decide) ?_
    refine r_is X hV hF dX10_lookAhead_59 h (fun s3 H locs hV hF h => ?_)
    refine lv_iinc (v := x1 + 1) (lv' := [(1, .int (x1 + 1)), (0, .ref x0)]) X.1 X.2.1 dX10_lookAhead_60 hl (k := 1) rfl rfl (by decide) rfl (fun ls hl => ?_)
    refine lv_goto (tgt := 2) X.1 X.2.1 dX10_lookAhead_63 (by decide) ?_
    exact hr2 (s3, x1 + 1) h _ _ _ hV hF (lv_sub hl [1, 0] rfl)
set_option maxHeartbeats 4000000 in
theorem w_X10_lookAhead_2_b {p : Program} {l : Launch} {e : Env} {s : State} {m : MethodId} {args : Array Value} {below : List Frame} {meth : Method} {c : Code} {g : Gl} (X : FX g p m c s args meth cX10_lookAhead 2 RX10 none "lookAhead") {r : Hp} {rec2 : Hp × Int32 → Option (Hp)} {x0 : Nat} {σ : Hp} {x1 : Int32} (hr2 : ∀ (st : Hp × Int32), rec2 st = some r → ∀ (H : Heap) (locs : List Loc) (ls : Array Slot), HV g st.1 H → FR g locs → lv_has ls 2 [(0, .ref x0), (1, .int st.2)] → W p l e rm_X10_lookAhead s m args below meth c H locs 0 0 (MQ below (Qv g r) args s 0 0 (frN g)) (F0 m 2 ls [])) {H : Heap} {locs : List Loc} {ls : Array Slot} (h : B_X10_lookAhead_2 x0 rec2 σ x1 = some r) (hV : HV g σ H) (hF : FR g locs) (hl : lv_has ls 2 [(0, .ref x0), (1, .int x1)]) : W p l e rm_X10_lookAhead s m args below meth c H locs 0 0 (MQ below (Qv g r) args s 0 0 (frN g)) (F0 m 2 ls []) := by
  unfold B_X10_lookAhead_2 at h
  refine lv_iload_n X.1 X.2.1 dX10_lookAhead_2 rfl (lv_at hl 1 rfl) ?_
  refine lv_bipush (v := 48) X.1 X.2.1 dX10_lookAhead_3 (by decide) ?_
  refine r_ge (tgt := 66) X.1 X.2.1 dX10_lookAhead_5 (by decide) h (fun h => ?_) (fun h => ?_)
  · exact r_vret X hV hF h dX10_lookAhead_66
  · refine lv_aload_n X.1 X.2.1 dX10_lookAhead_8 rfl (lv_at hl 0 rfl) ?_
    refine r_gR X hV fl_X10_50_10 (by decide) dX10_lookAhead_9 h (fun v1 h => ?_)
    refine lv_iload_n X.1 X.2.1 dX10_lookAhead_12 rfl (lv_at hl 1 rfl) ?_
    refine lv_aload_n X.1 X.2.1 dX10_lookAhead_13 rfl (lv_at hl 0 rfl) ?_
    refine r_gR X hV fl_X10_32_10 (by decide) dX10_lookAhead_14 h (fun v2 h => ?_)
    refine lv_iload_n X.1 X.2.1 dX10_lookAhead_17 rfl (lv_at hl 1 rfl) ?_
    refine r_ia X hV dX10_lookAhead_18 h (fun v3 h => ?_)
    refine lv_iconst (v := (-1)) X.1 X.2.1 dX10_lookAhead_19 (by decide) ?_
    refine r_ne (tgt := 27) X.1 X.2.1 dX10_lookAhead_20 (by decide) h (fun h => ?_) (fun h => ?_)
    · refine lv_aload_n X.1 X.2.1 dX10_lookAhead_27 rfl (lv_at hl 0 rfl) ?_
      refine r_gR X hV fl_X10_35_10 (by decide) dX10_lookAhead_28 h (fun v4 h => ?_)
      refine lv_iload_n X.1 X.2.1 dX10_lookAhead_31 rfl (lv_at hl 1 rfl) ?_
      refine r_ia X hV dX10_lookAhead_32 h (fun v5 h => ?_)
      exact w_X10_lookAhead_33 X hr2 h hV hF (lv_sub hl [0, 1] rfl)
    · refine lv_iconst (v := 0) X.1 X.2.1 dX10_lookAhead_23 (by decide) ?_
      refine lv_goto (tgt := 33) X.1 X.2.1 dX10_lookAhead_24 (by decide) ?_
      exact w_X10_lookAhead_33 X hr2 h hV hF (lv_sub hl [0, 1] rfl)
set_option maxHeartbeats 4000000 in
theorem w_X10_lookAhead_2 {p : Program} {l : Launch} {e : Env} {s : State} {m : MethodId} {args : Array Value} {below : List Frame} {meth : Method} {c : Code} {g : Gl} (X : FX g p m c s args meth cX10_lookAhead 2 RX10 none "lookAhead") {r : Hp} {x0 : Nat}  : ∀ (n : Nat) (st : Hp × Int32), L_X10_lookAhead_2 x0 n st = some r → ∀ (H : Heap) (locs : List Loc) (ls : Array Slot), HV g st.1 H → FR g locs → lv_has ls 2 [(0, .ref x0), (1, .int st.2)] → W p l e rm_X10_lookAhead s m args below meth c H locs 0 0 (MQ below (Qv g r) args s 0 0 (frN g)) (F0 m 2 ls []) := by
  intro n
  induction n with
  | zero =>
    intro st h
    rw [L_X10_lookAhead_2_0] at h
    cases h
  | succ n ih =>
    intro st h H locs ls hV hF hl
    rw [L_X10_lookAhead_2_s] at h
    exact w_X10_lookAhead_2_b X  ih h hV hF hl
set_option maxHeartbeats 4000000 in
theorem c_X10_lookAhead (l : Launch) {g : Gl} {σ : Hp} {x0 : Nat} {r : Hp} (h : F_X10_lookAhead σ x0 = some r) : Met l yX10_lookAhead (ws_ yX10_lookAhead cX10_lookAhead 2 none) rm_X10_lookAhead (va_Pc [.ref x0] (WV g σ)) (Qv g r) 0 0 (frN g) := by
  refine ct_of (by decide) (Nat.le_of_ble_eq_true rfl) ?_
  intro p e s m below meth c ls X hV hl
  have hF : FR g [] := FR_nil
  unfold F_X10_lookAhead at h
  have hl : lv_has ls 2 [(0, .ref x0)] := hl
  have X : FX g p m c s _ meth cX10_lookAhead 2 RX10 none "lookAhead" := X
  obtain ⟨-, h⟩ := gd_inv h
  refine lv_iconst (v := 0) X.1 X.2.1 dX10_lookAhead_0 (by decide) ?_
  refine lv_istore_n (lv' := [(1, .int 0), (0, .ref x0)]) X.1 X.2.1 dX10_lookAhead_1 rfl hl (by decide) rfl (fun ls hl => ?_)
  exact w_X10_lookAhead_2 X  FU (σ, 0) h _ _ _ hV hF (lv_sub hl [1, 0] rfl)
/-! PalaceOfRoomsModel.likeBeside -/
theorem dX10_likeBeside_0 : decode cX10_likeBeside 0 = .ok (.iconst 0, 1) := by decide +kernel
theorem dX10_likeBeside_1 : decode cX10_likeBeside 1 = .ok (.istore_n 2, 1) := by decide +kernel
theorem dX10_likeBeside_2 : decode cX10_likeBeside 2 = .ok (.iload_n 1, 1) := by decide +kernel
theorem dX10_likeBeside_3 : decode cX10_likeBeside 3 = .ok (.bipush 6, 2) := by decide +kernel
theorem dX10_likeBeside_5 : decode cX10_likeBeside 5 = .ok (.idiv, 1) := by decide +kernel
theorem dX10_likeBeside_6 : decode cX10_likeBeside 6 = .ok (.bipush 6, 2) := by decide +kernel
theorem dX10_likeBeside_8 : decode cX10_likeBeside 8 = .ok (.imul, 1) := by decide +kernel
theorem dX10_likeBeside_9 : decode cX10_likeBeside 9 = .ok (.istore_n 3, 1) := by decide +kernel
theorem dX10_likeBeside_10 : decode cX10_likeBeside 10 = .ok (.iload_n 3, 1) := by decide +kernel
theorem dX10_likeBeside_11 : decode cX10_likeBeside 11 = .ok (.iload_n 1, 1) := by decide +kernel
theorem dX10_likeBeside_12 : decode cX10_likeBeside 12 = .ok (.bipush 6, 2) := by decide +kernel
theorem dX10_likeBeside_14 : decode cX10_likeBeside 14 = .ok (.idiv, 1) := by decide +kernel
theorem dX10_likeBeside_15 : decode cX10_likeBeside 15 = .ok (.bipush 6, 2) := by decide +kernel
theorem dX10_likeBeside_17 : decode cX10_likeBeside 17 = .ok (.imul, 1) := by decide +kernel
theorem dX10_likeBeside_18 : decode cX10_likeBeside 18 = .ok (.bipush 6, 2) := by decide +kernel
theorem dX10_likeBeside_20 : decode cX10_likeBeside 20 = .ok (.iadd, 1) := by decide +kernel
theorem dX10_likeBeside_21 : decode cX10_likeBeside 21 = .ok (.if_icmp .ge 55, 3) := by decide +kernel
theorem dX10_likeBeside_24 : decode cX10_likeBeside 24 = .ok (.iload_n 2, 1) := by decide +kernel
theorem dX10_likeBeside_25 : decode cX10_likeBeside 25 = .ok (.iload_n 3, 1) := by decide +kernel
theorem dX10_likeBeside_26 : decode cX10_likeBeside 26 = .ok (.iload_n 1, 1) := by decide +kernel
theorem dX10_likeBeside_27 : decode cX10_likeBeside 27 = .ok (.if_icmp .eq 40, 3) := by decide +kernel
theorem dX10_likeBeside_30 : decode cX10_likeBeside 30 = .ok (.aload_n 0, 1) := by decide +kernel
theorem dX10_likeBeside_31 : decode cX10_likeBeside 31 = .ok (.getfield 32, 3) := by decide +kernel
theorem dX10_likeBeside_34 : decode cX10_likeBeside 34 = .ok (.iload_n 3, 1) := by decide +kernel
theorem dX10_likeBeside_35 : decode cX10_likeBeside 35 = .ok (.iaload, 1) := by decide +kernel
theorem dX10_likeBeside_36 : decode cX10_likeBeside 36 = .ok (.iconst (-1), 1) := by decide +kernel
theorem dX10_likeBeside_37 : decode cX10_likeBeside 37 = .ok (.if_icmp .eq 30, 3) := by decide +kernel
theorem dX10_likeBeside_40 : decode cX10_likeBeside 40 = .ok (.aload_n 0, 1) := by decide +kernel
theorem dX10_likeBeside_41 : decode cX10_likeBeside 41 = .ok (.aload_n 0, 1) := by decide +kernel
theorem dX10_likeBeside_42 : decode cX10_likeBeside 42 = .ok (.getfield 32, 3) := by decide +kernel
theorem dX10_likeBeside_45 : decode cX10_likeBeside 45 = .ok (.iload_n 3, 1) := by decide +kernel
theorem dX10_likeBeside_46 : decode cX10_likeBeside 46 = .ok (.iaload, 1) := by decide +kernel
theorem dX10_likeBeside_47 : decode cX10_likeBeside 47 = .ok (.aload_n 0, 1) := by decide +kernel
theorem dX10_likeBeside_48 : decode cX10_likeBeside 48 = .ok (.getfield 32, 3) := by decide +kernel
theorem dX10_likeBeside_51 : decode cX10_likeBeside 51 = .ok (.iload_n 1, 1) := by decide +kernel
theorem dX10_likeBeside_52 : decode cX10_likeBeside 52 = .ok (.iaload, 1) := by decide +kernel
theorem dX10_likeBeside_53 : decode cX10_likeBeside 53 = .ok (.invokevirtual 115, 3) := by decide +kernel
theorem dX10_likeBeside_56 : decode cX10_likeBeside 56 = .ok (.aload_n 0, 1) := by decide +kernel
theorem dX10_likeBeside_57 : decode cX10_likeBeside 57 = .ok (.getfield 22, 3) := by decide +kernel
theorem dX10_likeBeside_60 : decode cX10_likeBeside 60 = .ok (.if_icmp .lt 7, 3) := by decide +kernel
theorem dX10_likeBeside_63 : decode cX10_likeBeside 63 = .ok (.iconst 1, 1) := by decide +kernel
theorem dX10_likeBeside_64 : decode cX10_likeBeside 64 = .ok (.goto 4, 3) := by decide +kernel
theorem dX10_likeBeside_67 : decode cX10_likeBeside 67 = .ok (.iconst 0, 1) := by decide +kernel
theorem dX10_likeBeside_68 : decode cX10_likeBeside 68 = .ok (.iadd, 1) := by decide +kernel
theorem dX10_likeBeside_69 : decode cX10_likeBeside 69 = .ok (.istore_n 2, 1) := by decide +kernel
theorem dX10_likeBeside_70 : decode cX10_likeBeside 70 = .ok (.iinc 3 1, 3) := by decide +kernel
theorem dX10_likeBeside_73 : decode cX10_likeBeside 73 = .ok (.goto (-63), 3) := by decide +kernel
theorem dX10_likeBeside_76 : decode cX10_likeBeside 76 = .ok (.iload_n 2, 1) := by decide +kernel
theorem dX10_likeBeside_77 : decode cX10_likeBeside 77 = .ok (.ireturn, 1) := by decide +kernel
theorem yd_X10_likeBeside : yX10_likeBeside.cls ≠ "java/lang/invoke/MethodHandle" ∧ yX10_likeBeside.cls ≠ "java/lang/invoke/VarHandle" ∧ (parseMethodDescriptor yX10_likeBeside.desc).map (fun d => d.parameters.length) = some 1 := by decide +kernel
abbrev rm_X10_likeBeside : Room := { frames := 1, cells := 0, slots := 0, locals := 25 }
set_option maxHeartbeats 4000000 in
theorem w_X10_likeBeside_10_b {p : Program} {l : Launch} {e : Env} {s : State} {m : MethodId} {args : Array Value} {below : List Frame} {meth : Method} {c : Code} {g : Gl} (X : FX g p m c s args meth cX10_likeBeside 4 RX10 (some .int) "likeBeside") {r : Int32 × Hp} {rec10 : Hp × Int32 × Int32 → Option (Int32 × Hp)} {x0 : Nat} {x1 : Int32} {σ : Hp} {x2 : Int32} {x3 : Int32} (hr10 : ∀ (st : Hp × Int32 × Int32), rec10 st = some r → ∀ (H : Heap) (locs : List Loc) (ls : Array Slot), HV g st.1 H → FR g locs → lv_has ls 4 [(0, .ref x0), (1, .int x1), (2, .int st.2.1), (3, .int st.2.2)] → W p l e rm_X10_likeBeside s m args below meth c H locs 0 0 (MQ below (Qi g r) args s 0 0 (frN g)) (F0 m 10 ls [])) {H : Heap} {locs : List Loc} {ls : Array Slot} (h : B_X10_likeBeside_10 x0 x1 rec10 σ x2 x3 = some r) (hV : HV g σ H) (hF : FR g locs) (hl : lv_has ls 4 [(0, .ref x0), (1, .int x1), (2, .int x2), (3, .int x3)]) : W p l e rm_X10_likeBeside s m args below meth c H locs 0 0 (MQ below (Qi g r) args s 0 0 (frN g)) (F0 m 10 ls []) := by
  unfold B_X10_likeBeside_10 at h
  refine lv_iload_n X.1 X.2.1 dX10_likeBeside_10 rfl (lv_at hl 3 rfl) ?_
  refine lv_iload_n X.1 X.2.1 dX10_likeBeside_11 rfl (lv_at hl 1 rfl) ?_
  refine lv_bipush (v := 6) X.1 X.2.1 dX10_likeBeside_12 (by decide) ?_
  refine lv_idiv X.1 X.2.1 dX10_likeBeside_14 (by decide) ?_
  refine lv_bipush (v := 6) X.1 X.2.1 dX10_likeBeside_15 (by decide) ?_
  refine lv_imul X.1 X.2.1 dX10_likeBeside_17 ?_
  refine lv_bipush (v := 6) X.1 X.2.1 dX10_likeBeside_18 (by decide) ?_
  refine lv_iadd X.1 X.2.1 dX10_likeBeside_20 ?_
  refine r_ge (tgt := 76) X.1 X.2.1 dX10_likeBeside_21 (by decide) h (fun h => ?_) (fun h => ?_)
  · refine lv_iload_n X.1 X.2.1 dX10_likeBeside_76 rfl (lv_at hl 2 rfl) ?_
    exact r_iret X hV hF h dX10_likeBeside_77
  · refine lv_iload_n X.1 X.2.1 dX10_likeBeside_24 rfl (lv_at hl 2 rfl) ?_
    refine lv_iload_n X.1 X.2.1 dX10_likeBeside_25 rfl (lv_at hl 3 rfl) ?_
    refine lv_iload_n X.1 X.2.1 dX10_likeBeside_26 rfl (lv_at hl 1 rfl) ?_
    refine r_eq (tgt := 67) X.1 X.2.1 dX10_likeBeside_27 (by decide) h (fun h => ?_) (fun h => ?_)
    · refine lv_iconst (v := 0) X.1 X.2.1 dX10_likeBeside_67 (by decide) ?_
      refine lv_iadd X.1 X.2.1 dX10_likeBeside_68 ?_
      refine lv_istore_n (lv' := [(2, .int (x2 + 0)), (0, .ref x0), (1, .int x1), (3, .int x3)]) X.1 X.2.1 dX10_likeBeside_69 rfl hl (by decide) rfl (fun ls hl => ?_)
      refine lv_iinc (v := x3 + 1) (lv' := [(3, .int (x3 + 1)), (2, .int (x2 + 0)), (0, .ref x0), (1, .int x1)]) X.1 X.2.1 dX10_likeBeside_70 hl (k := 3) rfl rfl (by decide) rfl (fun ls hl => ?_)
      refine lv_goto (tgt := 10) X.1 X.2.1 dX10_likeBeside_73 (by decide) ?_
      exact hr10 (σ, x2 + 0, x3 + 1) h _ _ _ hV hF (lv_sub hl [2, 3, 1, 0] rfl)
    · refine lv_aload_n X.1 X.2.1 dX10_likeBeside_30 rfl (lv_at hl 0 rfl) ?_
      refine r_gR X hV fl_X10_32_10 (by decide) dX10_likeBeside_31 h (fun v1 h => ?_)
      refine lv_iload_n X.1 X.2.1 dX10_likeBeside_34 rfl (lv_at hl 3 rfl) ?_
      refine r_ia X hV dX10_likeBeside_35 h (fun v2 h => ?_)
      refine lv_iconst (v := (-1)) X.1 X.2.1 dX10_likeBeside_36 (by decide) ?_
      refine r_eq (tgt := 67) X.1 X.2.1 dX10_likeBeside_37 (by decide) h (fun h => ?_) (fun h => ?_)
      · refine lv_iconst (v := 0) X.1 X.2.1 dX10_likeBeside_67 (by decide) ?_
        refine lv_iadd X.1 X.2.1 dX10_likeBeside_68 ?_
        refine lv_istore_n (lv' := [(2, .int (x2 + 0)), (0, .ref x0), (1, .int x1), (3, .int x3)]) X.1 X.2.1 dX10_likeBeside_69 rfl hl (by decide) rfl (fun ls hl => ?_)
        refine lv_iinc (v := x3 + 1) (lv' := [(3, .int (x3 + 1)), (2, .int (x2 + 0)), (0, .ref x0), (1, .int x1)]) X.1 X.2.1 dX10_likeBeside_70 hl (k := 3) rfl rfl (by decide) rfl (fun ls hl => ?_)
        refine lv_goto (tgt := 10) X.1 X.2.1 dX10_likeBeside_73 (by decide) ?_
        exact hr10 (σ, x2 + 0, x3 + 1) h _ _ _ hV hF (lv_sub hl [2, 3, 1, 0] rfl)
      · refine lv_aload_n X.1 X.2.1 dX10_likeBeside_40 rfl (lv_at hl 0 rfl) ?_
        refine lv_aload_n X.1 X.2.1 dX10_likeBeside_41 rfl (lv_at hl 0 rfl) ?_
        refine r_gR X hV fl_X10_32_10 (by decide) dX10_likeBeside_42 h (fun v3 h => ?_)
        refine lv_iload_n X.1 X.2.1 dX10_likeBeside_45 rfl (lv_at hl 3 rfl) ?_
        refine r_ia X hV dX10_likeBeside_46 h (fun v4 h => ?_)
        refine lv_aload_n X.1 X.2.1 dX10_likeBeside_47 rfl (lv_at hl 0 rfl) ?_
        refine r_gR X hV fl_X10_32_10 (by decide) dX10_likeBeside_48 h (fun v5 h => ?_)
        refine lv_iload_n X.1 X.2.1 dX10_likeBeside_51 rfl (lv_at hl 1 rfl) ?_
        refine r_ia X hV dX10_likeBeside_52 h (fun v6 h => ?_)
        obtain ⟨v7, s1, hc, h⟩ := b2_inv h
        refine r_ci (va_runV (C := RX10) (As := [.int v4, .int v6]) (rest := [.int x2]) (cfX X) (c_X10_likeness l hc) (cwV 2 X.2.2.2.2.1 (lw_V q1130 q1132 qs24 q59 q1133) rfl rfl rfl ⟨rfl, yd_X10_likeness⟩ ⟨Nat.le_of_ble_eq_true rfl, Nat.le_of_ble_eq_true rfl⟩) (preV X hV (F_X10_likeness_g hc) rfl) rfl rfl hl.1 rfl (lv_room (Nat.le_of_ble_eq_true rfl)) dX10_likeBeside_53 ⟨(Nat.le_of_ble_eq_true rfl), (Nat.le_of_ble_eq_true rfl)⟩) hF (fun H locs hV hF => ?_)
        refine lv_aload_n X.1 X.2.1 dX10_likeBeside_56 rfl (lv_at hl 0 rfl) ?_
        refine r_gI X hV fl_X10_22_10 dX10_likeBeside_57 h (fun v8 h => ?_)
        refine r_lt (tgt := 67) X.1 X.2.1 dX10_likeBeside_60 (by decide) h (fun h => ?_) (fun h => ?_)
        · refine lv_iconst (v := 0) X.1 X.2.1 dX10_likeBeside_67 (by decide) ?_
          refine lv_iadd X.1 X.2.1 dX10_likeBeside_68 ?_
          refine lv_istore_n (lv' := [(2, .int (x2 + 0)), (0, .ref x0), (1, .int x1), (3, .int x3)]) X.1 X.2.1 dX10_likeBeside_69 rfl hl (by decide) rfl (fun ls hl => ?_)
          refine lv_iinc (v := x3 + 1) (lv' := [(3, .int (x3 + 1)), (2, .int (x2 + 0)), (0, .ref x0), (1, .int x1)]) X.1 X.2.1 dX10_likeBeside_70 hl (k := 3) rfl rfl (by decide) rfl (fun ls hl => ?_)
          refine lv_goto (tgt := 10) X.1 X.2.1 dX10_likeBeside_73 (by decide) ?_
          exact hr10 (s1, x2 + 0, x3 + 1) h _ _ _ hV hF (lv_sub hl [2, 3, 1, 0] rfl)
        · refine lv_iconst (v := 1) X.1 X.2.1 dX10_likeBeside_63 (by decide) ?_
          refine lv_goto (tgt := 68) X.1 X.2.1 dX10_likeBeside_64 (by decide) ?_
          refine lv_iadd X.1 X.2.1 dX10_likeBeside_68 ?_
          refine lv_istore_n (lv' := [(2, .int (x2 + 1)), (0, .ref x0), (1, .int x1), (3, .int x3)]) X.1 X.2.1 dX10_likeBeside_69 rfl hl (by decide) rfl (fun ls hl => ?_)
          refine lv_iinc (v := x3 + 1) (lv' := [(3, .int (x3 + 1)), (2, .int (x2 + 1)), (0, .ref x0), (1, .int x1)]) X.1 X.2.1 dX10_likeBeside_70 hl (k := 3) rfl rfl (by decide) rfl (fun ls hl => ?_)
          refine lv_goto (tgt := 10) X.1 X.2.1 dX10_likeBeside_73 (by decide) ?_
          exact hr10 (s1, x2 + 1, x3 + 1) h _ _ _ hV hF (lv_sub hl [2, 3, 1, 0] rfl)
set_option maxHeartbeats 4000000 in
theorem w_X10_likeBeside_10 {p : Program} {l : Launch} {e : Env} {s : State} {m : MethodId} {args : Array Value} {below : List Frame} {meth : Method} {c : Code} {g : Gl} (X : FX g p m c s args meth cX10_likeBeside 4 RX10 (some .int) "likeBeside") {r : Int32 × Hp} {x0 : Nat} {x1 : Int32}  : ∀ (n : Nat) (st : Hp × Int32 × Int32), L_X10_likeBeside_10 x0 x1 n st = some r → ∀ (H : Heap) (locs : List Loc) (ls : Array Slot), HV g st.1 H → FR g locs → lv_has ls 4 [(0, .ref x0), (1, .int x1), (2, .int st.2.1), (3, .int st.2.2)] → W p l e rm_X10_likeBeside s m args below meth c H locs 0 0 (MQ below (Qi g r) args s 0 0 (frN g)) (F0 m 10 ls []) := by
  intro n
  induction n with
  | zero =>
    intro st h
    rw [L_X10_likeBeside_10_0] at h
    cases h
  | succ n ih =>
    intro st h H locs ls hV hF hl
    rw [L_X10_likeBeside_10_s] at h
    exact w_X10_likeBeside_10_b X  ih h hV hF hl
set_option maxHeartbeats 4000000 in
theorem c_X10_likeBeside (l : Launch) {g : Gl} {σ : Hp} {x0 : Nat} {x1 : Int32} {r : Int32 × Hp} (h : F_X10_likeBeside σ x0 x1 = some r) : Met l yX10_likeBeside (ws_ yX10_likeBeside cX10_likeBeside 4 (some .int)) rm_X10_likeBeside (va_Pc [.ref x0, .int x1] (WV g σ)) (Qi g r) 0 0 (frN g) := by
  refine ct_of (by decide) (Nat.le_of_ble_eq_true rfl) ?_
  intro p e s m below meth c ls X hV hl
  have hF : FR g [] := FR_nil
  unfold F_X10_likeBeside at h
  have hl : lv_has ls 4 [(0, .ref x0), (1, .int x1)] := hl
  have X : FX g p m c s _ meth cX10_likeBeside 4 RX10 (some .int) "likeBeside" := X
  obtain ⟨-, h⟩ := gd_inv h
  refine lv_iconst (v := 0) X.1 X.2.1 dX10_likeBeside_0 (by decide) ?_
  refine lv_istore_n (lv' := [(2, .int 0), (0, .ref x0), (1, .int x1)]) X.1 X.2.1 dX10_likeBeside_1 rfl hl (by decide) rfl (fun ls hl => ?_)
  refine lv_iload_n X.1 X.2.1 dX10_likeBeside_2 rfl (lv_at hl 2 rfl) ?_
  refine lv_bipush (v := 6) X.1 X.2.1 dX10_likeBeside_3 (by decide) ?_
  refine lv_idiv X.1 X.2.1 dX10_likeBeside_5 (by decide) ?_
  refine lv_bipush (v := 6) X.1 X.2.1 dX10_likeBeside_6 (by decide) ?_
  refine lv_imul X.1 X.2.1 dX10_likeBeside_8 ?_
  refine lv_istore_n (lv' := [(3, .int ((x1 / 6) * 6)), (2, .int 0), (0, .ref x0), (1, .int x1)]) X.1 X.2.1 dX10_likeBeside_9 rfl hl (by decide) rfl (fun ls hl => ?_)
  exact w_X10_likeBeside_10 X  FU (σ, 0, (x1 / 6) * 6) h _ _ _ hV hF (lv_sub hl [2, 3, 1, 0] rfl)
/-! PalaceOfRoomsModel.goDay -/
theorem dX10_goDay_0 : decode cX10_goDay 0 = .ok (.iconst 0, 1) := by decide +kernel
theorem dX10_goDay_1 : decode cX10_goDay 1 = .ok (.istore_n 3, 1) := by decide +kernel
theorem dX10_goDay_2 : decode cX10_goDay 2 = .ok (.iload_n 3, 1) := by decide +kernel
theorem dX10_goDay_3 : decode cX10_goDay 3 = .ok (.bipush 48, 2) := by decide +kernel
theorem dX10_goDay_5 : decode cX10_goDay 5 = .ok (.if_icmp .ge 117, 3) := by decide +kernel
theorem dX10_goDay_8 : decode cX10_goDay 8 = .ok (.aload_n 0, 1) := by decide +kernel
theorem dX10_goDay_9 : decode cX10_goDay 9 = .ok (.getfield 50, 3) := by decide +kernel
theorem dX10_goDay_12 : decode cX10_goDay 12 = .ok (.iload_n 1, 1) := by decide +kernel
theorem dX10_goDay_13 : decode cX10_goDay 13 = .ok (.iload_n 3, 1) := by decide +kernel
theorem dX10_goDay_14 : decode cX10_goDay 14 = .ok (.iadd, 1) := by decide +kernel
theorem dX10_goDay_15 : decode cX10_goDay 15 = .ok (.iaload, 1) := by decide +kernel
theorem dX10_goDay_16 : decode cX10_goDay 16 = .ok (.istore 4, 2) := by decide +kernel
theorem dX10_goDay_18 : decode cX10_goDay 18 = .ok (.aload_n 0, 1) := by decide +kernel
theorem dX10_goDay_19 : decode cX10_goDay 19 = .ok (.getfield 53, 3) := by decide +kernel
theorem dX10_goDay_22 : decode cX10_goDay 22 = .ok (.iload_n 1, 1) := by decide +kernel
theorem dX10_goDay_23 : decode cX10_goDay 23 = .ok (.iload_n 3, 1) := by decide +kernel
theorem dX10_goDay_24 : decode cX10_goDay 24 = .ok (.iadd, 1) := by decide +kernel
theorem dX10_goDay_25 : decode cX10_goDay 25 = .ok (.iaload, 1) := by decide +kernel
theorem dX10_goDay_26 : decode cX10_goDay 26 = .ok (.istore 5, 2) := by decide +kernel
theorem dX10_goDay_28 : decode cX10_goDay 28 = .ok (.aload_n 0, 1) := by decide +kernel
theorem dX10_goDay_29 : decode cX10_goDay 29 = .ok (.getfield 32, 3) := by decide +kernel
theorem dX10_goDay_32 : decode cX10_goDay 32 = .ok (.iload_n 3, 1) := by decide +kernel
theorem dX10_goDay_33 : decode cX10_goDay 33 = .ok (.iaload, 1) := by decide +kernel
theorem dX10_goDay_34 : decode cX10_goDay 34 = .ok (.iconst (-1), 1) := by decide +kernel
theorem dX10_goDay_35 : decode cX10_goDay 35 = .ok (.if_icmp .ne 7, 3) := by decide +kernel
theorem dX10_goDay_38 : decode cX10_goDay 38 = .ok (.iconst 0, 1) := by decide +kernel
theorem dX10_goDay_39 : decode cX10_goDay 39 = .ok (.goto 22, 3) := by decide +kernel
theorem dX10_goDay_42 : decode cX10_goDay 42 = .ok (.iload 4, 2) := by decide +kernel
theorem dX10_goDay_44 : decode cX10_goDay 44 = .ok (.aload_n 0, 1) := by decide +kernel
theorem dX10_goDay_45 : decode cX10_goDay 45 = .ok (.getfield 29, 3) := by decide +kernel
theorem dX10_goDay_48 : decode cX10_goDay 48 = .ok (.iload 4, 2) := by decide +kernel
theorem dX10_goDay_50 : decode cX10_goDay 50 = .ok (.bipush 10, 2) := by decide +kernel
theorem dX10_goDay_52 : decode cX10_goDay 52 = .ok (.idiv, 1) := by decide +kernel
theorem dX10_goDay_53 : decode cX10_goDay 53 = .ok (.iaload, 1) := by decide +kernel
theorem dX10_goDay_54 : decode cX10_goDay 54 = .ok (.isub, 1) := by decide +kernel
theorem dX10_goDay_55 : decode cX10_goDay 55 = .ok (.aload_n 0, 1) := by decide +kernel
theorem dX10_goDay_56 : decode cX10_goDay 56 = .ok (.iload_n 3, 1) := by decide +kernel
theorem dX10_goDay_57 : decode cX10_goDay 57 = .ok (.invokevirtual 128, 3) := by decide +kernel
theorem dX10_goDay_60 : decode cX10_goDay 60 = .ok (.isub, 1) := by decide +kernel
theorem dX10_goDay_61 : decode cX10_goDay 61 = .ok (.istore 4, 2) := by decide +kernel
theorem dX10_goDay_63 : decode cX10_goDay 63 = .ok (.iload 5, 2) := by decide +kernel
theorem dX10_goDay_65 : decode cX10_goDay 65 = .ok (.aload_n 0, 1) := by decide +kernel
theorem dX10_goDay_66 : decode cX10_goDay 66 = .ok (.getfield 29, 3) := by decide +kernel
theorem dX10_goDay_69 : decode cX10_goDay 69 = .ok (.iload 5, 2) := by decide +kernel
theorem dX10_goDay_71 : decode cX10_goDay 71 = .ok (.bipush 10, 2) := by decide +kernel
theorem dX10_goDay_73 : decode cX10_goDay 73 = .ok (.idiv, 1) := by decide +kernel
theorem dX10_goDay_74 : decode cX10_goDay 74 = .ok (.iaload, 1) := by decide +kernel
theorem dX10_goDay_75 : decode cX10_goDay 75 = .ok (.isub, 1) := by decide +kernel
theorem dX10_goDay_76 : decode cX10_goDay 76 = .ok (.istore 5, 2) := by decide +kernel
theorem dX10_goDay_78 : decode cX10_goDay 78 = .ok (.aload_n 0, 1) := by decide +kernel
theorem dX10_goDay_79 : decode cX10_goDay 79 = .ok (.getfield 50, 3) := by decide +kernel
theorem dX10_goDay_82 : decode cX10_goDay 82 = .ok (.iload_n 2, 1) := by decide +kernel
theorem dX10_goDay_83 : decode cX10_goDay 83 = .ok (.iload_n 3, 1) := by decide +kernel
theorem dX10_goDay_84 : decode cX10_goDay 84 = .ok (.iadd, 1) := by decide +kernel
theorem dX10_goDay_85 : decode cX10_goDay 85 = .ok (.iload 4, 2) := by decide +kernel
theorem dX10_goDay_87 : decode cX10_goDay 87 = .ok (.ifCond .ge 7, 3) := by decide +kernel
theorem dX10_goDay_90 : decode cX10_goDay 90 = .ok (.iconst 0, 1) := by decide +kernel
theorem dX10_goDay_91 : decode cX10_goDay 91 = .ok (.goto 5, 3) := by decide +kernel
theorem dX10_goDay_94 : decode cX10_goDay 94 = .ok (.iload 4, 2) := by decide +kernel
theorem dX10_goDay_96 : decode cX10_goDay 96 = .ok (.iastore, 1) := by decide +kernel
theorem dX10_goDay_97 : decode cX10_goDay 97 = .ok (.aload_n 0, 1) := by decide +kernel
theorem dX10_goDay_98 : decode cX10_goDay 98 = .ok (.getfield 53, 3) := by decide +kernel
theorem dX10_goDay_101 : decode cX10_goDay 101 = .ok (.iload_n 2, 1) := by decide +kernel
theorem dX10_goDay_102 : decode cX10_goDay 102 = .ok (.iload_n 3, 1) := by decide +kernel
theorem dX10_goDay_103 : decode cX10_goDay 103 = .ok (.iadd, 1) := by decide +kernel
theorem dX10_goDay_104 : decode cX10_goDay 104 = .ok (.iload 5, 2) := by decide +kernel
theorem dX10_goDay_106 : decode cX10_goDay 106 = .ok (.ifCond .ge 7, 3) := by decide +kernel
theorem dX10_goDay_109 : decode cX10_goDay 109 = .ok (.iconst 0, 1) := by decide +kernel
theorem dX10_goDay_110 : decode cX10_goDay 110 = .ok (.goto 5, 3) := by decide +kernel
theorem dX10_goDay_113 : decode cX10_goDay 113 = .ok (.iload 5, 2) := by decide +kernel
theorem dX10_goDay_115 : decode cX10_goDay 115 = .ok (.iastore, 1) := by decide +kernel
theorem dX10_goDay_116 : decode cX10_goDay 116 = .ok (.iinc 3 1, 3) := by decide +kernel
theorem dX10_goDay_119 : decode cX10_goDay 119 = .ok (.goto (-117), 3) := by decide +kernel
theorem dX10_goDay_122 : decode cX10_goDay 122 = .ok (.return_, 1) := by decide +kernel
theorem yd_X10_goDay : yX10_goDay.cls ≠ "java/lang/invoke/MethodHandle" ∧ yX10_goDay.cls ≠ "java/lang/invoke/VarHandle" ∧ (parseMethodDescriptor yX10_goDay.desc).map (fun d => d.parameters.length) = some 2 := by decide +kernel
abbrev rm_X10_goDay : Room := { frames := 2, cells := 0, slots := 0, locals := 48 }
set_option maxHeartbeats 4000000 in
theorem w_X10_goDay_96 {p : Program} {l : Launch} {e : Env} {s : State} {m : MethodId} {args : Array Value} {below : List Frame} {meth : Method} {c : Code} {g : Gl} (X : FX g p m c s args meth cX10_goDay 6 RX10 none "goDay") {r : Hp} {rec2 : Hp × Int32 → Option (Hp)} {σ : Hp} {x0 : Nat} {x1 : Int32} {x2 : Int32} {x3 : Int32} {x5 : Int32} {y0 : Int32} {y1 : Int32} {y2 : Nat} (hr2 : ∀ (st : Hp × Int32), rec2 st = some r → ∀ (H : Heap) (locs : List Loc) (ls : Array Slot), HV g st.1 H → FR g locs → lv_has ls 6 [(0, .ref x0), (1, .int x1), (2, .int x2), (3, .int st.2)] → W p l e rm_X10_goDay s m args below meth c H locs 0 0 (MQ below (Qv g r) args s 0 0 (frN g)) (F0 m 2 ls [])) {H : Heap} {locs : List Loc} {ls : Array Slot} (h : F_X10_goDay_96 rec2 σ x0 x1 x2 x3 x5 y0 y1 y2 = some r) (hV : HV g σ H) (hF : FR g locs) (hl : lv_has ls 6 [(0, .ref x0), (1, .int x1), (2, .int x2), (3, .int x3), (5, .int x5)]) : W p l e rm_X10_goDay s m args below meth c H locs 0 0 (MQ below (Qv g r) args s 0 0 (frN g)) (F0 m 96 ls [.int y0, .int y1, .ref y2]) := by
  unfold F_X10_goDay_96 at h
  refine r_is X hV hF dX10_goDay_96 h (fun s1 H locs hV hF h => ?_)
  refine lv_aload_n X.1 X.2.1 dX10_goDay_97 rfl (lv_at hl 0 rfl) ?_
  refine r_gR X hV fl_X10_53_10 (by decide) dX10_goDay_98 h (fun v1 h => ?_)
  refine lv_iload_n X.1 X.2.1 dX10_goDay_101 rfl (lv_at hl 2 rfl) ?_
  refine lv_iload_n X.1 X.2.1 dX10_goDay_102 rfl (lv_at hl 3 rfl) ?_
  refine lv_iadd X.1 X.2.1 dX10_goDay_103 ?_
  refine lv_iload X.1 X.2.1 dX10_goDay_104 (lv_at hl 4 rfl) ?_
  refine r_ifge (tgt := 113) X.1 X.2.1 dX10_goDay_106 (by decide) h (fun h => ?_) (fun h => ?_)
  · refine lv_iload X.1 X.2.1 dX10_goDay_113 (lv_at hl 4 rfl) ?_
    refine r_is X hV hF dX10_goDay_115 h (fun s2 H locs hV hF h => ?_)
    refine lv_iinc (v := x3 + 1) (lv' := [(3, .int (x3 + 1)), (0, .ref x0), (1, .int x1), (2, .int x2), (5, .int x5)]) X.1 X.2.1 dX10_goDay_116 hl (k := 3) rfl rfl (by decide) rfl (fun ls hl => ?_)
    refine lv_goto (tgt := 2) X.1 X.2.1 dX10_goDay_119 (by decide) ?_
    exact hr2 (s2, x3 + 1) h _ _ _ hV hF (lv_sub hl [1, 2, 3, 0] rfl)
  · refine lv_iconst (v := 0) X.1 X.2.1 dX10_goDay_109 (by decide) ?_
    refine lv_goto (tgt := 115) X.1 X.2.1 dX10_goDay_110 (by decide) ?_
    refine r_is X hV hF dX10_goDay_115 h (fun s3 H locs hV hF h => ?_)
    refine lv_iinc (v := x3 + 1) (lv' := [(3, .int (x3 + 1)), (0, .ref x0), (1, .int x1), (2, .int x2), (5, .int x5)]) X.1 X.2.1 dX10_goDay_116 hl (k := 3) rfl rfl (by decide) rfl (fun ls hl => ?_)
    refine lv_goto (tgt := 2) X.1 X.2.1 dX10_goDay_119 (by decide) ?_
    exact hr2 (s3, x3 + 1) h _ _ _ hV hF (lv_sub hl [1, 2, 3, 0] rfl)
set_option maxHeartbeats 4000000 in
theorem w_X10_goDay_61 {p : Program} {l : Launch} {e : Env} {s : State} {m : MethodId} {args : Array Value} {below : List Frame} {meth : Method} {c : Code} {g : Gl} (X : FX g p m c s args meth cX10_goDay 6 RX10 none "goDay") {r : Hp} {rec2 : Hp × Int32 → Option (Hp)} {σ : Hp} {x0 : Nat} {x1 : Int32} {x2 : Int32} {x3 : Int32} {x5 : Int32} {y0 : Int32} (hr2 : ∀ (st : Hp × Int32), rec2 st = some r → ∀ (H : Heap) (locs : List Loc) (ls : Array Slot), HV g st.1 H → FR g locs → lv_has ls 6 [(0, .ref x0), (1, .int x1), (2, .int x2), (3, .int st.2)] → W p l e rm_X10_goDay s m args below meth c H locs 0 0 (MQ below (Qv g r) args s 0 0 (frN g)) (F0 m 2 ls [])) {H : Heap} {locs : List Loc} {ls : Array Slot} (h : F_X10_goDay_61 rec2 σ x0 x1 x2 x3 x5 y0 = some r) (hV : HV g σ H) (hF : FR g locs) (hl : lv_has ls 6 [(0, .ref x0), (1, .int x1), (2, .int x2), (3, .int x3), (5, .int x5)]) : W p l e rm_X10_goDay s m args below meth c H locs 0 0 (MQ below (Qv g r) args s 0 0 (frN g)) (F0 m 61 ls [.int y0]) := by
  unfold F_X10_goDay_61 at h
  refine lv_istore (lv' := [(4, .int y0), (0, .ref x0), (1, .int x1), (2, .int x2), (3, .int x3), (5, .int x5)]) X.1 X.2.1 dX10_goDay_61 hl (by decide) rfl (fun ls hl => ?_)
  refine lv_iload X.1 X.2.1 dX10_goDay_63 (lv_at hl 5 rfl) ?_
  refine lv_aload_n X.1 X.2.1 dX10_goDay_65 rfl (lv_at hl 1 rfl) ?_
  refine r_gR X hV fl_X10_29_10 (by decide) dX10_goDay_66 h (fun v1 h => ?_)
  refine lv_iload X.1 X.2.1 dX10_goDay_69 (lv_at hl 5 rfl) ?_
  refine lv_bipush (v := 10) X.1 X.2.1 dX10_goDay_71 (by decide) ?_
  refine lv_idiv X.1 X.2.1 dX10_goDay_73 (by decide) ?_
  refine r_ia X hV dX10_goDay_74 h (fun v2 h => ?_)
  refine lv_isub X.1 X.2.1 dX10_goDay_75 ?_
  refine lv_istore (lv' := [(5, .int (x5 - v2)), (4, .int y0), (0, .ref x0), (1, .int x1), (2, .int x2), (3, .int x3)]) X.1 X.2.1 dX10_goDay_76 hl (by decide) rfl (fun ls hl => ?_)
  refine lv_aload_n X.1 X.2.1 dX10_goDay_78 rfl (lv_at hl 2 rfl) ?_
  refine r_gR X hV fl_X10_50_10 (by decide) dX10_goDay_79 h (fun v3 h => ?_)
  refine lv_iload_n X.1 X.2.1 dX10_goDay_82 rfl (lv_at hl 4 rfl) ?_
  refine lv_iload_n X.1 X.2.1 dX10_goDay_83 rfl (lv_at hl 5 rfl) ?_
  refine lv_iadd X.1 X.2.1 dX10_goDay_84 ?_
  refine lv_iload X.1 X.2.1 dX10_goDay_85 (lv_at hl 1 rfl) ?_
  refine r_ifge (tgt := 94) X.1 X.2.1 dX10_goDay_87 (by decide) h (fun h => ?_) (fun h => ?_)
  · refine lv_iload X.1 X.2.1 dX10_goDay_94 (lv_at hl 1 rfl) ?_
    exact w_X10_goDay_96 X hr2 h hV hF (lv_sub hl [2, 3, 4, 5, 0] rfl)
  · refine lv_iconst (v := 0) X.1 X.2.1 dX10_goDay_90 (by decide) ?_
    refine lv_goto (tgt := 96) X.1 X.2.1 dX10_goDay_91 (by decide) ?_
    exact w_X10_goDay_96 X hr2 h hV hF (lv_sub hl [2, 3, 4, 5, 0] rfl)
set_option maxHeartbeats 4000000 in
theorem w_X10_goDay_2_b {p : Program} {l : Launch} {e : Env} {s : State} {m : MethodId} {args : Array Value} {below : List Frame} {meth : Method} {c : Code} {g : Gl} (X : FX g p m c s args meth cX10_goDay 6 RX10 none "goDay") {r : Hp} {rec2 : Hp × Int32 → Option (Hp)} {x0 : Nat} {x1 : Int32} {x2 : Int32} {σ : Hp} {x3 : Int32} (hr2 : ∀ (st : Hp × Int32), rec2 st = some r → ∀ (H : Heap) (locs : List Loc) (ls : Array Slot), HV g st.1 H → FR g locs → lv_has ls 6 [(0, .ref x0), (1, .int x1), (2, .int x2), (3, .int st.2)] → W p l e rm_X10_goDay s m args below meth c H locs 0 0 (MQ below (Qv g r) args s 0 0 (frN g)) (F0 m 2 ls [])) {H : Heap} {locs : List Loc} {ls : Array Slot} (h : B_X10_goDay_2 x0 x1 x2 rec2 σ x3 = some r) (hV : HV g σ H) (hF : FR g locs) (hl : lv_has ls 6 [(0, .ref x0), (1, .int x1), (2, .int x2), (3, .int x3)]) : W p l e rm_X10_goDay s m args below meth c H locs 0 0 (MQ below (Qv g r) args s 0 0 (frN g)) (F0 m 2 ls []) := by
  unfold B_X10_goDay_2 at h
  refine lv_iload_n X.1 X.2.1 dX10_goDay_2 rfl (lv_at hl 3 rfl) ?_
  refine lv_bipush (v := 48) X.1 X.2.1 dX10_goDay_3 (by decide) ?_
  refine r_ge (tgt := 122) X.1 X.2.1 dX10_goDay_5 (by decide) h (fun h => ?_) (fun h => ?_)
  · exact r_vret X hV hF h dX10_goDay_122
  · refine lv_aload_n X.1 X.2.1 dX10_goDay_8 rfl (lv_at hl 0 rfl) ?_
    refine r_gR X hV fl_X10_50_10 (by decide) dX10_goDay_9 h (fun v1 h => ?_)
    refine lv_iload_n X.1 X.2.1 dX10_goDay_12 rfl (lv_at hl 1 rfl) ?_
    refine lv_iload_n X.1 X.2.1 dX10_goDay_13 rfl (lv_at hl 3 rfl) ?_
    refine lv_iadd X.1 X.2.1 dX10_goDay_14 ?_
    refine r_ia X hV dX10_goDay_15 h (fun v2 h => ?_)
    refine lv_istore (lv' := [(4, .int v2), (0, .ref x0), (1, .int x1), (2, .int x2), (3, .int x3)]) X.1 X.2.1 dX10_goDay_16 hl (by decide) rfl (fun ls hl => ?_)
    refine lv_aload_n X.1 X.2.1 dX10_goDay_18 rfl (lv_at hl 1 rfl) ?_
    refine r_gR X hV fl_X10_53_10 (by decide) dX10_goDay_19 h (fun v3 h => ?_)
    refine lv_iload_n X.1 X.2.1 dX10_goDay_22 rfl (lv_at hl 2 rfl) ?_
    refine lv_iload_n X.1 X.2.1 dX10_goDay_23 rfl (lv_at hl 4 rfl) ?_
    refine lv_iadd X.1 X.2.1 dX10_goDay_24 ?_
    refine r_ia X hV dX10_goDay_25 h (fun v4 h => ?_)
    refine lv_istore (lv' := [(5, .int v4), (4, .int v2), (0, .ref x0), (1, .int x1), (2, .int x2), (3, .int x3)]) X.1 X.2.1 dX10_goDay_26 hl (by decide) rfl (fun ls hl => ?_)
    refine lv_aload_n X.1 X.2.1 dX10_goDay_28 rfl (lv_at hl 2 rfl) ?_
    refine r_gR X hV fl_X10_32_10 (by decide) dX10_goDay_29 h (fun v5 h => ?_)
    refine lv_iload_n X.1 X.2.1 dX10_goDay_32 rfl (lv_at hl 5 rfl) ?_
    refine r_ia X hV dX10_goDay_33 h (fun v6 h => ?_)
    refine lv_iconst (v := (-1)) X.1 X.2.1 dX10_goDay_34 (by decide) ?_
    refine r_ne (tgt := 42) X.1 X.2.1 dX10_goDay_35 (by decide) h (fun h => ?_) (fun h => ?_)
    · refine lv_iload X.1 X.2.1 dX10_goDay_42 (lv_at hl 1 rfl) ?_
      refine lv_aload_n X.1 X.2.1 dX10_goDay_44 rfl (lv_at hl 2 rfl) ?_
      refine r_gR X hV fl_X10_29_10 (by decide) dX10_goDay_45 h (fun v7 h => ?_)
      refine lv_iload X.1 X.2.1 dX10_goDay_48 (lv_at hl 1 rfl) ?_
      refine lv_bipush (v := 10) X.1 X.2.1 dX10_goDay_50 (by decide) ?_
      refine lv_idiv X.1 X.2.1 dX10_goDay_52 (by decide) ?_
      refine r_ia X hV dX10_goDay_53 h (fun v8 h => ?_)
      refine lv_isub X.1 X.2.1 dX10_goDay_54 ?_
      refine lv_aload_n X.1 X.2.1 dX10_goDay_55 rfl (lv_at hl 2 rfl) ?_
      refine lv_iload_n X.1 X.2.1 dX10_goDay_56 rfl (lv_at hl 5 rfl) ?_
      obtain ⟨v9, s1, hc, h⟩ := b2_inv h
      refine r_ci (va_runV (C := RX10) (As := [.int x3]) (rest := [.int (v2 - v8)]) (cfX X) (c_X10_likeBeside l hc) (cwV 1 X.2.2.2.2.1 (lw_V q1177 q1179 qs28 q59 q1180) rfl rfl rfl ⟨rfl, yd_X10_likeBeside⟩ ⟨Nat.le_of_ble_eq_true rfl, Nat.le_of_ble_eq_true rfl⟩) (preV X hV (F_X10_likeBeside_g hc) rfl) rfl rfl hl.1 rfl (lv_room (Nat.le_of_ble_eq_true rfl)) dX10_goDay_57 ⟨(Nat.le_of_ble_eq_true rfl), (Nat.le_of_ble_eq_true rfl)⟩) hF (fun H locs hV hF => ?_)
      refine lv_isub X.1 X.2.1 dX10_goDay_60 ?_
      exact w_X10_goDay_61 X hr2 h hV hF (lv_sub hl [2, 3, 4, 5, 0] rfl)
    · refine lv_iconst (v := 0) X.1 X.2.1 dX10_goDay_38 (by decide) ?_
      refine lv_goto (tgt := 61) X.1 X.2.1 dX10_goDay_39 (by decide) ?_
      exact w_X10_goDay_61 X hr2 h hV hF (lv_sub hl [2, 3, 4, 5, 0] rfl)
set_option maxHeartbeats 4000000 in
theorem w_X10_goDay_2 {p : Program} {l : Launch} {e : Env} {s : State} {m : MethodId} {args : Array Value} {below : List Frame} {meth : Method} {c : Code} {g : Gl} (X : FX g p m c s args meth cX10_goDay 6 RX10 none "goDay") {r : Hp} {x0 : Nat} {x1 : Int32} {x2 : Int32}  : ∀ (n : Nat) (st : Hp × Int32), L_X10_goDay_2 x0 x1 x2 n st = some r → ∀ (H : Heap) (locs : List Loc) (ls : Array Slot), HV g st.1 H → FR g locs → lv_has ls 6 [(0, .ref x0), (1, .int x1), (2, .int x2), (3, .int st.2)] → W p l e rm_X10_goDay s m args below meth c H locs 0 0 (MQ below (Qv g r) args s 0 0 (frN g)) (F0 m 2 ls []) := by
  intro n
  induction n with
  | zero =>
    intro st h
    rw [L_X10_goDay_2_0] at h
    cases h
  | succ n ih =>
    intro st h H locs ls hV hF hl
    rw [L_X10_goDay_2_s] at h
    exact w_X10_goDay_2_b X  ih h hV hF hl
set_option maxHeartbeats 4000000 in
theorem c_X10_goDay (l : Launch) {g : Gl} {σ : Hp} {x0 : Nat} {x1 : Int32} {x2 : Int32} {r : Hp} (h : F_X10_goDay σ x0 x1 x2 = some r) : Met l yX10_goDay (ws_ yX10_goDay cX10_goDay 6 none) rm_X10_goDay (va_Pc [.ref x0, .int x1, .int x2] (WV g σ)) (Qv g r) 0 0 (frN g) := by
  refine ct_of (by decide) (Nat.le_of_ble_eq_true rfl) ?_
  intro p e s m below meth c ls X hV hl
  have hF : FR g [] := FR_nil
  unfold F_X10_goDay at h
  have hl : lv_has ls 6 [(0, .ref x0), (1, .int x1), (2, .int x2)] := hl
  have X : FX g p m c s _ meth cX10_goDay 6 RX10 none "goDay" := X
  obtain ⟨-, h⟩ := gd_inv h
  refine lv_iconst (v := 0) X.1 X.2.1 dX10_goDay_0 (by decide) ?_
  refine lv_istore_n (lv' := [(3, .int 0), (0, .ref x0), (1, .int x1), (2, .int x2)]) X.1 X.2.1 dX10_goDay_1 rfl hl (by decide) rfl (fun ls hl => ?_)
  exact w_X10_goDay_2 X  FU (σ, 0) h _ _ _ hV hF (lv_sub hl [1, 2, 3, 0] rfl)
