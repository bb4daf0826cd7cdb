set_option maxRecDepth 100000
/-! PalaceOfRoomsModel.causes -/
theorem dX10_causes_0 : decode cX10_causes 0 = .ok (.iload_n 1, 1) := by decide +kernel
theorem dX10_causes_1 : decode cX10_causes 1 = .ok (.invokestatic 118, 3) := by decide +kernel
theorem dX10_causes_4 : decode cX10_causes 4 = .ok (.ifCond .eq 10, 3) := by decide +kernel
theorem dX10_causes_7 : decode cX10_causes 7 = .ok (.iload_n 2, 1) := by decide +kernel
theorem dX10_causes_8 : decode cX10_causes 8 = .ok (.invokestatic 112, 3) := by decide +kernel
theorem dX10_causes_11 : decode cX10_causes 11 = .ok (.ifCond .ne 6, 3) := by decide +kernel
theorem dX10_causes_14 : decode cX10_causes 14 = .ok (.bipush (-2), 2) := by decide +kernel
theorem dX10_causes_16 : decode cX10_causes 16 = .ok (.ireturn, 1) := by decide +kernel
theorem dX10_causes_17 : decode cX10_causes 17 = .ok (.aload_n 0, 1) := by decide +kernel
theorem dX10_causes_18 : decode cX10_causes 18 = .ok (.getfield 32, 3) := by decide +kernel
theorem dX10_causes_21 : decode cX10_causes 21 = .ok (.iload_n 1, 1) := by decide +kernel
theorem dX10_causes_22 : decode cX10_causes 22 = .ok (.iaload, 1) := by decide +kernel
theorem dX10_causes_23 : decode cX10_causes 23 = .ok (.iconst (-1), 1) := by decide +kernel
theorem dX10_causes_24 : decode cX10_causes 24 = .ok (.if_icmp .eq 13, 3) := by decide +kernel
theorem dX10_causes_27 : decode cX10_causes 27 = .ok (.aload_n 0, 1) := by decide +kernel
theorem dX10_causes_28 : decode cX10_causes 28 = .ok (.getfield 32, 3) := by decide +kernel
theorem dX10_causes_31 : decode cX10_causes 31 = .ok (.iload_n 1, 1) := by decide +kernel
theorem dX10_causes_32 : decode cX10_causes 32 = .ok (.iaload, 1) := by decide +kernel
theorem dX10_causes_33 : decode cX10_causes 33 = .ok (.iload_n 2, 1) := by decide +kernel
theorem dX10_causes_34 : decode cX10_causes 34 = .ok (.if_icmp .ne 6, 3) := by decide +kernel
theorem dX10_causes_37 : decode cX10_causes 37 = .ok (.bipush (-4), 2) := by decide +kernel
theorem dX10_causes_39 : decode cX10_causes 39 = .ok (.ireturn, 1) := by decide +kernel
theorem dX10_causes_40 : decode cX10_causes 40 = .ok (.aload_n 0, 1) := by decide +kernel
theorem dX10_causes_41 : decode cX10_causes 41 = .ok (.iload_n 2, 1) := by decide +kernel
theorem dX10_causes_42 : decode cX10_causes 42 = .ok (.invokevirtual 121, 3) := by decide +kernel
theorem dX10_causes_45 : decode cX10_causes 45 = .ok (.istore_n 3, 1) := by decide +kernel
theorem dX10_causes_46 : decode cX10_causes 46 = .ok (.aload_n 0, 1) := by decide +kernel
theorem dX10_causes_47 : decode cX10_causes 47 = .ok (.iload_n 2, 1) := by decide +kernel
theorem dX10_causes_48 : decode cX10_causes 48 = .ok (.aload_n 0, 1) := by decide +kernel
theorem dX10_causes_49 : decode cX10_causes 49 = .ok (.getfield 32, 3) := by decide +kernel
theorem dX10_causes_52 : decode cX10_causes 52 = .ok (.iload_n 1, 1) := by decide +kernel
theorem dX10_causes_53 : decode cX10_causes 53 = .ok (.iaload, 1) := by decide +kernel
theorem dX10_causes_54 : decode cX10_causes 54 = .ok (.invokevirtual 115, 3) := by decide +kernel
theorem dX10_causes_57 : decode cX10_causes 57 = .ok (.aload_n 0, 1) := by decide +kernel
theorem dX10_causes_58 : decode cX10_causes 58 = .ok (.getfield 22, 3) := by decide +kernel
theorem dX10_causes_61 : decode cX10_causes 61 = .ok (.if_icmp .lt 7, 3) := by decide +kernel
theorem dX10_causes_64 : decode cX10_causes 64 = .ok (.iconst 1, 1) := by decide +kernel
theorem dX10_causes_65 : decode cX10_causes 65 = .ok (.goto 4, 3) := by decide +kernel
theorem dX10_causes_68 : decode cX10_causes 68 = .ok (.iconst 0, 1) := by decide +kernel
theorem dX10_causes_69 : decode cX10_causes 69 = .ok (.istore 4, 2) := by decide +kernel
theorem dX10_causes_71 : decode cX10_causes 71 = .ok (.iload 4, 2) := by decide +kernel
theorem dX10_causes_73 : decode cX10_causes 73 = .ok (.aload_n 0, 1) := by decide +kernel
theorem dX10_causes_74 : decode cX10_causes 74 = .ok (.getfield 38, 3) := by decide +kernel
theorem dX10_causes_77 : decode cX10_causes 77 = .ok (.iload_n 1, 1) := by decide +kernel
theorem dX10_causes_78 : decode cX10_causes 78 = .ok (.iaload, 1) := by decide +kernel
theorem dX10_causes_79 : decode cX10_causes 79 = .ok (.iload_n 2, 1) := by decide +kernel
theorem dX10_causes_80 : decode cX10_causes 80 = .ok (.if_icmp .ne 7, 3) := by decide +kernel
theorem dX10_causes_83 : decode cX10_causes 83 = .ok (.iconst 2, 1) := by decide +kernel
theorem dX10_causes_84 : decode cX10_causes 84 = .ok (.goto 4, 3) := by decide +kernel
theorem dX10_causes_87 : decode cX10_causes 87 = .ok (.iconst 0, 1) := by decide +kernel
theorem dX10_causes_88 : decode cX10_causes 88 = .ok (.iadd, 1) := by decide +kernel
theorem dX10_causes_89 : decode cX10_causes 89 = .ok (.istore 4, 2) := by decide +kernel
theorem dX10_causes_91 : decode cX10_causes 91 = .ok (.iload 4, 2) := by decide +kernel
theorem dX10_causes_93 : decode cX10_causes 93 = .ok (.iload_n 3, 1) := by decide +kernel
theorem dX10_causes_94 : decode cX10_causes 94 = .ok (.iconst (-1), 1) := by decide +kernel
theorem dX10_causes_95 : decode cX10_causes 95 = .ok (.if_icmp .eq 33, 3) := by decide +kernel
theorem dX10_causes_98 : decode cX10_causes 98 = .ok (.iload_n 3, 1) := by decide +kernel
theorem dX10_causes_99 : decode cX10_causes 99 = .ok (.bipush 6, 2) := by decide +kernel
theorem dX10_causes_101 : decode cX10_causes 101 = .ok (.irem, 1) := by decide +kernel
theorem dX10_causes_102 : decode cX10_causes 102 = .ok (.iload_n 1, 1) := by decide +kernel
theorem dX10_causes_103 : decode cX10_causes 103 = .ok (.bipush 6, 2) := by decide +kernel
theorem dX10_causes_105 : decode cX10_causes 105 = .ok (.irem, 1) := by decide +kernel
theorem dX10_causes_106 : decode cX10_causes 106 = .ok (.if_icmp .ne 22, 3) := by decide +kernel
theorem dX10_causes_109 : decode cX10_causes 109 = .ok (.aload_n 0, 1) := by decide +kernel
theorem dX10_causes_110 : decode cX10_causes 110 = .ok (.iload_n 3, 1) := by decide +kernel
theorem dX10_causes_111 : decode cX10_causes 111 = .ok (.bipush 6, 2) := by decide +kernel
theorem dX10_causes_113 : decode cX10_causes 113 = .ok (.idiv, 1) := by decide +kernel
theorem dX10_causes_114 : decode cX10_causes 114 = .ok (.iload_n 1, 1) := by decide +kernel
theorem dX10_causes_115 : decode cX10_causes 115 = .ok (.bipush 6, 2) := by decide +kernel
theorem dX10_causes_117 : decode cX10_causes 117 = .ok (.idiv, 1) := by decide +kernel
theorem dX10_causes_118 : decode cX10_causes 118 = .ok (.invokevirtual 104, 3) := by decide +kernel
theorem dX10_causes_121 : decode cX10_causes 121 = .ok (.ifCond .eq 7, 3) := by decide +kernel
theorem dX10_causes_124 : decode cX10_causes 124 = .ok (.iconst 4, 1) := by decide +kernel
theorem dX10_causes_125 : decode cX10_causes 125 = .ok (.goto 4, 3) := by decide +kernel
theorem dX10_causes_128 : decode cX10_causes 128 = .ok (.iconst 0, 1) := by decide +kernel
theorem dX10_causes_129 : decode cX10_causes 129 = .ok (.iadd, 1) := by decide +kernel
theorem dX10_causes_130 : decode cX10_causes 130 = .ok (.ireturn, 1) := by decide +kernel
theorem yd_X10_causes : yX10_causes.cls ≠ "java/lang/invoke/MethodHandle" ∧ yX10_causes.cls ≠ "java/lang/invoke/VarHandle" ∧ (parseMethodDescriptor yX10_causes.desc).map (fun d => d.parameters.length) = some 2 := by decide +kernel
abbrev rm_X10_causes : Room := { frames := 2, cells := 0, slots := 0, locals := 42 }
set_option maxHeartbeats 4000000 in
theorem w_X10_causes_88 {p : Program} {l : Launch} {e : Env} {s : State} {m : MethodId} {args : Array Value} {below : List Frame} {meth : Method} {c : Code} {g : Gl} (X : FX g p m c s args meth cX10_causes 5 RX10 (some .int) "causes") {r : Int32 × Hp} {σ : Hp} {x0 : Nat} {x1 : Int32} {x3 : Int32} {y0 : Int32} {y1 : Int32}  {H : Heap} {locs : List Loc} {ls : Array Slot} (h : F_X10_causes_88 σ x0 x1 x3 y0 y1 = some r) (hV : HV g σ H) (hF : FR g locs) (hl : lv_has ls 5 [(0, .ref x0), (1, .int x1), (3, .int x3)]) : W p l e rm_X10_causes s m args below meth c H locs 0 0 (MQ below (Qi g r) args s 0 0 (frN g)) (F0 m 88 ls [.int y0, .int y1]) := by
  unfold F_X10_causes_88 at h
  refine lv_iadd X.1 X.2.1 dX10_causes_88 ?_
  refine lv_istore (lv' := [(4, .int (y1 + y0)), (0, .ref x0), (1, .int x1), (3, .int x3)]) X.1 X.2.1 dX10_causes_89 hl (by decide) rfl (fun ls hl => ?_)
  refine lv_iload X.1 X.2.1 dX10_causes_91 (lv_at hl 0 rfl) ?_
  refine lv_iload_n X.1 X.2.1 dX10_causes_93 rfl (lv_at hl 3 rfl) ?_
  refine lv_iconst (v := (-1)) X.1 X.2.1 dX10_causes_94 (by decide) ?_
  refine r_eq (tgt := 128) X.1 X.2.1 dX10_causes_95 (by decide) h (fun h => ?_) (fun h => ?_)
  · refine lv_iconst (v := 0) X.1 X.2.1 dX10_causes_128 (by decide) ?_
    refine lv_iadd X.1 X.2.1 dX10_causes_129 ?_
    exact r_iret X hV hF h dX10_causes_130
  · refine lv_iload_n X.1 X.2.1 dX10_causes_98 rfl (lv_at hl 3 rfl) ?_
    refine lv_bipush (v := 6) X.1 X.2.1 dX10_causes_99 (by decide) ?_
    refine lv_irem X.1 X.2.1 dX10_causes_101 (by decide) ?_
    refine lv_iload_n X.1 X.2.1 dX10_causes_102 rfl (lv_at hl 2 rfl) ?_
    refine lv_bipush (v := 6) X.1 X.2.1 dX10_causes_103 (by decide) ?_
    refine lv_irem X.1 X.2.1 dX10_causes_105 (by decide) ?_
    refine r_ne (tgt := 128) X.1 X.2.1 dX10_causes_106 (by decide) h (fun h => ?_) (fun h => ?_)
    · refine lv_iconst (v := 0) X.1 X.2.1 dX10_causes_128 (by decide) ?_
      refine lv_iadd X.1 X.2.1 dX10_causes_129 ?_
      exact r_iret X hV hF h dX10_causes_130
    · refine lv_aload_n X.1 X.2.1 dX10_causes_109 rfl (lv_at hl 1 rfl) ?_
      refine lv_iload_n X.1 X.2.1 dX10_causes_110 rfl (lv_at hl 3 rfl) ?_
      refine lv_bipush (v := 6) X.1 X.2.1 dX10_causes_111 (by decide) ?_
      refine lv_idiv X.1 X.2.1 dX10_causes_113 (by decide) ?_
      refine lv_iload_n X.1 X.2.1 dX10_causes_114 rfl (lv_at hl 2 rfl) ?_
      refine lv_bipush (v := 6) X.1 X.2.1 dX10_causes_115 (by decide) ?_
      refine lv_idiv X.1 X.2.1 dX10_causes_117 (by decide) ?_
      obtain ⟨v1, s1, hc, h⟩ := b2_inv h
      refine r_ci (va_runV (C := RX10) (As := [.int (x3 / 6), .int (x1 / 6)]) (rest := [.int (y1 + y0)]) (cfX X) (c_X10_areJoined l hc) (cwV 2 X.2.2.2.2.1 (lw_V q1107 q1109 qs22 q59 q1110) rfl rfl rfl ⟨rfl, yd_X10_areJoined⟩ ⟨Nat.le_of_ble_eq_true rfl, Nat.le_of_ble_eq_true rfl⟩) (preV X hV (F_X10_areJoined_g hc) rfl) rfl rfl hl.1 rfl (lv_room (Nat.le_of_ble_eq_true rfl)) dX10_causes_118 ⟨(Nat.le_of_ble_eq_true rfl), (Nat.le_of_ble_eq_true rfl)⟩) hF (fun H locs hV hF => ?_)
      refine r_ifeq (tgt := 128) X.1 X.2.1 dX10_causes_121 (by decide) h (fun h => ?_) (fun h => ?_)
      · refine lv_iconst (v := 0) X.1 X.2.1 dX10_causes_128 (by decide) ?_
        refine lv_iadd X.1 X.2.1 dX10_causes_129 ?_
        exact r_iret X hV hF h dX10_causes_130
      · refine lv_iconst (v := 4) X.1 X.2.1 dX10_causes_124 (by decide) ?_
        refine lv_goto (tgt := 129) X.1 X.2.1 dX10_causes_125 (by decide) ?_
        refine lv_iadd X.1 X.2.1 dX10_causes_129 ?_
        exact r_iret X hV hF h dX10_causes_130
set_option maxHeartbeats 4000000 in
theorem w_X10_causes_69 {p : Program} {l : Launch} {e : Env} {s : State} {m : MethodId} {args : Array Value} {below : List Frame} {meth : Method} {c : Code} {g : Gl} (X : FX g p m c s args meth cX10_causes 5 RX10 (some .int) "causes") {r : Int32 × Hp} {σ : Hp} {x0 : Nat} {x1 : Int32} {x2 : Int32} {x3 : Int32} {y0 : Int32}  {H : Heap} {locs : List Loc} {ls : Array Slot} (h : F_X10_causes_69 σ x0 x1 x2 x3 y0 = some r) (hV : HV g σ H) (hF : FR g locs) (hl : lv_has ls 5 [(0, .ref x0), (1, .int x1), (2, .int x2), (3, .int x3)]) : W p l e rm_X10_causes s m args below meth c H locs 0 0 (MQ below (Qi g r) args s 0 0 (frN g)) (F0 m 69 ls [.int y0]) := by
  unfold F_X10_causes_69 at h
  refine lv_istore (lv' := [(4, .int y0), (0, .ref x0), (1, .int x1), (2, .int x2), (3, .int x3)]) X.1 X.2.1 dX10_causes_69 hl (by decide) rfl (fun ls hl => ?_)
  refine lv_iload X.1 X.2.1 dX10_causes_71 (lv_at hl 0 rfl) ?_
  refine lv_aload_n X.1 X.2.1 dX10_causes_73 rfl (lv_at hl 1 rfl) ?_
  refine r_gR X hV fl_X10_38_10 (by decide) dX10_causes_74 h (fun v1 h => ?_)
  refine lv_iload_n X.1 X.2.1 dX10_causes_77 rfl (lv_at hl 2 rfl) ?_
  refine r_ia X hV dX10_causes_78 h (fun v2 h => ?_)
  refine lv_iload_n X.1 X.2.1 dX10_causes_79 rfl (lv_at hl 3 rfl) ?_
  refine r_ne (tgt := 87) X.1 X.2.1 dX10_causes_80 (by decide) h (fun h => ?_) (fun h => ?_)
  · refine lv_iconst (v := 0) X.1 X.2.1 dX10_causes_87 (by decide) ?_
    exact w_X10_causes_88 X  h hV hF (lv_sub hl [1, 2, 4] rfl)
  · refine lv_iconst (v := 2) X.1 X.2.1 dX10_causes_83 (by decide) ?_
    refine lv_goto (tgt := 88) X.1 X.2.1 dX10_causes_84 (by decide) ?_
    exact w_X10_causes_88 X  h hV hF (lv_sub hl [1, 2, 4] rfl)
set_option maxHeartbeats 4000000 in
theorem c_X10_causes (l : Launch) {g : Gl} {σ : Hp} {x0 : Nat} {x1 : Int32} {x2 : Int32} {r : Int32 × Hp} (h : F_X10_causes σ x0 x1 x2 = some r) : Met l yX10_causes (ws_ yX10_causes cX10_causes 5 (some .int)) rm_X10_causes (va_Pc [.ref x0, .int x1, .int x2] (WV g σ)) (Qi g r) 0 0 (frN g) := by
  refine ct_of (by decide) (Nat.le_of_ble_eq_true rfl) ?_
  intro p e s m below meth c ls X hV hl
  have hF : FR g [] := FR_nil
  unfold F_X10_causes at h
  have hl : lv_has ls 5 [(0, .ref x0), (1, .int x1), (2, .int x2)] := hl
  have X : FX g p m c s _ meth cX10_causes 5 RX10 (some .int) "causes" := X
  obtain ⟨-, h⟩ := gd_inv h
  refine lv_iload_n X.1 X.2.1 dX10_causes_0 rfl (lv_at hl 1 rfl) ?_
  obtain ⟨v1, s1, hc, h⟩ := b2_inv h
  refine r_ci (va_runS (As := [.int x1]) (rest := []) (cfX X) (c_X10_isCorner l hc) (va_cwS 1 X.2.2.2.2.1 (lw_S q1146 q1147 q59 q1148) rfl rfl rfl yd_X10_isCorner ⟨Nat.le_of_ble_eq_true rfl, Nat.le_of_ble_eq_true rfl⟩) (preS X hV) rfl rfl hl.1 rfl (lv_room (Nat.le_of_ble_eq_true rfl)) dX10_causes_1 ⟨(Nat.le_of_ble_eq_true rfl), (Nat.le_of_ble_eq_true rfl)⟩) hF (fun H locs hV hF => ?_)
  refine r_ifeq (tgt := 14) X.1 X.2.1 dX10_causes_4 (by decide) h (fun h => ?_) (fun h => ?_)
  · refine lv_bipush (v := (-2)) X.1 X.2.1 dX10_causes_14 (by decide) ?_
    exact r_iret X hV hF h dX10_causes_16
  · refine lv_iload_n X.1 X.2.1 dX10_causes_7 rfl (lv_at hl 2 rfl) ?_
    obtain ⟨v2, s2, hc, h⟩ := b2_inv h
    refine r_ci (va_runS (As := [.int x2]) (rest := []) (cfX X) (c_X10_isThing l hc) (va_cwS 1 X.2.2.2.2.1 (lw_S q1123 q1124 q59 q1125) rfl rfl rfl yd_X10_isThing ⟨Nat.le_of_ble_eq_true rfl, Nat.le_of_ble_eq_true rfl⟩) (preS X hV) rfl rfl hl.1 rfl (lv_room (Nat.le_of_ble_eq_true rfl)) dX10_causes_8 ⟨(Nat.le_of_ble_eq_true rfl), (Nat.le_of_ble_eq_true rfl)⟩) hF (fun H locs hV hF => ?_)
    refine r_ifne (tgt := 17) X.1 X.2.1 dX10_causes_11 (by decide) h (fun h => ?_) (fun h => ?_)
    · refine lv_aload_n X.1 X.2.1 dX10_causes_17 rfl (lv_at hl 0 rfl) ?_
      refine r_gR X hV fl_X10_32_10 (by decide) dX10_causes_18 h (fun v3 h => ?_)
      refine lv_iload_n X.1 X.2.1 dX10_causes_21 rfl (lv_at hl 1 rfl) ?_
      refine r_ia X hV dX10_causes_22 h (fun v4 h => ?_)
      refine lv_iconst (v := (-1)) X.1 X.2.1 dX10_causes_23 (by decide) ?_
      refine r_eq (tgt := 37) X.1 X.2.1 dX10_causes_24 (by decide) h (fun h => ?_) (fun h => ?_)
      · refine lv_bipush (v := (-4)) X.1 X.2.1 dX10_causes_37 (by decide) ?_
        exact r_iret X hV hF h dX10_causes_39
      · refine lv_aload_n X.1 X.2.1 dX10_causes_27 rfl (lv_at hl 0 rfl) ?_
        refine r_gR X hV fl_X10_32_10 (by decide) dX10_causes_28 h (fun v5 h => ?_)
        refine lv_iload_n X.1 X.2.1 dX10_causes_31 rfl (lv_at hl 1 rfl) ?_
        refine r_ia X hV dX10_causes_32 h (fun v6 h => ?_)
        refine lv_iload_n X.1 X.2.1 dX10_causes_33 rfl (lv_at hl 2 rfl) ?_
        refine r_ne (tgt := 40) X.1 X.2.1 dX10_causes_34 (by decide) h (fun h => ?_) (fun h => ?_)
        · refine lv_aload_n X.1 X.2.1 dX10_causes_40 rfl (lv_at hl 0 rfl) ?_
          refine lv_iload_n X.1 X.2.1 dX10_causes_41 rfl (lv_at hl 2 rfl) ?_
          obtain ⟨v7, s3, hc, h⟩ := b2_inv h
          refine r_ci (va_runV (C := RX10) (As := [.int x2]) (rest := []) (cfX X) (c_X10_cornerOf l hc) (cwV 1 X.2.2.2.2.1 (lw_V q1149 q1151 qs25 q59 q1152) rfl rfl rfl ⟨rfl, yd_X10_cornerOf⟩ ⟨Nat.le_of_ble_eq_true rfl, Nat.le_of_ble_eq_true rfl⟩) (preV X hV (F_X10_cornerOf_g hc) rfl) rfl rfl hl.1 rfl (lv_room (Nat.le_of_ble_eq_true rfl)) dX10_causes_42 ⟨(Nat.le_of_ble_eq_true rfl), (Nat.le_of_ble_eq_true rfl)⟩) hF (fun H locs hV hF => ?_)
          refine lv_istore_n (lv' := [(3, .int v7), (0, .ref x0), (1, .int x1), (2, .int x2)]) X.1 X.2.1 dX10_causes_45 rfl hl (by decide) rfl (fun ls hl => ?_)
          refine lv_aload_n X.1 X.2.1 dX10_causes_46 rfl (lv_at hl 1 rfl) ?_
          refine lv_iload_n X.1 X.2.1 dX10_causes_47 rfl (lv_at hl 3 rfl) ?_
          refine lv_aload_n X.1 X.2.1 dX10_causes_48 rfl (lv_at hl 1 rfl) ?_
          refine r_gR X hV fl_X10_32_10 (by decide) dX10_causes_49 h (fun v8 h => ?_)
          refine lv_iload_n X.1 X.2.1 dX10_causes_52 rfl (lv_at hl 2 rfl) ?_
          refine r_ia X hV dX10_causes_53 h (fun v9 h => ?_)
          obtain ⟨v10, s4, hc, h⟩ := b2_inv h
          refine r_ci (va_runV (C := RX10) (As := [.int x2, .int v9]) (rest := []) (cfX X) (c_X10_likeness l hc) (cwV 2 X.2.2.2.2.1 (lw_V q1130 q1132 qs24 q59 q1133) rfl rfl rfl ⟨rfl, yd_X10_likeness⟩ ⟨Nat.le_of_ble_eq_true rfl, Nat.le_of_ble_eq_true rfl⟩) (preV X hV (F_X10_likeness_g hc) rfl) rfl rfl hl.1 rfl (lv_room (Nat.le_of_ble_eq_true rfl)) dX10_causes_54 ⟨(Nat.le_of_ble_eq_true rfl), (Nat.le_of_ble_eq_true rfl)⟩) hF (fun H locs hV hF => ?_)
          refine lv_aload_n X.1 X.2.1 dX10_causes_57 rfl (lv_at hl 1 rfl) ?_
          refine r_gI X hV fl_X10_22_10 dX10_causes_58 h (fun v11 h => ?_)
          refine r_lt (tgt := 68) X.1 X.2.1 dX10_causes_61 (by decide) h (fun h => ?_) (fun h => ?_)
          · refine lv_iconst (v := 0) X.1 X.2.1 dX10_causes_68 (by decide) ?_
            exact w_X10_causes_69 X  h hV hF (lv_sub hl [1, 2, 3, 0] rfl)
          · refine lv_iconst (v := 1) X.1 X.2.1 dX10_causes_64 (by decide) ?_
            refine lv_goto (tgt := 69) X.1 X.2.1 dX10_causes_65 (by decide) ?_
            exact w_X10_causes_69 X  h hV hF (lv_sub hl [1, 2, 3, 0] rfl)
        · refine lv_bipush (v := (-4)) X.1 X.2.1 dX10_causes_37 (by decide) ?_
          exact r_iret X hV hF h dX10_causes_39
    · refine lv_bipush (v := (-2)) X.1 X.2.1 dX10_causes_14 (by decide) ?_
      exact r_iret X hV hF h dX10_causes_16
/-! PalaceOfRoomsModel.asked -/
theorem dX10_asked_0 : decode cX10_asked 0 = .ok (.iload_n 1, 1) := by decide +kernel
theorem dX10_asked_1 : decode cX10_asked 1 = .ok (.invokestatic 112, 3) := by decide +kernel
theorem dX10_asked_4 : decode cX10_asked 4 = .ok (.ifCond .eq 10, 3) := by decide +kernel
theorem dX10_asked_7 : decode cX10_asked 7 = .ok (.iload_n 2, 1) := by decide +kernel
theorem dX10_asked_8 : decode cX10_asked 8 = .ok (.invokestatic 100, 3) := by decide +kernel
theorem dX10_asked_11 : decode cX10_asked 11 = .ok (.ifCond .ne 6, 3) := by decide +kernel
theorem dX10_asked_14 : decode cX10_asked 14 = .ok (.bipush (-2), 2) := by decide +kernel
theorem dX10_asked_16 : decode cX10_asked 16 = .ok (.ireturn, 1) := by decide +kernel
theorem dX10_asked_17 : decode cX10_asked 17 = .ok (.aload_n 0, 1) := by decide +kernel
theorem dX10_asked_18 : decode cX10_asked 18 = .ok (.iload_n 1, 1) := by decide +kernel
theorem dX10_asked_19 : decode cX10_asked 19 = .ok (.invokevirtual 121, 3) := by decide +kernel
theorem dX10_asked_22 : decode cX10_asked 22 = .ok (.istore_n 3, 1) := by decide +kernel
theorem dX10_asked_23 : decode cX10_asked 23 = .ok (.iload_n 3, 1) := by decide +kernel
theorem dX10_asked_24 : decode cX10_asked 24 = .ok (.iconst (-1), 1) := by decide +kernel
theorem dX10_asked_25 : decode cX10_asked 25 = .ok (.if_icmp .ne 7, 3) := by decide +kernel
theorem dX10_asked_28 : decode cX10_asked 28 = .ok (.iconst (-1), 1) := by decide +kernel
theorem dX10_asked_29 : decode cX10_asked 29 = .ok (.goto 12, 3) := by decide +kernel
theorem dX10_asked_32 : decode cX10_asked 32 = .ok (.aload_n 0, 1) := by decide +kernel
theorem dX10_asked_33 : decode cX10_asked 33 = .ok (.iload_n 2, 1) := by decide +kernel
theorem dX10_asked_34 : decode cX10_asked 34 = .ok (.iload_n 3, 1) := by decide +kernel
theorem dX10_asked_35 : decode cX10_asked 35 = .ok (.bipush 6, 2) := by decide +kernel
theorem dX10_asked_37 : decode cX10_asked 37 = .ok (.idiv, 1) := by decide +kernel
theorem dX10_asked_38 : decode cX10_asked 38 = .ok (.invokevirtual 108, 3) := by decide +kernel
theorem dX10_asked_41 : decode cX10_asked 41 = .ok (.istore 4, 2) := by decide +kernel
theorem dX10_asked_43 : decode cX10_asked 43 = .ok (.iload 4, 2) := by decide +kernel
theorem dX10_asked_45 : decode cX10_asked 45 = .ok (.iconst (-1), 1) := by decide +kernel
theorem dX10_asked_46 : decode cX10_asked 46 = .ok (.if_icmp .ne 7, 3) := by decide +kernel
theorem dX10_asked_49 : decode cX10_asked 49 = .ok (.iconst (-1), 1) := by decide +kernel
theorem dX10_asked_50 : decode cX10_asked 50 = .ok (.goto 12, 3) := by decide +kernel
theorem dX10_asked_53 : decode cX10_asked 53 = .ok (.iload 4, 2) := by decide +kernel
theorem dX10_asked_55 : decode cX10_asked 55 = .ok (.iload_n 3, 1) := by decide +kernel
theorem dX10_asked_56 : decode cX10_asked 56 = .ok (.bipush 6, 2) := by decide +kernel
theorem dX10_asked_58 : decode cX10_asked 58 = .ok (.irem, 1) := by decide +kernel
theorem dX10_asked_59 : decode cX10_asked 59 = .ok (.iadd, 1) := by decide +kernel
theorem dX10_asked_60 : decode cX10_asked 60 = .ok (.iconst 1, 1) := by decide +kernel
theorem dX10_asked_61 : decode cX10_asked 61 = .ok (.iadd, 1) := by decide +kernel
theorem dX10_asked_62 : decode cX10_asked 62 = .ok (.ireturn, 1) := by decide +kernel
theorem yd_X10_asked : yX10_asked.cls ≠ "java/lang/invoke/MethodHandle" ∧ yX10_asked.cls ≠ "java/lang/invoke/VarHandle" ∧ (parseMethodDescriptor yX10_asked.desc).map (fun d => d.parameters.length) = some 2 := by decide +kernel
abbrev rm_X10_asked : Room := { frames := 2, cells := 0, slots := 0, locals := 42 }
set_option maxHeartbeats 4000000 in
theorem w_X10_asked_41 {p : Program} {l : Launch} {e : Env} {s : State} {m : MethodId} {args : Array Value} {below : List Frame} {meth : Method} {c : Code} {g : Gl} (X : FX g p m c s args meth cX10_asked 5 RX10 (some .int) "asked") {r : Int32 × Hp} {σ : Hp} {x3 : Int32} {y0 : Int32}  {H : Heap} {locs : List Loc} {ls : Array Slot} (h : F_X10_asked_41 σ x3 y0 = some r) (hV : HV g σ H) (hF : FR g locs) (hl : lv_has ls 5 [(3, .int x3)]) : W p l e rm_X10_asked s m args below meth c H locs 0 0 (MQ below (Qi g r) args s 0 0 (frN g)) (F0 m 41 ls [.int y0]) := by
  unfold F_X10_asked_41 at h
  refine lv_istore (lv' := [(4, .int y0), (3, .int x3)]) X.1 X.2.1 dX10_asked_41 hl (by decide) rfl (fun ls hl => ?_)
  refine lv_iload X.1 X.2.1 dX10_asked_43 (lv_at hl 0 rfl) ?_
  refine lv_iconst (v := (-1)) X.1 X.2.1 dX10_asked_45 (by decide) ?_
  refine r_ne (tgt := 53) X.1 X.2.1 dX10_asked_46 (by decide) h (fun h => ?_) (fun h => ?_)
  · refine lv_iload X.1 X.2.1 dX10_asked_53 (lv_at hl 0 rfl) ?_
    refine lv_iload_n X.1 X.2.1 dX10_asked_55 rfl (lv_at hl 1 rfl) ?_
    refine lv_bipush (v := 6) X.1 X.2.1 dX10_asked_56 (by decide) ?_
    refine lv_irem X.1 X.2.1 dX10_asked_58 (by decide) ?_
    refine lv_iadd X.1 X.2.1 dX10_asked_59 ?_
    refine lv_iconst (v := 1) X.1 X.2.1 dX10_asked_60 (by decide) ?_
    refine lv_iadd X.1 X.2.1 dX10_asked_61 ?_
    exact r_iret X hV hF h dX10_asked_62
  · refine lv_iconst (v := (-1)) X.1 X.2.1 dX10_asked_49 (by decide) ?_
    refine lv_goto (tgt := 62) X.1 X.2.1 dX10_asked_50 (by decide) ?_
    exact r_iret X hV hF h dX10_asked_62
set_option maxHeartbeats 4000000 in
theorem c_X10_asked (l : Launch) {g : Gl} {σ : Hp} {x0 : Nat} {x1 : Int32} {x2 : Int32} {r : Int32 × Hp} (h : F_X10_asked σ x0 x1 x2 = some r) : Met l yX10_asked (ws_ yX10_asked cX10_asked 5 (some .int)) rm_X10_asked (va_Pc [.ref x0, .int x1, .int x2] (WV g σ)) (Qi g r) 0 0 (frN g) := by
  refine ct_of (by decide) (Nat.le_of_ble_eq_true rfl) ?_
  intro p e s m below meth c ls X hV hl
  have hF : FR g [] := FR_nil
  unfold F_X10_asked at h
  have hl : lv_has ls 5 [(0, .ref x0), (1, .int x1), (2, .int x2)] := hl
  have X : FX g p m c s _ meth cX10_asked 5 RX10 (some .int) "asked" := X
  obtain ⟨-, h⟩ := gd_inv h
  refine lv_iload_n X.1 X.2.1 dX10_asked_0 rfl (lv_at hl 1 rfl) ?_
  obtain ⟨v1, s1, hc, h⟩ := b2_inv h
  refine r_ci (va_runS (As := [.int x1]) (rest := []) (cfX X) (c_X10_isThing l hc) (va_cwS 1 X.2.2.2.2.1 (lw_S q1123 q1124 q59 q1125) rfl rfl rfl yd_X10_isThing ⟨Nat.le_of_ble_eq_true rfl, Nat.le_of_ble_eq_true rfl⟩) (preS X hV) rfl rfl hl.1 rfl (lv_room (Nat.le_of_ble_eq_true rfl)) dX10_asked_1 ⟨(Nat.le_of_ble_eq_true rfl), (Nat.le_of_ble_eq_true rfl)⟩) hF (fun H locs hV hF => ?_)
  refine r_ifeq (tgt := 14) X.1 X.2.1 dX10_asked_4 (by decide) h (fun h => ?_) (fun h => ?_)
  · refine lv_bipush (v := (-2)) X.1 X.2.1 dX10_asked_14 (by decide) ?_
    exact r_iret X hV hF h dX10_asked_16
  · refine lv_iload_n X.1 X.2.1 dX10_asked_7 rfl (lv_at hl 2 rfl) ?_
    obtain ⟨v2, s2, hc, h⟩ := b2_inv h
    refine r_ci (va_runS (As := [.int x2]) (rest := []) (cfX X) (c_X10_isRoom l hc) (va_cwS 1 X.2.2.2.2.1 (lw_S q1101 q1102 q59 q1103) rfl rfl rfl yd_X10_isRoom ⟨Nat.le_of_ble_eq_true rfl, Nat.le_of_ble_eq_true rfl⟩) (preS X hV) rfl rfl hl.1 rfl (lv_room (Nat.le_of_ble_eq_true rfl)) dX10_asked_8 ⟨(Nat.le_of_ble_eq_true rfl), (Nat.le_of_ble_eq_true rfl)⟩) hF (fun H locs hV hF => ?_)
    refine r_ifne (tgt := 17) X.1 X.2.1 dX10_asked_11 (by decide) h (fun h => ?_) (fun h => ?_)
    · refine lv_aload_n X.1 X.2.1 dX10_asked_17 rfl (lv_at hl 0 rfl) ?_
      refine lv_iload_n X.1 X.2.1 dX10_asked_18 rfl (lv_at hl 1 rfl) ?_
      obtain ⟨v3, s3, hc, h⟩ := b2_inv h
      refine r_ci (va_runV (C := RX10) (As := [.int x1]) (rest := []) (cfX X) (c_X10_cornerOf l hc) (cwV 1 X.2.2.2.2.1 (lw_V q1149 q1151 qs25 q59 q1152) rfl rfl rfl ⟨rfl, yd_X10_cornerOf⟩ ⟨Nat.le_of_ble_eq_true rfl, Nat.le_of_ble_eq_true rfl⟩) (preV X hV (F_X10_cornerOf_g hc) rfl) rfl rfl hl.1 rfl (lv_room (Nat.le_of_ble_eq_true rfl)) dX10_asked_19 ⟨(Nat.le_of_ble_eq_true rfl), (Nat.le_of_ble_eq_true rfl)⟩) hF (fun H locs hV hF => ?_)
      refine lv_istore_n (lv' := [(3, .int v3), (0, .ref x0), (1, .int x1), (2, .int x2)]) X.1 X.2.1 dX10_asked_22 rfl hl (by decide) rfl (fun ls hl => ?_)
      refine lv_iload_n X.1 X.2.1 dX10_asked_23 rfl (lv_at hl 0 rfl) ?_
      refine lv_iconst (v := (-1)) X.1 X.2.1 dX10_asked_24 (by decide) ?_
      refine r_ne (tgt := 32) X.1 X.2.1 dX10_asked_25 (by decide) h (fun h => ?_) (fun h => ?_)
      · refine lv_aload_n X.1 X.2.1 dX10_asked_32 rfl (lv_at hl 1 rfl) ?_
        refine lv_iload_n X.1 X.2.1 dX10_asked_33 rfl (lv_at hl 3 rfl) ?_
        refine lv_iload_n X.1 X.2.1 dX10_asked_34 rfl (lv_at hl 0 rfl) ?_
        refine lv_bipush (v := 6) X.1 X.2.1 dX10_asked_35 (by decide) ?_
        refine lv_idiv X.1 X.2.1 dX10_asked_37 (by decide) ?_
        obtain ⟨v4, s4, hc, h⟩ := b2_inv h
        refine r_ci (va_runV (C := RX10) (As := [.int x2, .int (v3 / 6)]) (rest := []) (cfX X) (c_X10_doorsTo l hc) (cwV 2 X.2.2.2.2.1 (lw_V q1115 q1117 qs23 q59 q1118) rfl rfl rfl ⟨rfl, yd_X10_doorsTo⟩ ⟨Nat.le_of_ble_eq_true rfl, Nat.le_of_ble_eq_true rfl⟩) (preV X hV (F_X10_doorsTo_g hc) rfl) rfl rfl hl.1 rfl (lv_room (Nat.le_of_ble_eq_true rfl)) dX10_asked_38 ⟨(Nat.le_of_ble_eq_true rfl), (Nat.le_of_ble_eq_true rfl)⟩) hF (fun H locs hV hF => ?_)
        exact w_X10_asked_41 X  h hV hF (lv_sub hl [0] rfl)
      · refine lv_iconst (v := (-1)) X.1 X.2.1 dX10_asked_28 (by decide) ?_
        refine lv_goto (tgt := 41) X.1 X.2.1 dX10_asked_29 (by decide) ?_
        exact w_X10_asked_41 X  h hV hF (lv_sub hl [0] rfl)
    · refine lv_bipush (v := (-2)) X.1 X.2.1 dX10_asked_14 (by decide) ?_
      exact r_iret X hV hF h dX10_asked_16
/-! PalaceOfRoomsModel.beside -/
theorem dX10_beside_0 : decode cX10_beside 0 = .ok (.iload_n 1, 1) := by decide +kernel
theorem dX10_beside_1 : decode cX10_beside 1 = .ok (.invokestatic 112, 3) := by decide +kernel
theorem dX10_beside_4 : decode cX10_beside 4 = .ok (.ifCond .ne 6, 3) := by decide +kernel
theorem dX10_beside_7 : decode cX10_beside 7 = .ok (.bipush (-2), 2) := by decide +kernel
theorem dX10_beside_9 : decode cX10_beside 9 = .ok (.ireturn, 1) := by decide +kernel
theorem dX10_beside_10 : decode cX10_beside 10 = .ok (.iload_n 2, 1) := by decide +kernel
theorem dX10_beside_11 : decode cX10_beside 11 = .ok (.iconst 0, 1) := by decide +kernel
theorem dX10_beside_12 : decode cX10_beside 12 = .ok (.iconst 1, 1) := by decide +kernel
theorem dX10_beside_13 : decode cX10_beside 13 = .ok (.invokestatic 93, 3) := by decide +kernel
theorem dX10_beside_16 : decode cX10_beside 16 = .ok (.ifCond .ne 6, 3) := by decide +kernel
theorem dX10_beside_19 : decode cX10_beside 19 = .ok (.bipush (-3), 2) := by decide +kernel
theorem dX10_beside_21 : decode cX10_beside 21 = .ok (.ireturn, 1) := by decide +kernel
theorem dX10_beside_22 : decode cX10_beside 22 = .ok (.aload_n 0, 1) := by decide +kernel
theorem dX10_beside_23 : decode cX10_beside 23 = .ok (.iload_n 1, 1) := by decide +kernel
theorem dX10_beside_24 : decode cX10_beside 24 = .ok (.invokevirtual 121, 3) := by decide +kernel
theorem dX10_beside_27 : decode cX10_beside 27 = .ok (.istore_n 3, 1) := by decide +kernel
theorem dX10_beside_28 : decode cX10_beside 28 = .ok (.iconst (-1), 1) := by decide +kernel
theorem dX10_beside_29 : decode cX10_beside 29 = .ok (.istore 4, 2) := by decide +kernel
theorem dX10_beside_31 : decode cX10_beside 31 = .ok (.iload_n 3, 1) := by decide +kernel
theorem dX10_beside_32 : decode cX10_beside 32 = .ok (.iconst (-1), 1) := by decide +kernel
theorem dX10_beside_33 : decode cX10_beside 33 = .ok (.if_icmp .eq 75, 3) := by decide +kernel
theorem dX10_beside_36 : decode cX10_beside 36 = .ok (.iload_n 3, 1) := by decide +kernel
theorem dX10_beside_37 : decode cX10_beside 37 = .ok (.iload_n 2, 1) := by decide +kernel
theorem dX10_beside_38 : decode cX10_beside 38 = .ok (.ifCond .ne 7, 3) := by decide +kernel
theorem dX10_beside_41 : decode cX10_beside 41 = .ok (.iconst (-1), 1) := by decide +kernel
theorem dX10_beside_42 : decode cX10_beside 42 = .ok (.goto 4, 3) := by decide +kernel
theorem dX10_beside_45 : decode cX10_beside 45 = .ok (.iconst 1, 1) := by decide +kernel
theorem dX10_beside_46 : decode cX10_beside 46 = .ok (.iadd, 1) := by decide +kernel
theorem dX10_beside_47 : decode cX10_beside 47 = .ok (.istore 5, 2) := by decide +kernel
theorem dX10_beside_49 : decode cX10_beside 49 = .ok (.iload 5, 2) := by decide +kernel
theorem dX10_beside_51 : decode cX10_beside 51 = .ok (.iload_n 3, 1) := by decide +kernel
theorem dX10_beside_52 : decode cX10_beside 52 = .ok (.bipush 6, 2) := by decide +kernel
theorem dX10_beside_54 : decode cX10_beside 54 = .ok (.idiv, 1) := by decide +kernel
theorem dX10_beside_55 : decode cX10_beside 55 = .ok (.bipush 6, 2) := by decide +kernel
theorem dX10_beside_57 : decode cX10_beside 57 = .ok (.imul, 1) := by decide +kernel
theorem dX10_beside_58 : decode cX10_beside 58 = .ok (.if_icmp .lt 50, 3) := by decide +kernel
theorem dX10_beside_61 : decode cX10_beside 61 = .ok (.iload 5, 2) := by decide +kernel
theorem dX10_beside_63 : decode cX10_beside 63 = .ok (.iload_n 3, 1) := by decide +kernel
theorem dX10_beside_64 : decode cX10_beside 64 = .ok (.bipush 6, 2) := by decide +kernel
theorem dX10_beside_66 : decode cX10_beside 66 = .ok (.idiv, 1) := by decide +kernel
theorem dX10_beside_67 : decode cX10_beside 67 = .ok (.bipush 6, 2) := by decide +kernel
theorem dX10_beside_69 : decode cX10_beside 69 = .ok (.imul, 1) := by decide +kernel
theorem dX10_beside_70 : decode cX10_beside 70 = .ok (.bipush 6, 2) := by decide +kernel
theorem dX10_beside_72 : decode cX10_beside 72 = .ok (.iadd, 1) := by decide +kernel
theorem dX10_beside_73 : decode cX10_beside 73 = .ok (.if_icmp .ge 35, 3) := by decide +kernel
theorem dX10_beside_76 : decode cX10_beside 76 = .ok (.iload 4, 2) := by decide +kernel
theorem dX10_beside_78 : decode cX10_beside 78 = .ok (.iconst (-1), 1) := by decide +kernel
theorem dX10_beside_79 : decode cX10_beside 79 = .ok (.if_icmp .ne 29, 3) := by decide +kernel
theorem dX10_beside_82 : decode cX10_beside 82 = .ok (.aload_n 0, 1) := by decide +kernel
theorem dX10_beside_83 : decode cX10_beside 83 = .ok (.getfield 32, 3) := by decide +kernel
theorem dX10_beside_86 : decode cX10_beside 86 = .ok (.iload 5, 2) := by decide +kernel
theorem dX10_beside_88 : decode cX10_beside 88 = .ok (.iaload, 1) := by decide +kernel
theorem dX10_beside_89 : decode cX10_beside 89 = .ok (.istore 4, 2) := by decide +kernel
theorem dX10_beside_91 : decode cX10_beside 91 = .ok (.iload 5, 2) := by decide +kernel
theorem dX10_beside_93 : decode cX10_beside 93 = .ok (.iload_n 2, 1) := by decide +kernel
theorem dX10_beside_94 : decode cX10_beside 94 = .ok (.ifCond .ne 7, 3) := by decide +kernel
theorem dX10_beside_97 : decode cX10_beside 97 = .ok (.iconst (-1), 1) := by decide +kernel
theorem dX10_beside_98 : decode cX10_beside 98 = .ok (.goto 4, 3) := by decide +kernel
theorem dX10_beside_101 : decode cX10_beside 101 = .ok (.iconst 1, 1) := by decide +kernel
theorem dX10_beside_102 : decode cX10_beside 102 = .ok (.iadd, 1) := by decide +kernel
theorem dX10_beside_103 : decode cX10_beside 103 = .ok (.istore 5, 2) := by decide +kernel
theorem dX10_beside_105 : decode cX10_beside 105 = .ok (.goto (-56), 3) := by decide +kernel
theorem dX10_beside_108 : decode cX10_beside 108 = .ok (.iload 4, 2) := by decide +kernel
theorem dX10_beside_110 : decode cX10_beside 110 = .ok (.ireturn, 1) := by decide +kernel
theorem yd_X10_beside : yX10_beside.cls ≠ "java/lang/invoke/MethodHandle" ∧ yX10_beside.cls ≠ "java/lang/invoke/VarHandle" ∧ (parseMethodDescriptor yX10_beside.desc).map (fun d => d.parameters.length) = some 2 := by decide +kernel
abbrev rm_X10_beside : Room := { frames := 2, cells := 0, slots := 0, locals := 42 }
set_option maxHeartbeats 4000000 in
theorem w_X10_beside_49_b {p : Program} {l : Launch} {e : Env} {s : State} {m : MethodId} {args : Array Value} {below : List Frame} {meth : Method} {c : Code} {g : Gl} (X : FX g p m c s args meth cX10_beside 6 RX10 (some .int) "beside") {r : Int32 × Hp} {rec49 : Int32 × Int32 → Option (Int32 × Hp)} {σ : Hp} {x0 : Nat} {x2 : Int32} {x3 : Int32} {x4 : Int32} {x5 : Int32} (hr49 : ∀ (st : Int32 × Int32), rec49 st = some r → ∀ (H : Heap) (locs : List Loc) (ls : Array Slot), HV g σ H → FR g locs → lv_has ls 6 [(0, .ref x0), (2, .int x2), (3, .int x3), (4, .int st.1), (5, .int st.2)] → W p l e rm_X10_beside s m args below meth c H locs 0 0 (MQ below (Qi g r) args s 0 0 (frN g)) (F0 m 49 ls [])) {H : Heap} {locs : List Loc} {ls : Array Slot} (h : B_X10_beside_49 σ x0 x2 x3 rec49 x4 x5 = some r) (hV : HV g σ H) (hF : FR g locs) (hl : lv_has ls 6 [(0, .ref x0), (2, .int x2), (3, .int x3), (4, .int x4), (5, .int x5)]) : W p l e rm_X10_beside s m args below meth c H locs 0 0 (MQ below (Qi g r) args s 0 0 (frN g)) (F0 m 49 ls []) := by
  unfold B_X10_beside_49 at h
  refine lv_iload X.1 X.2.1 dX10_beside_49 (lv_at hl 4 rfl) ?_
  refine lv_iload_n X.1 X.2.1 dX10_beside_51 rfl (lv_at hl 2 rfl) ?_
  refine lv_bipush (v := 6) X.1 X.2.1 dX10_beside_52 (by decide) ?_
  refine lv_idiv X.1 X.2.1 dX10_beside_54 (by decide) ?_
  refine lv_bipush (v := 6) X.1 X.2.1 dX10_beside_55 (by decide) ?_
  refine lv_imul X.1 X.2.1 dX10_beside_57 ?_
  refine r_lt (tgt := 108) X.1 X.2.1 dX10_beside_58 (by decide) h (fun h => ?_) (fun h => ?_)
  · refine lv_iload X.1 X.2.1 dX10_beside_108 (lv_at hl 3 rfl) ?_
    exact r_iret X hV hF h dX10_beside_110
  · refine lv_iload X.1 X.2.1 dX10_beside_61 (lv_at hl 4 rfl) ?_
    refine lv_iload_n X.1 X.2.1 dX10_beside_63 rfl (lv_at hl 2 rfl) ?_
    refine lv_bipush (v := 6) X.1 X.2.1 dX10_beside_64 (by decide) ?_
    refine lv_idiv X.1 X.2.1 dX10_beside_66 (by decide) ?_
    refine lv_bipush (v := 6) X.1 X.2.1 dX10_beside_67 (by decide) ?_
    refine lv_imul X.1 X.2.1 dX10_beside_69 ?_
    refine lv_bipush (v := 6) X.1 X.2.1 dX10_beside_70 (by decide) ?_
    refine lv_iadd X.1 X.2.1 dX10_beside_72 ?_
    refine r_ge (tgt := 108) X.1 X.2.1 dX10_beside_73 (by decide) h (fun h => ?_) (fun h => ?_)
    · refine lv_iload X.1 X.2.1 dX10_beside_108 (lv_at hl 3 rfl) ?_
      exact r_iret X hV hF h dX10_beside_110
    · refine lv_iload X.1 X.2.1 dX10_beside_76 (lv_at hl 3 rfl) ?_
      refine lv_iconst (v := (-1)) X.1 X.2.1 dX10_beside_78 (by decide) ?_
      refine r_ne (tgt := 108) X.1 X.2.1 dX10_beside_79 (by decide) h (fun h => ?_) (fun h => ?_)
      · refine lv_iload X.1 X.2.1 dX10_beside_108 (lv_at hl 3 rfl) ?_
        exact r_iret X hV hF h dX10_beside_110
      · refine lv_aload_n X.1 X.2.1 dX10_beside_82 rfl (lv_at hl 0 rfl) ?_
        refine r_gR X hV fl_X10_32_10 (by decide) dX10_beside_83 h (fun v1 h => ?_)
        refine lv_iload X.1 X.2.1 dX10_beside_86 (lv_at hl 4 rfl) ?_
        refine r_ia X hV dX10_beside_88 h (fun v2 h => ?_)
        refine lv_istore (lv' := [(4, .int v2), (0, .ref x0), (2, .int x2), (3, .int x3), (5, .int x5)]) X.1 X.2.1 dX10_beside_89 hl (by decide) rfl (fun ls hl => ?_)
        refine lv_iload X.1 X.2.1 dX10_beside_91 (lv_at hl 4 rfl) ?_
        refine lv_iload_n X.1 X.2.1 dX10_beside_93 rfl (lv_at hl 2 rfl) ?_
        refine r_ifne (tgt := 101) X.1 X.2.1 dX10_beside_94 (by decide) h (fun h => ?_) (fun h => ?_)
        · refine lv_iconst (v := 1) X.1 X.2.1 dX10_beside_101 (by decide) ?_
          refine lv_iadd X.1 X.2.1 dX10_beside_102 ?_
          refine lv_istore (lv' := [(5, .int (x5 + 1)), (4, .int v2), (0, .ref x0), (2, .int x2), (3, .int x3)]) X.1 X.2.1 dX10_beside_103 hl (by decide) rfl (fun ls hl => ?_)
          refine lv_goto (tgt := 49) X.1 X.2.1 dX10_beside_105 (by decide) ?_
          exact hr49 (v2, x5 + 1) h _ _ _ hV hF (lv_sub hl [2, 3, 4, 1, 0] rfl)
        · refine lv_iconst (v := (-1)) X.1 X.2.1 dX10_beside_97 (by decide) ?_
          refine lv_goto (tgt := 102) X.1 X.2.1 dX10_beside_98 (by decide) ?_
          refine lv_iadd X.1 X.2.1 dX10_beside_102 ?_
          refine lv_istore (lv' := [(5, .int (x5 + (-1))), (4, .int v2), (0, .ref x0), (2, .int x2), (3, .int x3)]) X.1 X.2.1 dX10_beside_103 hl (by decide) rfl (fun ls hl => ?_)
          refine lv_goto (tgt := 49) X.1 X.2.1 dX10_beside_105 (by decide) ?_
          exact hr49 (v2, x5 + (-1)) h _ _ _ hV hF (lv_sub hl [2, 3, 4, 1, 0] rfl)
set_option maxHeartbeats 4000000 in
theorem w_X10_beside_49 {p : Program} {l : Launch} {e : Env} {s : State} {m : MethodId} {args : Array Value} {below : List Frame} {meth : Method} {c : Code} {g : Gl} (X : FX g p m c s args meth cX10_beside 6 RX10 (some .int) "beside") {r : Int32 × Hp} {σ : Hp} {x0 : Nat} {x2 : Int32} {x3 : Int32}  : ∀ (n : Nat) (st : Int32 × Int32), L_X10_beside_49 σ x0 x2 x3 n st = some r → ∀ (H : Heap) (locs : List Loc) (ls : Array Slot), HV g σ H → FR g locs → lv_has ls 6 [(0, .ref x0), (2, .int x2), (3, .int x3), (4, .int st.1), (5, .int st.2)] → W p l e rm_X10_beside s m args below meth c H locs 0 0 (MQ below (Qi g r) args s 0 0 (frN g)) (F0 m 49 ls []) := by
  intro n
  induction n with
  | zero =>
    intro st h
    rw [L_X10_beside_49_0] at h
    cases h
  | succ n ih =>
    intro st h H locs ls hV hF hl
    rw [L_X10_beside_49_s] at h
    exact w_X10_beside_49_b X  ih h hV hF hl
set_option maxHeartbeats 4000000 in
theorem c_X10_beside (l : Launch) {g : Gl} {σ : Hp} {x0 : Nat} {x1 : Int32} {x2 : Int32} {r : Int32 × Hp} (h : F_X10_beside σ x0 x1 x2 = some r) : Met l yX10_beside (ws_ yX10_beside cX10_beside 6 (some .int)) rm_X10_beside (va_Pc [.ref x0, .int x1, .int x2] (WV g σ)) (Qi g r) 0 0 (frN g) := by
  refine ct_of (by decide) (Nat.le_of_ble_eq_true rfl) ?_
  intro p e s m below meth c ls X hV hl
  have hF : FR g [] := FR_nil
  unfold F_X10_beside at h
  have hl : lv_has ls 6 [(0, .ref x0), (1, .int x1), (2, .int x2)] := hl
  have X : FX g p m c s _ meth cX10_beside 6 RX10 (some .int) "beside" := X
  obtain ⟨-, h⟩ := gd_inv h
  refine lv_iload_n X.1 X.2.1 dX10_beside_0 rfl (lv_at hl 1 rfl) ?_
  obtain ⟨v1, s1, hc, h⟩ := b2_inv h
  refine r_ci (va_runS (As := [.int x1]) (rest := []) (cfX X) (c_X10_isThing l hc) (va_cwS 1 X.2.2.2.2.1 (lw_S q1123 q1124 q59 q1125) rfl rfl rfl yd_X10_isThing ⟨Nat.le_of_ble_eq_true rfl, Nat.le_of_ble_eq_true rfl⟩) (preS X hV) rfl rfl hl.1 rfl (lv_room (Nat.le_of_ble_eq_true rfl)) dX10_beside_1 ⟨(Nat.le_of_ble_eq_true rfl), (Nat.le_of_ble_eq_true rfl)⟩) hF (fun H locs hV hF => ?_)
  refine r_ifne (tgt := 10) X.1 X.2.1 dX10_beside_4 (by decide) h (fun h => ?_) (fun h => ?_)
  · refine lv_iload_n X.1 X.2.1 dX10_beside_10 rfl (lv_at hl 2 rfl) ?_
    refine lv_iconst (v := 0) X.1 X.2.1 dX10_beside_11 (by decide) ?_
    refine lv_iconst (v := 1) X.1 X.2.1 dX10_beside_12 (by decide) ?_
    obtain ⟨v2, s2, hc, h⟩ := b2_inv h
    refine r_ci (va_runS (As := [.int x2, .int 0, .int 1]) (rest := []) (cfX X) (c_X10_in l hc) (va_cwS 3 X.2.2.2.2.1 (lw_S q1104 q1105 q59 q1106) rfl rfl rfl yd_X10_in ⟨Nat.le_of_ble_eq_true rfl, Nat.le_of_ble_eq_true rfl⟩) (preS X hV) rfl rfl hl.1 rfl (lv_room (Nat.le_of_ble_eq_true rfl)) dX10_beside_13 ⟨(Nat.le_of_ble_eq_true rfl), (Nat.le_of_ble_eq_true rfl)⟩) hF (fun H locs hV hF => ?_)
    refine r_ifne (tgt := 22) X.1 X.2.1 dX10_beside_16 (by decide) h (fun h => ?_) (fun h => ?_)
    · refine lv_aload_n X.1 X.2.1 dX10_beside_22 rfl (lv_at hl 0 rfl) ?_
      refine lv_iload_n X.1 X.2.1 dX10_beside_23 rfl (lv_at hl 1 rfl) ?_
      obtain ⟨v3, s3, hc, h⟩ := b2_inv h
      refine r_ci (va_runV (C := RX10) (As := [.int x1]) (rest := []) (cfX X) (c_X10_cornerOf l hc) (cwV 1 X.2.2.2.2.1 (lw_V q1149 q1151 qs25 q59 q1152) rfl rfl rfl ⟨rfl, yd_X10_cornerOf⟩ ⟨Nat.le_of_ble_eq_true rfl, Nat.le_of_ble_eq_true rfl⟩) (preV X hV (F_X10_cornerOf_g hc) rfl) rfl rfl hl.1 rfl (lv_room (Nat.le_of_ble_eq_true rfl)) dX10_beside_24 ⟨(Nat.le_of_ble_eq_true rfl), (Nat.le_of_ble_eq_true rfl)⟩) hF (fun H locs hV hF => ?_)
      refine lv_istore_n (lv' := [(3, .int v3), (0, .ref x0), (1, .int x1), (2, .int x2)]) X.1 X.2.1 dX10_beside_27 rfl hl (by decide) rfl (fun ls hl => ?_)
      refine lv_iconst (v := (-1)) X.1 X.2.1 dX10_beside_28 (by decide) ?_
      refine lv_istore (lv' := [(4, .int (-1)), (3, .int v3), (0, .ref x0), (1, .int x1), (2, .int x2)]) X.1 X.2.1 dX10_beside_29 hl (by decide) rfl (fun ls hl => ?_)
      refine lv_iload_n X.1 X.2.1 dX10_beside_31 rfl (lv_at hl 1 rfl) ?_
      refine lv_iconst (v := (-1)) X.1 X.2.1 dX10_beside_32 (by decide) ?_
      refine r_eq (tgt := 108) X.1 X.2.1 dX10_beside_33 (by decide) h (fun h => ?_) (fun h => ?_)
      · refine lv_iload X.1 X.2.1 dX10_beside_108 (lv_at hl 0 rfl) ?_
        exact r_iret X hV hF h dX10_beside_110
      · refine lv_iload_n X.1 X.2.1 dX10_beside_36 rfl (lv_at hl 1 rfl) ?_
        refine lv_iload_n X.1 X.2.1 dX10_beside_37 rfl (lv_at hl 4 rfl) ?_
        refine r_ifne (tgt := 45) X.1 X.2.1 dX10_beside_38 (by decide) h (fun h => ?_) (fun h => ?_)
        · refine lv_iconst (v := 1) X.1 X.2.1 dX10_beside_45 (by decide) ?_
          refine lv_iadd X.1 X.2.1 dX10_beside_46 ?_
          refine lv_istore (lv' := [(5, .int (v3 + 1)), (4, .int (-1)), (3, .int v3), (0, .ref x0), (1, .int x1), (2, .int x2)]) X.1 X.2.1 dX10_beside_47 hl (by decide) rfl (fun ls hl => ?_)
          exact w_X10_beside_49 X  FU ((-1), v3 + 1) h _ _ _ hV hF (lv_sub hl [3, 5, 2, 1, 0] rfl)
        · refine lv_iconst (v := (-1)) X.1 X.2.1 dX10_beside_41 (by decide) ?_
          refine lv_goto (tgt := 46) X.1 X.2.1 dX10_beside_42 (by decide) ?_
          refine lv_iadd X.1 X.2.1 dX10_beside_46 ?_
          refine lv_istore (lv' := [(5, .int (v3 + (-1))), (4, .int (-1)), (3, .int v3), (0, .ref x0), (1, .int x1), (2, .int x2)]) X.1 X.2.1 dX10_beside_47 hl (by decide) rfl (fun ls hl => ?_)
          exact w_X10_beside_49 X  FU ((-1), v3 + (-1)) h _ _ _ hV hF (lv_sub hl [3, 5, 2, 1, 0] rfl)
    · refine lv_bipush (v := (-3)) X.1 X.2.1 dX10_beside_19 (by decide) ?_
      exact r_iret X hV hF h dX10_beside_21
  · refine lv_bipush (v := (-2)) X.1 X.2.1 dX10_beside_7 (by decide) ?_
    exact r_iret X hV hF h dX10_beside_9
/-! PalaceOfRoomsModel.isPupil -/
theorem dX10_isPupil_0 : decode cX10_isPupil 0 = .ok (.iload_n 0, 1) := by decide +kernel
theorem dX10_isPupil_1 : decode cX10_isPupil 1 = .ok (.iconst 0, 1) := by decide +kernel
theorem dX10_isPupil_2 : decode cX10_isPupil 2 = .ok (.iconst 3, 1) := by decide +kernel
theorem dX10_isPupil_3 : decode cX10_isPupil 3 = .ok (.invokestatic 93, 3) := by decide +kernel
theorem dX10_isPupil_6 : decode cX10_isPupil 6 = .ok (.ireturn, 1) := by decide +kernel
theorem yd_X10_isPupil : yX10_isPupil.cls ≠ "java/lang/invoke/MethodHandle" ∧ yX10_isPupil.cls ≠ "java/lang/invoke/VarHandle" ∧ (parseMethodDescriptor yX10_isPupil.desc).map (fun d => d.parameters.length) = some 1 := by decide +kernel
abbrev rm_X10_isPupil : Room := { frames := 1, cells := 0, slots := 0, locals := 22 }
set_option maxHeartbeats 4000000 in
theorem c_X10_isPupil (l : Launch) {g : Gl} {σ : Hp} {x0 : Int32} {r : Int32 × Hp} (h : F_X10_isPupil σ x0 = some r) : Met l yX10_isPupil (ws_ yX10_isPupil cX10_isPupil 1 (some .boolean)) rm_X10_isPupil (va_Pc [.int x0] (WV g σ)) (Qi g r) 0 0 (frN g) := by
  refine ct_of (by decide) (Nat.le_of_ble_eq_true rfl) ?_
  intro p e s m below meth c ls X hV hl
  have hF : FR g [] := FR_nil
  unfold F_X10_isPupil at h
  have hl : lv_has ls 1 [(0, .int x0)] := hl
  have X : FX g p m c s _ meth cX10_isPupil 1 RX10 (some .boolean) "isPupil" := X
  refine lv_iload_n X.1 X.2.1 dX10_isPupil_0 rfl (lv_at hl 0 rfl) ?_
  refine lv_iconst (v := 0) X.1 X.2.1 dX10_isPupil_1 (by decide) ?_
  refine lv_iconst (v := 3) X.1 X.2.1 dX10_isPupil_2 (by decide) ?_
  obtain ⟨v1, s1, hc, h⟩ := b2_inv h
  refine r_ci (va_runS (As := [.int x0, .int 0, .int 3]) (rest := []) (cfX X) (c_X10_in l hc) (va_cwS 3 X.2.2.2.2.1 (lw_S q1104 q1105 q59 q1106) rfl rfl rfl yd_X10_in ⟨Nat.le_of_ble_eq_true rfl, Nat.le_of_ble_eq_true rfl⟩) (preS X hV) rfl rfl hl.1 rfl (lv_room (Nat.le_of_ble_eq_true rfl)) dX10_isPupil_3 ⟨(Nat.le_of_ble_eq_true rfl), (Nat.le_of_ble_eq_true rfl)⟩) hF (fun H locs hV hF => ?_)
  exact r_zrv X hV hF h dX10_isPupil_6
/-! PalaceOfRoomsModel.answer -/
theorem dX10_answer_0 : decode cX10_answer 0 = .ok (.iload_n 1, 1) := by decide +kernel
theorem dX10_answer_1 : decode cX10_answer 1 = .ok (.invokestatic 254, 3) := by decide +kernel
theorem dX10_answer_4 : decode cX10_answer 4 = .ok (.ifCond .ne 6, 3) := by decide +kernel
theorem dX10_answer_7 : decode cX10_answer 7 = .ok (.bipush (-2), 2) := by decide +kernel
theorem dX10_answer_9 : decode cX10_answer 9 = .ok (.ireturn, 1) := by decide +kernel
theorem dX10_answer_10 : decode cX10_answer 10 = .ok (.iload_n 2, 1) := by decide +kernel
theorem dX10_answer_11 : decode cX10_answer 11 = .ok (.iconst 1, 1) := by decide +kernel
theorem dX10_answer_12 : decode cX10_answer 12 = .ok (.bipush 60, 2) := by decide +kernel
theorem dX10_answer_14 : decode cX10_answer 14 = .ok (.invokestatic 93, 3) := by decide +kernel
theorem dX10_answer_17 : decode cX10_answer 17 = .ok (.ifCond .ne 6, 3) := by decide +kernel
theorem dX10_answer_20 : decode cX10_answer 20 = .ok (.bipush (-3), 2) := by decide +kernel
theorem dX10_answer_22 : decode cX10_answer 22 = .ok (.ireturn, 1) := by decide +kernel
theorem dX10_answer_23 : decode cX10_answer 23 = .ok (.aload_n 0, 1) := by decide +kernel
theorem dX10_answer_24 : decode cX10_answer 24 = .ok (.getfield 80, 3) := by decide +kernel
theorem dX10_answer_27 : decode cX10_answer 27 = .ok (.iload_n 1, 1) := by decide +kernel
theorem dX10_answer_28 : decode cX10_answer 28 = .ok (.iaload, 1) := by decide +kernel
theorem dX10_answer_29 : decode cX10_answer 29 = .ok (.bipush 12, 2) := by decide +kernel
theorem dX10_answer_31 : decode cX10_answer 31 = .ok (.if_icmp .ne 6, 3) := by decide +kernel
theorem dX10_answer_34 : decode cX10_answer 34 = .ok (.bipush (-5), 2) := by decide +kernel
theorem dX10_answer_36 : decode cX10_answer 36 = .ok (.ireturn, 1) := by decide +kernel
theorem dX10_answer_37 : decode cX10_answer 37 = .ok (.aload_n 0, 1) := by decide +kernel
theorem dX10_answer_38 : decode cX10_answer 38 = .ok (.getfield 83, 3) := by decide +kernel
theorem dX10_answer_41 : decode cX10_answer 41 = .ok (.bipush 12, 2) := by decide +kernel
theorem dX10_answer_43 : decode cX10_answer 43 = .ok (.iload_n 1, 1) := by decide +kernel
theorem dX10_answer_44 : decode cX10_answer 44 = .ok (.imul, 1) := by decide +kernel
theorem dX10_answer_45 : decode cX10_answer 45 = .ok (.aload_n 0, 1) := by decide +kernel
theorem dX10_answer_46 : decode cX10_answer 46 = .ok (.getfield 80, 3) := by decide +kernel
theorem dX10_answer_49 : decode cX10_answer 49 = .ok (.iload_n 1, 1) := by decide +kernel
theorem dX10_answer_50 : decode cX10_answer 50 = .ok (.iaload, 1) := by decide +kernel
theorem dX10_answer_51 : decode cX10_answer 51 = .ok (.iadd, 1) := by decide +kernel
theorem dX10_answer_52 : decode cX10_answer 52 = .ok (.iload_n 2, 1) := by decide +kernel
theorem dX10_answer_53 : decode cX10_answer 53 = .ok (.iastore, 1) := by decide +kernel
theorem dX10_answer_54 : decode cX10_answer 54 = .ok (.aload_n 0, 1) := by decide +kernel
theorem dX10_answer_55 : decode cX10_answer 55 = .ok (.getfield 86, 3) := by decide +kernel
theorem dX10_answer_58 : decode cX10_answer 58 = .ok (.bipush 12, 2) := by decide +kernel
theorem dX10_answer_60 : decode cX10_answer 60 = .ok (.iload_n 1, 1) := by decide +kernel
theorem dX10_answer_61 : decode cX10_answer 61 = .ok (.imul, 1) := by decide +kernel
theorem dX10_answer_62 : decode cX10_answer 62 = .ok (.aload_n 0, 1) := by decide +kernel
theorem dX10_answer_63 : decode cX10_answer 63 = .ok (.getfield 80, 3) := by decide +kernel
theorem dX10_answer_66 : decode cX10_answer 66 = .ok (.iload_n 1, 1) := by decide +kernel
theorem dX10_answer_67 : decode cX10_answer 67 = .ok (.iaload, 1) := by decide +kernel
theorem dX10_answer_68 : decode cX10_answer 68 = .ok (.iadd, 1) := by decide +kernel
theorem dX10_answer_69 : decode cX10_answer 69 = .ok (.iload_n 3, 1) := by decide +kernel
theorem dX10_answer_70 : decode cX10_answer 70 = .ok (.bastore, 1) := by decide +kernel
theorem dX10_answer_71 : decode cX10_answer 71 = .ok (.aload_n 0, 1) := by decide +kernel
theorem dX10_answer_72 : decode cX10_answer 72 = .ok (.getfield 80, 3) := by decide +kernel
theorem dX10_answer_75 : decode cX10_answer 75 = .ok (.iload_n 1, 1) := by decide +kernel
theorem dX10_answer_76 : decode cX10_answer 76 = .ok (.dup2, 1) := by decide +kernel
theorem dX10_answer_77 : decode cX10_answer 77 = .ok (.iaload, 1) := by decide +kernel
theorem dX10_answer_78 : decode cX10_answer 78 = .ok (.iconst 1, 1) := by decide +kernel
theorem dX10_answer_79 : decode cX10_answer 79 = .ok (.iadd, 1) := by decide +kernel
theorem dX10_answer_80 : decode cX10_answer 80 = .ok (.iastore, 1) := by decide +kernel
theorem dX10_answer_81 : decode cX10_answer 81 = .ok (.aload_n 0, 1) := by decide +kernel
theorem dX10_answer_82 : decode cX10_answer 82 = .ok (.getfield 80, 3) := by decide +kernel
theorem dX10_answer_85 : decode cX10_answer 85 = .ok (.iload_n 1, 1) := by decide +kernel
theorem dX10_answer_86 : decode cX10_answer 86 = .ok (.iaload, 1) := by decide +kernel
theorem dX10_answer_87 : decode cX10_answer 87 = .ok (.ireturn, 1) := by decide +kernel
theorem yd_X10_answer : yX10_answer.cls ≠ "java/lang/invoke/MethodHandle" ∧ yX10_answer.cls ≠ "java/lang/invoke/VarHandle" ∧ (parseMethodDescriptor yX10_answer.desc).map (fun d => d.parameters.length) = some 3 := by decide +kernel
theorem fl_X10_80_10 : FLk RX10 80 10 35 "[I" := ⟨RX10, TX10, 39, "PalaceOfRoomsModel", rfl, by decide, (fun q => by have h1 := q.1; have h2 := q.2; omega), rfl, in_X10, Or.inl q1014, Or.inl rfl⟩
theorem fl_X10_83_10 : FLk RX10 83 10 36 "[I" := ⟨RX10, TX10, 39, "PalaceOfRoomsModel", rfl, by decide, (fun q => by have h1 := q.1; have h2 := q.2; omega), rfl, in_X10, Or.inl q1015, Or.inl rfl⟩
theorem fl_X10_86_10 : FLk RX10 86 10 37 "[Z" := ⟨RX10, TX10, 39, "PalaceOfRoomsModel", rfl, by decide, (fun q => by have h1 := q.1; have h2 := q.2; omega), rfl, in_X10, Or.inl q1016, Or.inl rfl⟩
abbrev rm_X10_answer : Room := { frames := 2, cells := 0, slots := 0, locals := 42 }
set_option maxHeartbeats 4000000 in
theorem c_X10_answer (l : Launch) {g : Gl} {σ : Hp} {x0 : Nat} {x1 : Int32} {x2 : Int32} {x3 : Int32} {r : Int32 × Hp} (h : F_X10_answer σ x0 x1 x2 x3 = some r) : Met l yX10_answer (ws_ yX10_answer cX10_answer 4 (some .int)) rm_X10_answer (va_Pc [.ref x0, .int x1, .int x2, .int x3] (WV g σ)) (Qi g r) 0 0 (frN g) := by
  refine ct_of (by decide) (Nat.le_of_ble_eq_true rfl) ?_
  intro p e s m below meth c ls X hV hl
  have hF : FR g [] := FR_nil
  unfold F_X10_answer at h
  have hl : lv_has ls 4 [(0, .ref x0), (1, .int x1), (2, .int x2), (3, .int x3)] := hl
  have X : FX g p m c s _ meth cX10_answer 4 RX10 (some .int) "answer" := X
  obtain ⟨-, h⟩ := gd_inv h
  refine lv_iload_n X.1 X.2.1 dX10_answer_0 rfl (lv_at hl 1 rfl) ?_
  obtain ⟨v1, s1, hc, h⟩ := b2_inv h
  refine r_ci (va_runS (As := [.int x1]) (rest := []) (cfX X) (c_X10_isPupil l hc) (va_cwS 1 X.2.2.2.2.1 (lw_S q1329 q1330 q59 q1331) rfl rfl rfl yd_X10_isPupil ⟨Nat.le_of_ble_eq_true rfl, Nat.le_of_ble_eq_true rfl⟩) (preS X hV) rfl rfl hl.1 rfl (lv_room (Nat.le_of_ble_eq_true rfl)) dX10_answer_1 ⟨(Nat.le_of_ble_eq_true rfl), (Nat.le_of_ble_eq_true rfl)⟩) hF (fun H locs hV hF => ?_)
  refine r_ifne (tgt := 10) X.1 X.2.1 dX10_answer_4 (by decide) h (fun h => ?_) (fun h => ?_)
  · refine lv_iload_n X.1 X.2.1 dX10_answer_10 rfl (lv_at hl 2 rfl) ?_
    refine lv_iconst (v := 1) X.1 X.2.1 dX10_answer_11 (by decide) ?_
    refine lv_bipush (v := 60) X.1 X.2.1 dX10_answer_12 (by decide) ?_
    obtain ⟨v2, s2, hc, h⟩ := b2_inv h
    refine r_ci (va_runS (As := [.int x2, .int 1, .int 60]) (rest := []) (cfX X) (c_X10_in l hc) (va_cwS 3 X.2.2.2.2.1 (lw_S q1104 q1105 q59 q1106) rfl rfl rfl yd_X10_in ⟨Nat.le_of_ble_eq_true rfl, Nat.le_of_ble_eq_true rfl⟩) (preS X hV) rfl rfl hl.1 rfl (lv_room (Nat.le_of_ble_eq_true rfl)) dX10_answer_14 ⟨(Nat.le_of_ble_eq_true rfl), (Nat.le_of_ble_eq_true rfl)⟩) hF (fun H locs hV hF => ?_)
    refine r_ifne (tgt := 23) X.1 X.2.1 dX10_answer_17 (by decide) h (fun h => ?_) (fun h => ?_)
    · refine lv_aload_n X.1 X.2.1 dX10_answer_23 rfl (lv_at hl 0 rfl) ?_
      refine r_gR X hV fl_X10_80_10 (by decide) dX10_answer_24 h (fun v3 h => ?_)
      refine lv_iload_n X.1 X.2.1 dX10_answer_27 rfl (lv_at hl 1 rfl) ?_
      refine r_ia X hV dX10_answer_28 h (fun v4 h => ?_)
      refine lv_bipush (v := 12) X.1 X.2.1 dX10_answer_29 (by decide) ?_
      refine r_ne (tgt := 37) X.1 X.2.1 dX10_answer_31 (by decide) h (fun h => ?_) (fun h => ?_)
      · refine lv_aload_n X.1 X.2.1 dX10_answer_37 rfl (lv_at hl 0 rfl) ?_
        refine r_gR X hV fl_X10_83_10 (by decide) dX10_answer_38 h (fun v5 h => ?_)
        refine lv_bipush (v := 12) X.1 X.2.1 dX10_answer_41 (by decide) ?_
        refine lv_iload_n X.1 X.2.1 dX10_answer_43 rfl (lv_at hl 1 rfl) ?_
        refine lv_imul X.1 X.2.1 dX10_answer_44 ?_
        refine lv_aload_n X.1 X.2.1 dX10_answer_45 rfl (lv_at hl 0 rfl) ?_
        refine r_gR X hV fl_X10_80_10 (by decide) dX10_answer_46 h (fun v6 h => ?_)
        refine lv_iload_n X.1 X.2.1 dX10_answer_49 rfl (lv_at hl 1 rfl) ?_
        refine r_ia X hV dX10_answer_50 h (fun v7 h => ?_)
        refine lv_iadd X.1 X.2.1 dX10_answer_51 ?_
        refine lv_iload_n X.1 X.2.1 dX10_answer_52 rfl (lv_at hl 2 rfl) ?_
        refine r_is X hV hF dX10_answer_53 h (fun s3 H locs hV hF h => ?_)
        refine lv_aload_n X.1 X.2.1 dX10_answer_54 rfl (lv_at hl 0 rfl) ?_
        refine r_gR X hV fl_X10_86_10 (by decide) dX10_answer_55 h (fun v8 h => ?_)
        refine lv_bipush (v := 12) X.1 X.2.1 dX10_answer_58 (by decide) ?_
        refine lv_iload_n X.1 X.2.1 dX10_answer_60 rfl (lv_at hl 1 rfl) ?_
        refine lv_imul X.1 X.2.1 dX10_answer_61 ?_
        refine lv_aload_n X.1 X.2.1 dX10_answer_62 rfl (lv_at hl 0 rfl) ?_
        refine r_gR X hV fl_X10_80_10 (by decide) dX10_answer_63 h (fun v9 h => ?_)
        refine lv_iload_n X.1 X.2.1 dX10_answer_66 rfl (lv_at hl 1 rfl) ?_
        refine r_ia X hV dX10_answer_67 h (fun v10 h => ?_)
        refine lv_iadd X.1 X.2.1 dX10_answer_68 ?_
        refine lv_iload_n X.1 X.2.1 dX10_answer_69 rfl (lv_at hl 3 rfl) ?_
        refine r_zs X hV hF dX10_answer_70 h (fun s4 H locs hV hF h => ?_)
        refine lv_aload_n X.1 X.2.1 dX10_answer_71 rfl (lv_at hl 0 rfl) ?_
        refine r_gR X hV fl_X10_80_10 (by decide) dX10_answer_72 h (fun v11 h => ?_)
        refine lv_iload_n X.1 X.2.1 dX10_answer_75 rfl (lv_at hl 1 rfl) ?_
        refine lv_dup2_11 X.1 X.2.1 dX10_answer_76 rfl rfl ?_
        refine r_ia X hV dX10_answer_77 h (fun v12 h => ?_)
        refine lv_iconst (v := 1) X.1 X.2.1 dX10_answer_78 (by decide) ?_
        refine lv_iadd X.1 X.2.1 dX10_answer_79 ?_
        refine r_is X hV hF dX10_answer_80 h (fun s5 H locs hV hF h => ?_)
        refine lv_aload_n X.1 X.2.1 dX10_answer_81 rfl (lv_at hl 0 rfl) ?_
        refine r_gR X hV fl_X10_80_10 (by decide) dX10_answer_82 h (fun v13 h => ?_)
        refine lv_iload_n X.1 X.2.1 dX10_answer_85 rfl (lv_at hl 1 rfl) ?_
        refine r_ia X hV dX10_answer_86 h (fun v14 h => ?_)
        exact r_iret X hV hF h dX10_answer_87
      · refine lv_bipush (v := (-5)) X.1 X.2.1 dX10_answer_34 (by decide) ?_
        exact r_iret X hV hF h dX10_answer_36
    · refine lv_bipush (v := (-3)) X.1 X.2.1 dX10_answer_20 (by decide) ?_
      exact r_iret X hV hF h dX10_answer_22
  · refine lv_bipush (v := (-2)) X.1 X.2.1 dX10_answer_7 (by decide) ?_
    exact r_iret X hV hF h dX10_answer_9
/-! PalaceOfRoomsModel.isRight -/
theorem dX10_isRight_0 : decode cX10_isRight 0 = .ok (.bipush 100, 2) := by decide +kernel
theorem dX10_isRight_2 : decode cX10_isRight 2 = .ok (.iload_n 0, 1) := by decide +kernel
theorem dX10_isRight_3 : decode cX10_isRight 3 = .ok (.bipush 9, 2) := by decide +kernel
theorem dX10_isRight_5 : decode cX10_isRight 5 = .ok (.idiv, 1) := by decide +kernel
theorem dX10_isRight_6 : decode cX10_isRight 6 = .ok (.iconst 1, 1) := by decide +kernel
theorem dX10_isRight_7 : decode cX10_isRight 7 = .ok (.iadd, 1) := by decide +kernel
theorem dX10_isRight_8 : decode cX10_isRight 8 = .ok (.iload_n 1, 1) := by decide +kernel
theorem dX10_isRight_9 : decode cX10_isRight 9 = .ok (.imul, 1) := by decide +kernel
theorem dX10_isRight_10 : decode cX10_isRight 10 = .ok (.isub, 1) := by decide +kernel
theorem dX10_isRight_11 : decode cX10_isRight 11 = .ok (.bipush 10, 2) := by decide +kernel
theorem dX10_isRight_13 : decode cX10_isRight 13 = .ok (.iload_n 0, 1) := by decide +kernel
theorem dX10_isRight_14 : decode cX10_isRight 14 = .ok (.bipush 9, 2) := by decide +kernel
theorem dX10_isRight_16 : decode cX10_isRight 16 = .ok (.irem, 1) := by decide +kernel
theorem dX10_isRight_17 : decode cX10_isRight 17 = .ok (.iconst 1, 1) := by decide +kernel
theorem dX10_isRight_18 : decode cX10_isRight 18 = .ok (.iadd, 1) := by decide +kernel
theorem dX10_isRight_19 : decode cX10_isRight 19 = .ok (.imul, 1) := by decide +kernel
theorem dX10_isRight_20 : decode cX10_isRight 20 = .ok (.if_icmp .lt 7, 3) := by decide +kernel
theorem dX10_isRight_23 : decode cX10_isRight 23 = .ok (.iconst 1, 1) := by decide +kernel
theorem dX10_isRight_24 : decode cX10_isRight 24 = .ok (.goto 4, 3) := by decide +kernel
theorem dX10_isRight_27 : decode cX10_isRight 27 = .ok (.iconst 0, 1) := by decide +kernel
theorem dX10_isRight_28 : decode cX10_isRight 28 = .ok (.ireturn, 1) := by decide +kernel
theorem yd_X10_isRight : yX10_isRight.cls ≠ "java/lang/invoke/MethodHandle" ∧ yX10_isRight.cls ≠ "java/lang/invoke/VarHandle" ∧ (parseMethodDescriptor yX10_isRight.desc).map (fun d => d.parameters.length) = some 2 := by decide +kernel
abbrev rm_X10_isRight : Room := { frames := 0, cells := 0, slots := 0, locals := 0 }
set_option maxHeartbeats 4000000 in
theorem c_X10_isRight (l : Launch) {g : Gl} {σ : Hp} {x0 : Int32} {x1 : Int32} {r : Int32 × Hp} (h : F_X10_isRight σ x0 x1 = some r) : Met l yX10_isRight (ws_ yX10_isRight cX10_isRight 2 (some .boolean)) rm_X10_isRight (va_Pc [.int x0, .int x1] (WV g σ)) (Qi g r) 0 0 (frN g) := by
  refine ct_of (by decide) (Nat.le_of_ble_eq_true rfl) ?_
  intro p e s m below meth c ls X hV hl
  have hF : FR g [] := FR_nil
  unfold F_X10_isRight at h
  have hl : lv_has ls 2 [(0, .int x0), (1, .int x1)] := hl
  have X : FX g p m c s _ meth cX10_isRight 2 RX10 (some .boolean) "isRight" := X
  refine lv_bipush (v := 100) X.1 X.2.1 dX10_isRight_0 (by decide) ?_
  refine lv_iload_n X.1 X.2.1 dX10_isRight_2 rfl (lv_at hl 0 rfl) ?_
  refine lv_bipush (v := 9) X.1 X.2.1 dX10_isRight_3 (by decide) ?_
  refine lv_idiv X.1 X.2.1 dX10_isRight_5 (by decide) ?_
  refine lv_iconst (v := 1) X.1 X.2.1 dX10_isRight_6 (by decide) ?_
  refine lv_iadd X.1 X.2.1 dX10_isRight_7 ?_
  refine lv_iload_n X.1 X.2.1 dX10_isRight_8 rfl (lv_at hl 1 rfl) ?_
  refine lv_imul X.1 X.2.1 dX10_isRight_9 ?_
  refine lv_isub X.1 X.2.1 dX10_isRight_10 ?_
  refine lv_bipush (v := 10) X.1 X.2.1 dX10_isRight_11 (by decide) ?_
  refine lv_iload_n X.1 X.2.1 dX10_isRight_13 rfl (lv_at hl 0 rfl) ?_
  refine lv_bipush (v := 9) X.1 X.2.1 dX10_isRight_14 (by decide) ?_
  refine lv_irem X.1 X.2.1 dX10_isRight_16 (by decide) ?_
  refine lv_iconst (v := 1) X.1 X.2.1 dX10_isRight_17 (by decide) ?_
  refine lv_iadd X.1 X.2.1 dX10_isRight_18 ?_
  refine lv_imul X.1 X.2.1 dX10_isRight_19 ?_
  refine r_lt (tgt := 27) X.1 X.2.1 dX10_isRight_20 (by decide) h (fun h => ?_) (fun h => ?_)
  · refine lv_iconst (v := 0) X.1 X.2.1 dX10_isRight_27 (by decide) ?_
    exact r_zret X hV hF h rfl dX10_isRight_28
  · refine lv_iconst (v := 1) X.1 X.2.1 dX10_isRight_23 (by decide) ?_
    refine lv_goto (tgt := 28) X.1 X.2.1 dX10_isRight_24 (by decide) ?_
    exact r_zret X hV hF h rfl dX10_isRight_28
/-! PalaceOfRoomsModel.agrees -/
theorem dX10_agrees_0 : decode cX10_agrees 0 = .ok (.iconst 0, 1) := by decide +kernel
theorem dX10_agrees_1 : decode cX10_agrees 1 = .ok (.istore_n 3, 1) := by decide +kernel
theorem dX10_agrees_2 : decode cX10_agrees 2 = .ok (.iconst 0, 1) := by decide +kernel
theorem dX10_agrees_3 : decode cX10_agrees 3 = .ok (.istore 4, 2) := by decide +kernel
theorem dX10_agrees_5 : decode cX10_agrees 5 = .ok (.iload 4, 2) := by decide +kernel
theorem dX10_agrees_7 : decode cX10_agrees 7 = .ok (.aload_n 0, 1) := by decide +kernel
theorem dX10_agrees_8 : decode cX10_agrees 8 = .ok (.getfield 80, 3) := by decide +kernel
theorem dX10_agrees_11 : decode cX10_agrees 11 = .ok (.iload_n 1, 1) := by decide +kernel
theorem dX10_agrees_12 : decode cX10_agrees 12 = .ok (.iaload, 1) := by decide +kernel
theorem dX10_agrees_13 : decode cX10_agrees 13 = .ok (.if_icmp .ge 48, 3) := by decide +kernel
theorem dX10_agrees_16 : decode cX10_agrees 16 = .ok (.iload_n 3, 1) := by decide +kernel
theorem dX10_agrees_17 : decode cX10_agrees 17 = .ok (.iload_n 2, 1) := by decide +kernel
theorem dX10_agrees_18 : decode cX10_agrees 18 = .ok (.aload_n 0, 1) := by decide +kernel
theorem dX10_agrees_19 : decode cX10_agrees 19 = .ok (.getfield 83, 3) := by decide +kernel
theorem dX10_agrees_22 : decode cX10_agrees 22 = .ok (.bipush 12, 2) := by decide +kernel
theorem dX10_agrees_24 : decode cX10_agrees 24 = .ok (.iload_n 1, 1) := by decide +kernel
theorem dX10_agrees_25 : decode cX10_agrees 25 = .ok (.imul, 1) := by decide +kernel
theorem dX10_agrees_26 : decode cX10_agrees 26 = .ok (.iload 4, 2) := by decide +kernel
theorem dX10_agrees_28 : decode cX10_agrees 28 = .ok (.iadd, 1) := by decide +kernel
theorem dX10_agrees_29 : decode cX10_agrees 29 = .ok (.iaload, 1) := by decide +kernel
theorem dX10_agrees_30 : decode cX10_agrees 30 = .ok (.invokestatic 257, 3) := by decide +kernel
theorem dX10_agrees_33 : decode cX10_agrees 33 = .ok (.aload_n 0, 1) := by decide +kernel
theorem dX10_agrees_34 : decode cX10_agrees 34 = .ok (.getfield 86, 3) := by decide +kernel
theorem dX10_agrees_37 : decode cX10_agrees 37 = .ok (.bipush 12, 2) := by decide +kernel
theorem dX10_agrees_39 : decode cX10_agrees 39 = .ok (.iload_n 1, 1) := by decide +kernel
theorem dX10_agrees_40 : decode cX10_agrees 40 = .ok (.imul, 1) := by decide +kernel
theorem dX10_agrees_41 : decode cX10_agrees 41 = .ok (.iload 4, 2) := by decide +kernel
theorem dX10_agrees_43 : decode cX10_agrees 43 = .ok (.iadd, 1) := by decide +kernel
theorem dX10_agrees_44 : decode cX10_agrees 44 = .ok (.baload, 1) := by decide +kernel
theorem dX10_agrees_45 : decode cX10_agrees 45 = .ok (.if_icmp .ne 7, 3) := by decide +kernel
theorem dX10_agrees_48 : decode cX10_agrees 48 = .ok (.iconst 1, 1) := by decide +kernel
theorem dX10_agrees_49 : decode cX10_agrees 49 = .ok (.goto 4, 3) := by decide +kernel
theorem dX10_agrees_52 : decode cX10_agrees 52 = .ok (.iconst 0, 1) := by decide +kernel
theorem dX10_agrees_53 : decode cX10_agrees 53 = .ok (.iadd, 1) := by decide +kernel
theorem dX10_agrees_54 : decode cX10_agrees 54 = .ok (.istore_n 3, 1) := by decide +kernel
theorem dX10_agrees_55 : decode cX10_agrees 55 = .ok (.iinc 4 1, 3) := by decide +kernel
theorem dX10_agrees_58 : decode cX10_agrees 58 = .ok (.goto (-53), 3) := by decide +kernel
theorem dX10_agrees_61 : decode cX10_agrees 61 = .ok (.iload_n 3, 1) := by decide +kernel
theorem dX10_agrees_62 : decode cX10_agrees 62 = .ok (.ireturn, 1) := by decide +kernel
theorem yd_X10_agrees : yX10_agrees.cls ≠ "java/lang/invoke/MethodHandle" ∧ yX10_agrees.cls ≠ "java/lang/invoke/VarHandle" ∧ (parseMethodDescriptor yX10_agrees.desc).map (fun d => d.parameters.length) = some 2 := by decide +kernel
abbrev rm_X10_agrees : Room := { frames := 1, cells := 0, slots := 0, locals := 21 }
set_option maxHeartbeats 4000000 in
theorem w_X10_agrees_5_b {p : Program} {l : Launch} {e : Env} {s : State} {m : MethodId} {args : Array Value} {below : List Frame} {meth : Method} {c : Code} {g : Gl} (X : FX g p m c s args meth cX10_agrees 5 RX10 (some .int) "agrees") {r : Int32 × Hp} {rec5 : Hp × Int32 × Int32 → Option (Int32 × Hp)} {x0 : Nat} {x1 : Int32} {x2 : Int32} {σ : Hp} {x3 : Int32} {x4 : Int32} (hr5 : ∀ (st : Hp × Int32 × Int32), rec5 st = some r → ∀ (H : Heap) (locs : List Loc) (ls : Array Slot), HV g st.1 H → FR g locs → lv_has ls 5 [(0, .ref x0), (1, .int x1), (2, .int x2), (3, .int st.2.1), (4, .int st.2.2)] → W p l e rm_X10_agrees s m args below meth c H locs 0 0 (MQ below (Qi g r) args s 0 0 (frN g)) (F0 m 5 ls [])) {H : Heap} {locs : List Loc} {ls : Array Slot} (h : B_X10_agrees_5 x0 x1 x2 rec5 σ x3 x4 = some r) (hV : HV g σ H) (hF : FR g locs) (hl : lv_has ls 5 [(0, .ref x0), (1, .int x1), (2, .int x2), (3, .int x3), (4, .int x4)]) : W p l e rm_X10_agrees s m args below meth c H locs 0 0 (MQ below (Qi g r) args s 0 0 (frN g)) (F0 m 5 ls []) := by
  unfold B_X10_agrees_5 at h
  refine lv_iload X.1 X.2.1 dX10_agrees_5 (lv_at hl 4 rfl) ?_
  refine lv_aload_n X.1 X.2.1 dX10_agrees_7 rfl (lv_at hl 0 rfl) ?_
  refine r_gR X hV fl_X10_80_10 (by decide) dX10_agrees_8 h (fun v1 h => ?_)
  refine lv_iload_n X.1 X.2.1 dX10_agrees_11 rfl (lv_at hl 1 rfl) ?_
  refine r_ia X hV dX10_agrees_12 h (fun v2 h => ?_)
  refine r_ge (tgt := 61) X.1 X.2.1 dX10_agrees_13 (by decide) h (fun h => ?_) (fun h => ?_)
  · refine lv_iload_n X.1 X.2.1 dX10_agrees_61 rfl (lv_at hl 3 rfl) ?_
    exact r_iret X hV hF h dX10_agrees_62
  · refine lv_iload_n X.1 X.2.1 dX10_agrees_16 rfl (lv_at hl 3 rfl) ?_
    refine lv_iload_n X.1 X.2.1 dX10_agrees_17 rfl (lv_at hl 2 rfl) ?_
    refine lv_aload_n X.1 X.2.1 dX10_agrees_18 rfl (lv_at hl 0 rfl) ?_
    refine r_gR X hV fl_X10_83_10 (by decide) dX10_agrees_19 h (fun v3 h => ?_)
    refine lv_bipush (v := 12) X.1 X.2.1 dX10_agrees_22 (by decide) ?_
    refine lv_iload_n X.1 X.2.1 dX10_agrees_24 rfl (lv_at hl 1 rfl) ?_
    refine lv_imul X.1 X.2.1 dX10_agrees_25 ?_
    refine lv_iload X.1 X.2.1 dX10_agrees_26 (lv_at hl 4 rfl) ?_
    refine lv_iadd X.1 X.2.1 dX10_agrees_28 ?_
    refine r_ia X hV dX10_agrees_29 h (fun v4 h => ?_)
    obtain ⟨v5, s1, hc, h⟩ := b2_inv h
    refine r_ci (va_runS (As := [.int x2, .int v4]) (rest := [.int x3]) (cfX X) (c_X10_isRight l hc) (va_cwS 2 X.2.2.2.2.1 (lw_S q1340 q1341 q59 q1342) rfl rfl rfl yd_X10_isRight ⟨Nat.le_of_ble_eq_true rfl, Nat.le_of_ble_eq_true rfl⟩) (preS X hV) rfl rfl hl.1 rfl (lv_room (Nat.le_of_ble_eq_true rfl)) dX10_agrees_30 ⟨(Nat.le_of_ble_eq_true rfl), (Nat.le_of_ble_eq_true rfl)⟩) hF (fun H locs hV hF => ?_)
    refine lv_aload_n X.1 X.2.1 dX10_agrees_33 rfl (lv_at hl 0 rfl) ?_
    refine r_gR X hV fl_X10_86_10 (by decide) dX10_agrees_34 h (fun v6 h => ?_)
    refine lv_bipush (v := 12) X.1 X.2.1 dX10_agrees_37 (by decide) ?_
    refine lv_iload_n X.1 X.2.1 dX10_agrees_39 rfl (lv_at hl 1 rfl) ?_
    refine lv_imul X.1 X.2.1 dX10_agrees_40 ?_
    refine lv_iload X.1 X.2.1 dX10_agrees_41 (lv_at hl 4 rfl) ?_
    refine lv_iadd X.1 X.2.1 dX10_agrees_43 ?_
    refine r_za X hV dX10_agrees_44 h (fun v7 h => ?_)
    refine r_ne (tgt := 52) X.1 X.2.1 dX10_agrees_45 (by decide) h (fun h => ?_) (fun h => ?_)
    · refine lv_iconst (v := 0) X.1 X.2.1 dX10_agrees_52 (by decide) ?_
      refine lv_iadd X.1 X.2.1 dX10_agrees_53 ?_
      refine lv_istore_n (lv' := [(3, .int (x3 + 0)), (0, .ref x0), (1, .int x1), (2, .int x2), (4, .int x4)]) X.1 X.2.1 dX10_agrees_54 rfl hl (by decide) rfl (fun ls hl => ?_)
      refine lv_iinc (v := x4 + 1) (lv' := [(4, .int (x4 + 1)), (3, .int (x3 + 0)), (0, .ref x0), (1, .int x1), (2, .int x2)]) X.1 X.2.1 dX10_agrees_55 hl (k := 4) rfl rfl (by decide) rfl (fun ls hl => ?_)
      refine lv_goto (tgt := 5) X.1 X.2.1 dX10_agrees_58 (by decide) ?_
      exact hr5 (s1, x3 + 0, x4 + 1) h _ _ _ hV hF (lv_sub hl [2, 3, 4, 1, 0] rfl)
    · refine lv_iconst (v := 1) X.1 X.2.1 dX10_agrees_48 (by decide) ?_
      refine lv_goto (tgt := 53) X.1 X.2.1 dX10_agrees_49 (by decide) ?_
      refine lv_iadd X.1 X.2.1 dX10_agrees_53 ?_
      refine lv_istore_n (lv' := [(3, .int (x3 + 1)), (0, .ref x0), (1, .int x1), (2, .int x2), (4, .int x4)]) X.1 X.2.1 dX10_agrees_54 rfl hl (by decide) rfl (fun ls hl => ?_)
      refine lv_iinc (v := x4 + 1) (lv' := [(4, .int (x4 + 1)), (3, .int (x3 + 1)), (0, .ref x0), (1, .int x1), (2, .int x2)]) X.1 X.2.1 dX10_agrees_55 hl (k := 4) rfl rfl (by decide) rfl (fun ls hl => ?_)
      refine lv_goto (tgt := 5) X.1 X.2.1 dX10_agrees_58 (by decide) ?_
      exact hr5 (s1, x3 + 1, x4 + 1) h _ _ _ hV hF (lv_sub hl [2, 3, 4, 1, 0] rfl)
set_option maxHeartbeats 4000000 in
theorem w_X10_agrees_5 {p : Program} {l : Launch} {e : Env} {s : State} {m : MethodId} {args : Array Value} {below : List Frame} {meth : Method} {c : Code} {g : Gl} (X : FX g p m c s args meth cX10_agrees 5 RX10 (some .int) "agrees") {r : Int32 × Hp} {x0 : Nat} {x1 : Int32} {x2 : Int32}  : ∀ (n : Nat) (st : Hp × Int32 × Int32), L_X10_agrees_5 x0 x1 x2 n st = some r → ∀ (H : Heap) (locs : List Loc) (ls : Array Slot), HV g st.1 H → FR g locs → lv_has ls 5 [(0, .ref x0), (1, .int x1), (2, .int x2), (3, .int st.2.1), (4, .int st.2.2)] → W p l e rm_X10_agrees s m args below meth c H locs 0 0 (MQ below (Qi g r) args s 0 0 (frN g)) (F0 m 5 ls []) := by
  intro n
  induction n with
  | zero =>
    intro st h
    rw [L_X10_agrees_5_0] at h
    cases h
  | succ n ih =>
    intro st h H locs ls hV hF hl
    rw [L_X10_agrees_5_s] at h
    exact w_X10_agrees_5_b X  ih h hV hF hl
set_option maxHeartbeats 4000000 in
theorem c_X10_agrees (l : Launch) {g : Gl} {σ : Hp} {x0 : Nat} {x1 : Int32} {x2 : Int32} {r : Int32 × Hp} (h : F_X10_agrees σ x0 x1 x2 = some r) : Met l yX10_agrees (ws_ yX10_agrees cX10_agrees 5 (some .int)) rm_X10_agrees (va_Pc [.ref x0, .int x1, .int x2] (WV g σ)) (Qi g r) 0 0 (frN g) := by
  refine ct_of (by decide) (Nat.le_of_ble_eq_true rfl) ?_
  intro p e s m below meth c ls X hV hl
  have hF : FR g [] := FR_nil
  unfold F_X10_agrees at h
  have hl : lv_has ls 5 [(0, .ref x0), (1, .int x1), (2, .int x2)] := hl
  have X : FX g p m c s _ meth cX10_agrees 5 RX10 (some .int) "agrees" := X
  obtain ⟨-, h⟩ := gd_inv h
  refine lv_iconst (v := 0) X.1 X.2.1 dX10_agrees_0 (by decide) ?_
  refine lv_istore_n (lv' := [(3, .int 0), (0, .ref x0), (1, .int x1), (2, .int x2)]) X.1 X.2.1 dX10_agrees_1 rfl hl (by decide) rfl (fun ls hl => ?_)
  refine lv_iconst (v := 0) X.1 X.2.1 dX10_agrees_2 (by decide) ?_
  refine lv_istore (lv' := [(4, .int 0), (3, .int 0), (0, .ref x0), (1, .int x1), (2, .int x2)]) X.1 X.2.1 dX10_agrees_3 hl (by decide) rfl (fun ls hl => ?_)
  exact w_X10_agrees_5 X  FU (σ, 0, 0) h _ _ _ hV hF (lv_sub hl [2, 3, 4, 1, 0] rfl)
