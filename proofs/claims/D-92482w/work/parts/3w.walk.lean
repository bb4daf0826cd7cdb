set_option maxRecDepth 100000
/-! PalaceOfRooms.asked -/
theorem dX0_asked_0 : decode cX0_asked 0 = .ok (.iload_n 1, 1) := by decide +kernel
theorem dX0_asked_1 : decode cX0_asked 1 = .ok (.invokestatic 116, 3) := by decide +kernel
theorem dX0_asked_4 : decode cX0_asked 4 = .ok (.ifCond .eq 10, 3) := by decide +kernel
theorem dX0_asked_7 : decode cX0_asked 7 = .ok (.iload_n 2, 1) := by decide +kernel
theorem dX0_asked_8 : decode cX0_asked 8 = .ok (.invokestatic 105, 3) := by decide +kernel
theorem dX0_asked_11 : decode cX0_asked 11 = .ok (.ifCond .ne 6, 3) := by decide +kernel
theorem dX0_asked_14 : decode cX0_asked 14 = .ok (.bipush (-2), 2) := by decide +kernel
theorem dX0_asked_16 : decode cX0_asked 16 = .ok (.ireturn, 1) := by decide +kernel
theorem dX0_asked_17 : decode cX0_asked 17 = .ok (.aload_n 0, 1) := by decide +kernel
theorem dX0_asked_18 : decode cX0_asked 18 = .ok (.iload_n 1, 1) := by decide +kernel
theorem dX0_asked_19 : decode cX0_asked 19 = .ok (.invokevirtual 150, 3) := by decide +kernel
theorem dX0_asked_22 : decode cX0_asked 22 = .ok (.istore_n 3, 1) := by decide +kernel
theorem dX0_asked_23 : decode cX0_asked 23 = .ok (.iload_n 3, 1) := by decide +kernel
theorem dX0_asked_24 : decode cX0_asked 24 = .ok (.iconst (-1), 1) := by decide +kernel
theorem dX0_asked_25 : decode cX0_asked 25 = .ok (.if_icmp .ne 7, 3) := by decide +kernel
theorem dX0_asked_28 : decode cX0_asked 28 = .ok (.iconst (-1), 1) := by decide +kernel
theorem dX0_asked_29 : decode cX0_asked 29 = .ok (.goto 12, 3) := by decide +kernel
theorem dX0_asked_32 : decode cX0_asked 32 = .ok (.aload_n 0, 1) := by decide +kernel
theorem dX0_asked_33 : decode cX0_asked 33 = .ok (.iload_n 2, 1) := by decide +kernel
theorem dX0_asked_34 : decode cX0_asked 34 = .ok (.iload_n 3, 1) := by decide +kernel
theorem dX0_asked_35 : decode cX0_asked 35 = .ok (.bipush 6, 2) := by decide +kernel
theorem dX0_asked_37 : decode cX0_asked 37 = .ok (.idiv, 1) := by decide +kernel
theorem dX0_asked_38 : decode cX0_asked 38 = .ok (.invokevirtual 112, 3) := by decide +kernel
theorem dX0_asked_41 : decode cX0_asked 41 = .ok (.istore 4, 2) := by decide +kernel
theorem dX0_asked_43 : decode cX0_asked 43 = .ok (.iload 4, 2) := by decide +kernel
theorem dX0_asked_45 : decode cX0_asked 45 = .ok (.iconst (-1), 1) := by decide +kernel
theorem dX0_asked_46 : decode cX0_asked 46 = .ok (.if_icmp .ne 7, 3) := by decide +kernel
theorem dX0_asked_49 : decode cX0_asked 49 = .ok (.iconst (-1), 1) := by decide +kernel
theorem dX0_asked_50 : decode cX0_asked 50 = .ok (.goto 12, 3) := by decide +kernel
theorem dX0_asked_53 : decode cX0_asked 53 = .ok (.iload 4, 2) := by decide +kernel
theorem dX0_asked_55 : decode cX0_asked 55 = .ok (.iload_n 3, 1) := by decide +kernel
theorem dX0_asked_56 : decode cX0_asked 56 = .ok (.bipush 6, 2) := by decide +kernel
theorem dX0_asked_58 : decode cX0_asked 58 = .ok (.irem, 1) := by decide +kernel
theorem dX0_asked_59 : decode cX0_asked 59 = .ok (.iadd, 1) := by decide +kernel
theorem dX0_asked_60 : decode cX0_asked 60 = .ok (.iconst 1, 1) := by decide +kernel
theorem dX0_asked_61 : decode cX0_asked 61 = .ok (.iadd, 1) := by decide +kernel
theorem dX0_asked_62 : decode cX0_asked 62 = .ok (.ireturn, 1) := by decide +kernel
theorem yd_X0_asked : yX0_asked.cls ≠ "java/lang/invoke/MethodHandle" ∧ yX0_asked.cls ≠ "java/lang/invoke/VarHandle" ∧ (parseMethodDescriptor yX0_asked.desc).map (fun d => d.parameters.length) = some 2 := by decide +kernel
abbrev rm_X0_asked : Room := { frames := 2, cells := 0, slots := 0, locals := 45 }
set_option maxHeartbeats 4000000 in
theorem w_X0_asked_41 {p : Program} {l : Launch} {e : Env} {s : State} {m : MethodId} {args : Array Value} {below : List Frame} {meth : Method} {c : Code} {g : Gl} (X : FX g p m c s args meth cX0_asked 5 RX0 (some .int) "asked") {r : Int32 × Hp} {σ : Hp} {x3 : Int32} {y0 : Int32}  {H : Heap} {locs : List Loc} {ls : Array Slot} (h : F_X0_asked_41 σ x3 y0 = some r) (hV : HV g σ H) (hF : FR g locs) (hl : lv_has ls 5 [(3, .int x3)]) : W p l e rm_X0_asked s m args below meth c H locs 0 0 (MQ below (Qi g r) args s 0 0 (frN g)) (F0 m 41 ls [.int y0]) := by
  unfold F_X0_asked_41 at h
  refine lv_istore (lv' := [(4, .int y0), (3, .int x3)]) X.1 X.2.1 dX0_asked_41 hl (by decide) rfl (fun ls hl => ?_)
  refine lv_iload X.1 X.2.1 dX0_asked_43 (lv_at hl 0 rfl) ?_
  refine lv_iconst (v := (-1)) X.1 X.2.1 dX0_asked_45 (by decide) ?_
  refine r_ne (tgt := 53) X.1 X.2.1 dX0_asked_46 (by decide) h (fun h => ?_) (fun h => ?_)
  · refine lv_iload X.1 X.2.1 dX0_asked_53 (lv_at hl 0 rfl) ?_
    refine lv_iload_n X.1 X.2.1 dX0_asked_55 rfl (lv_at hl 1 rfl) ?_
    refine lv_bipush (v := 6) X.1 X.2.1 dX0_asked_56 (by decide) ?_
    refine lv_irem X.1 X.2.1 dX0_asked_58 (by decide) ?_
    refine lv_iadd X.1 X.2.1 dX0_asked_59 ?_
    refine lv_iconst (v := 1) X.1 X.2.1 dX0_asked_60 (by decide) ?_
    refine lv_iadd X.1 X.2.1 dX0_asked_61 ?_
    exact r_iret X hV hF h dX0_asked_62
  · refine lv_iconst (v := (-1)) X.1 X.2.1 dX0_asked_49 (by decide) ?_
    refine lv_goto (tgt := 62) X.1 X.2.1 dX0_asked_50 (by decide) ?_
    exact r_iret X hV hF h dX0_asked_62
set_option maxHeartbeats 4000000 in
theorem c_X0_asked (l : Launch) {g : Gl} {σ : Hp} {x0 : Nat} {x1 : Int32} {x2 : Int32} {r : Int32 × Hp} (h : F_X0_asked σ x0 x1 x2 = some r) : Met l yX0_asked (ws_ yX0_asked cX0_asked 5 (some .int)) rm_X0_asked (va_Pc [.ref x0, .int x1, .int x2] (WV g σ)) (Qi g r) 0 0 (frN g) := by
  refine ct_of (by decide) (Nat.le_of_ble_eq_true rfl) ?_
  intro p e s m below meth c ls X hV hl
  have hF : FR g [] := FR_nil
  unfold F_X0_asked at h
  have hl : lv_has ls 5 [(0, .ref x0), (1, .int x1), (2, .int x2)] := hl
  have X : FX g p m c s _ meth cX0_asked 5 RX0 (some .int) "asked" := X
  obtain ⟨-, h⟩ := gd_inv h
  refine lv_iload_n X.1 X.2.1 dX0_asked_0 rfl (lv_at hl 1 rfl) ?_
  obtain ⟨v1, s1, hc, h⟩ := b2_inv h
  refine r_ci (va_runS (As := [.int x1]) (rest := []) (cfX X) (c_X0_isThing l hc) (va_cwS 1 X.2.2.2.2.1 (lw_S q346 q347 q49 q348) rfl rfl rfl yd_X0_isThing ⟨Nat.le_of_ble_eq_true rfl, Nat.le_of_ble_eq_true rfl⟩) (preS X hV) rfl rfl hl.1 rfl (lv_room (Nat.le_of_ble_eq_true rfl)) dX0_asked_1 ⟨(Nat.le_of_ble_eq_true rfl), (Nat.le_of_ble_eq_true rfl)⟩) hF (fun H locs hV hF => ?_)
  refine r_ifeq (tgt := 14) X.1 X.2.1 dX0_asked_4 (by decide) h (fun h => ?_) (fun h => ?_)
  · refine lv_bipush (v := (-2)) X.1 X.2.1 dX0_asked_14 (by decide) ?_
    exact r_iret X hV hF h dX0_asked_16
  · refine lv_iload_n X.1 X.2.1 dX0_asked_7 rfl (lv_at hl 2 rfl) ?_
    obtain ⟨v2, s2, hc, h⟩ := b2_inv h
    refine r_ci (va_runS (As := [.int x2]) (rest := []) (cfX X) (c_X0_isRoom l hc) (va_cwS 1 X.2.2.2.2.1 (lw_S q327 q328 q49 q329) rfl rfl rfl yd_X0_isRoom ⟨Nat.le_of_ble_eq_true rfl, Nat.le_of_ble_eq_true rfl⟩) (preS X hV) rfl rfl hl.1 rfl (lv_room (Nat.le_of_ble_eq_true rfl)) dX0_asked_8 ⟨(Nat.le_of_ble_eq_true rfl), (Nat.le_of_ble_eq_true rfl)⟩) hF (fun H locs hV hF => ?_)
    refine r_ifne (tgt := 17) X.1 X.2.1 dX0_asked_11 (by decide) h (fun h => ?_) (fun h => ?_)
    · refine lv_aload_n X.1 X.2.1 dX0_asked_17 rfl (lv_at hl 0 rfl) ?_
      refine lv_iload_n X.1 X.2.1 dX0_asked_18 rfl (lv_at hl 1 rfl) ?_
      obtain ⟨v3, s3, hc, h⟩ := b2_inv h
      refine r_ci (va_runV (C := RX0) (As := [.int x1]) (rest := []) (cfX X) (c_X0_whereIs l hc) (cwV 1 X.2.2.2.2.1 (lw_V q385 q387 qs2 q49 q388) rfl rfl rfl ⟨rfl, yd_X0_whereIs⟩ ⟨Nat.le_of_ble_eq_true rfl, Nat.le_of_ble_eq_true rfl⟩) (preV X hV (F_X0_whereIs_g hc) rfl) rfl rfl hl.1 rfl (lv_room (Nat.le_of_ble_eq_true rfl)) dX0_asked_19 ⟨(Nat.le_of_ble_eq_true rfl), (Nat.le_of_ble_eq_true rfl)⟩) hF (fun H locs hV hF => ?_)
      refine lv_istore_n (lv' := [(3, .int v3), (0, .ref x0), (1, .int x1), (2, .int x2)]) X.1 X.2.1 dX0_asked_22 rfl hl (by decide) rfl (fun ls hl => ?_)
      refine lv_iload_n X.1 X.2.1 dX0_asked_23 rfl (lv_at hl 0 rfl) ?_
      refine lv_iconst (v := (-1)) X.1 X.2.1 dX0_asked_24 (by decide) ?_
      refine r_ne (tgt := 32) X.1 X.2.1 dX0_asked_25 (by decide) h (fun h => ?_) (fun h => ?_)
      · refine lv_aload_n X.1 X.2.1 dX0_asked_32 rfl (lv_at hl 1 rfl) ?_
        refine lv_iload_n X.1 X.2.1 dX0_asked_33 rfl (lv_at hl 3 rfl) ?_
        refine lv_iload_n X.1 X.2.1 dX0_asked_34 rfl (lv_at hl 0 rfl) ?_
        refine lv_bipush (v := 6) X.1 X.2.1 dX0_asked_35 (by decide) ?_
        refine lv_idiv X.1 X.2.1 dX0_asked_37 (by decide) ?_
        obtain ⟨v4, s4, hc, h⟩ := b2_inv h
        refine r_ci (va_runV (C := RX0) (As := [.int x2, .int (v3 / 6)]) (rest := []) (cfX X) (c_X0_awayOf l hc) (cwV 2 X.2.2.2.2.1 (lw_V q338 q340 qs0 q49 q341) rfl rfl rfl ⟨rfl, yd_X0_awayOf⟩ ⟨Nat.le_of_ble_eq_true rfl, Nat.le_of_ble_eq_true rfl⟩) (preV X hV (F_X0_awayOf_g hc) rfl) rfl rfl hl.1 rfl (lv_room (Nat.le_of_ble_eq_true rfl)) dX0_asked_38 ⟨(Nat.le_of_ble_eq_true rfl), (Nat.le_of_ble_eq_true rfl)⟩) hF (fun H locs hV hF => ?_)
        exact w_X0_asked_41 X  h hV hF (lv_sub hl [0] rfl)
      · refine lv_iconst (v := (-1)) X.1 X.2.1 dX0_asked_28 (by decide) ?_
        refine lv_goto (tgt := 41) X.1 X.2.1 dX0_asked_29 (by decide) ?_
        exact w_X0_asked_41 X  h hV hF (lv_sub hl [0] rfl)
    · refine lv_bipush (v := (-2)) X.1 X.2.1 dX0_asked_14 (by decide) ?_
      exact r_iret X hV hF h dX0_asked_16
/-! PalaceOfRooms.beside -/
theorem dX0_beside_0 : decode cX0_beside 0 = .ok (.iload_n 1, 1) := by decide +kernel
theorem dX0_beside_1 : decode cX0_beside 1 = .ok (.invokestatic 116, 3) := by decide +kernel
theorem dX0_beside_4 : decode cX0_beside 4 = .ok (.ifCond .ne 6, 3) := by decide +kernel
theorem dX0_beside_7 : decode cX0_beside 7 = .ok (.bipush (-2), 2) := by decide +kernel
theorem dX0_beside_9 : decode cX0_beside 9 = .ok (.ireturn, 1) := by decide +kernel
theorem dX0_beside_10 : decode cX0_beside 10 = .ok (.iload_n 2, 1) := by decide +kernel
theorem dX0_beside_11 : decode cX0_beside 11 = .ok (.i2l, 1) := by decide +kernel
theorem dX0_beside_12 : decode cX0_beside 12 = .ok (.lconst 0, 1) := by decide +kernel
theorem dX0_beside_13 : decode cX0_beside 13 = .ok (.lconst 1, 1) := by decide +kernel
theorem dX0_beside_14 : decode cX0_beside 14 = .ok (.invokestatic 5, 3) := by decide +kernel
theorem dX0_beside_17 : decode cX0_beside 17 = .ok (.ifCond .ne 6, 3) := by decide +kernel
theorem dX0_beside_20 : decode cX0_beside 20 = .ok (.bipush (-3), 2) := by decide +kernel
theorem dX0_beside_22 : decode cX0_beside 22 = .ok (.ireturn, 1) := by decide +kernel
theorem dX0_beside_23 : decode cX0_beside 23 = .ok (.aload_n 0, 1) := by decide +kernel
theorem dX0_beside_24 : decode cX0_beside 24 = .ok (.iload_n 1, 1) := by decide +kernel
theorem dX0_beside_25 : decode cX0_beside 25 = .ok (.invokevirtual 150, 3) := by decide +kernel
theorem dX0_beside_28 : decode cX0_beside 28 = .ok (.istore_n 3, 1) := by decide +kernel
theorem dX0_beside_29 : decode cX0_beside 29 = .ok (.iload_n 3, 1) := by decide +kernel
theorem dX0_beside_30 : decode cX0_beside 30 = .ok (.iconst (-1), 1) := by decide +kernel
theorem dX0_beside_31 : decode cX0_beside 31 = .ok (.if_icmp .ne 5, 3) := by decide +kernel
theorem dX0_beside_34 : decode cX0_beside 34 = .ok (.iconst (-1), 1) := by decide +kernel
theorem dX0_beside_35 : decode cX0_beside 35 = .ok (.ireturn, 1) := by decide +kernel
theorem dX0_beside_36 : decode cX0_beside 36 = .ok (.iload_n 2, 1) := by decide +kernel
theorem dX0_beside_37 : decode cX0_beside 37 = .ok (.iconst 1, 1) := by decide +kernel
theorem dX0_beside_38 : decode cX0_beside 38 = .ok (.if_icmp .ne 7, 3) := by decide +kernel
theorem dX0_beside_41 : decode cX0_beside 41 = .ok (.iconst 1, 1) := by decide +kernel
theorem dX0_beside_42 : decode cX0_beside 42 = .ok (.goto 4, 3) := by decide +kernel
theorem dX0_beside_45 : decode cX0_beside 45 = .ok (.iconst (-1), 1) := by decide +kernel
theorem dX0_beside_46 : decode cX0_beside 46 = .ok (.istore 4, 2) := by decide +kernel
theorem dX0_beside_48 : decode cX0_beside 48 = .ok (.iload_n 3, 1) := by decide +kernel
theorem dX0_beside_49 : decode cX0_beside 49 = .ok (.bipush 6, 2) := by decide +kernel
theorem dX0_beside_51 : decode cX0_beside 51 = .ok (.irem, 1) := by decide +kernel
theorem dX0_beside_52 : decode cX0_beside 52 = .ok (.iload 4, 2) := by decide +kernel
theorem dX0_beside_54 : decode cX0_beside 54 = .ok (.iadd, 1) := by decide +kernel
theorem dX0_beside_55 : decode cX0_beside 55 = .ok (.istore 5, 2) := by decide +kernel
theorem dX0_beside_57 : decode cX0_beside 57 = .ok (.iload 5, 2) := by decide +kernel
theorem dX0_beside_59 : decode cX0_beside 59 = .ok (.i2l, 1) := by decide +kernel
theorem dX0_beside_60 : decode cX0_beside 60 = .ok (.lconst 0, 1) := by decide +kernel
theorem dX0_beside_61 : decode cX0_beside 61 = .ok (.ldc2_w 218, 3) := by decide +kernel
theorem dX0_beside_64 : decode cX0_beside 64 = .ok (.invokestatic 5, 3) := by decide +kernel
theorem dX0_beside_67 : decode cX0_beside 67 = .ok (.ifCond .eq 47, 3) := by decide +kernel
theorem dX0_beside_70 : decode cX0_beside 70 = .ok (.aload_n 0, 1) := by decide +kernel
theorem dX0_beside_71 : decode cX0_beside 71 = .ok (.getfield 43, 3) := by decide +kernel
theorem dX0_beside_74 : decode cX0_beside 74 = .ok (.getfield 138, 3) := by decide +kernel
theorem dX0_beside_77 : decode cX0_beside 77 = .ok (.iload_n 3, 1) := by decide +kernel
theorem dX0_beside_78 : decode cX0_beside 78 = .ok (.bipush 6, 2) := by decide +kernel
theorem dX0_beside_80 : decode cX0_beside 80 = .ok (.idiv, 1) := by decide +kernel
theorem dX0_beside_81 : decode cX0_beside 81 = .ok (.bipush 6, 2) := by decide +kernel
theorem dX0_beside_83 : decode cX0_beside 83 = .ok (.imul, 1) := by decide +kernel
theorem dX0_beside_84 : decode cX0_beside 84 = .ok (.iload 5, 2) := by decide +kernel
theorem dX0_beside_86 : decode cX0_beside 86 = .ok (.iadd, 1) := by decide +kernel
theorem dX0_beside_87 : decode cX0_beside 87 = .ok (.aaload, 1) := by decide +kernel
theorem dX0_beside_88 : decode cX0_beside 88 = .ok (.astore 6, 2) := by decide +kernel
theorem dX0_beside_90 : decode cX0_beside 90 = .ok (.aload 6, 2) := by decide +kernel
theorem dX0_beside_92 : decode cX0_beside 92 = .ok (.invokevirtual 159, 3) := by decide +kernel
theorem dX0_beside_95 : decode cX0_beside 95 = .ok (.ifCond .eq 9, 3) := by decide +kernel
theorem dX0_beside_98 : decode cX0_beside 98 = .ok (.aload 6, 2) := by decide +kernel
theorem dX0_beside_100 : decode cX0_beside 100 = .ok (.getfield 142, 3) := by decide +kernel
theorem dX0_beside_103 : decode cX0_beside 103 = .ok (.ireturn, 1) := by decide +kernel
theorem dX0_beside_104 : decode cX0_beside 104 = .ok (.iload 5, 2) := by decide +kernel
theorem dX0_beside_106 : decode cX0_beside 106 = .ok (.iload 4, 2) := by decide +kernel
theorem dX0_beside_108 : decode cX0_beside 108 = .ok (.iadd, 1) := by decide +kernel
theorem dX0_beside_109 : decode cX0_beside 109 = .ok (.istore 5, 2) := by decide +kernel
theorem dX0_beside_111 : decode cX0_beside 111 = .ok (.goto (-54), 3) := by decide +kernel
theorem dX0_beside_114 : decode cX0_beside 114 = .ok (.iconst (-1), 1) := by decide +kernel
theorem dX0_beside_115 : decode cX0_beside 115 = .ok (.ireturn, 1) := by decide +kernel
theorem yd_X0_beside : yX0_beside.cls ≠ "java/lang/invoke/MethodHandle" ∧ yX0_beside.cls ≠ "java/lang/invoke/VarHandle" ∧ (parseMethodDescriptor yX0_beside.desc).map (fun d => d.parameters.length) = some 2 := by decide +kernel
abbrev rm_X0_beside : Room := { frames := 2, cells := 0, slots := 0, locals := 45 }
set_option maxHeartbeats 4000000 in
theorem w_X0_beside_57_b {p : Program} {l : Launch} {e : Env} {s : State} {m : MethodId} {args : Array Value} {below : List Frame} {meth : Method} {c : Code} {g : Gl} (X : FX g p m c s args meth cX0_beside 7 RX0 (some .int) "beside") {r : Int32 × Hp} {rec57 : Hp × Int32 → Option (Int32 × Hp)} {x0 : Nat} {x3 : Int32} {x4 : Int32} {σ : Hp} {x5 : Int32} (hr57 : ∀ (st : Hp × Int32), rec57 st = some r → ∀ (H : Heap) (locs : List Loc) (ls : Array Slot), HV g st.1 H → FR g locs → lv_has ls 7 [(0, .ref x0), (3, .int x3), (4, .int x4), (5, .int st.2)] → W p l e rm_X0_beside s m args below meth c H locs 0 0 (MQ below (Qi g r) args s 0 0 (frN g)) (F0 m 57 ls [])) {H : Heap} {locs : List Loc} {ls : Array Slot} (h : B_X0_beside_57 x0 x3 x4 rec57 σ x5 = some r) (hV : HV g σ H) (hF : FR g locs) (hl : lv_has ls 7 [(0, .ref x0), (3, .int x3), (4, .int x4), (5, .int x5)]) : W p l e rm_X0_beside s m args below meth c H locs 0 0 (MQ below (Qi g r) args s 0 0 (frN g)) (F0 m 57 ls []) := by
  unfold B_X0_beside_57 at h
  refine lv_iload X.1 X.2.1 dX0_beside_57 (lv_at hl 3 rfl) ?_
  refine lv_i2l (v := (x5 : Int32).toInt64) X.1 X.2.1 dX0_beside_59 rfl ?_
  refine lv_lconst (v := 0) X.1 X.2.1 dX0_beside_60 (by decide) ?_
  refine lv_ldc2 (v := 5) X.1 X.2.1 X.2.2.2.1 (X.2.2.2.2.1 _ q739) dX0_beside_61 ?_
  obtain ⟨v1, s1, hc, h⟩ := b2_inv h
  refine r_ci (va_runS (As := [.long ((x5 : Int32).toInt64), .long 0, .long 5]) (rest := []) (cfX X) (c_X0_isIn l hc) (va_cwS 3 X.2.2.2.2.1 (lw_S q331 q332 q49 q333) rfl rfl rfl yd_X0_isIn ⟨Nat.le_of_ble_eq_true rfl, Nat.le_of_ble_eq_true rfl⟩) (preS X hV) rfl rfl hl.1 rfl (lv_room (Nat.le_of_ble_eq_true rfl)) dX0_beside_64 ⟨(Nat.le_of_ble_eq_true rfl), (Nat.le_of_ble_eq_true rfl)⟩) hF (fun H locs hV hF => ?_)
  refine r_ifeq (tgt := 114) X.1 X.2.1 dX0_beside_67 (by decide) h (fun h => ?_) (fun h => ?_)
  · refine lv_iconst (v := (-1)) X.1 X.2.1 dX0_beside_114 (by decide) ?_
    exact r_iret X hV hF h dX0_beside_115
  · refine lv_aload_n X.1 X.2.1 dX0_beside_70 rfl (lv_at hl 0 rfl) ?_
    refine r_gR X hV fl_X0_43_0 (by decide) dX0_beside_71 h (fun v2 h => ?_)
    refine r_gR X hV fl_X0_138_1 (by decide) dX0_beside_74 h (fun v3 h => ?_)
    refine lv_iload_n X.1 X.2.1 dX0_beside_77 rfl (lv_at hl 1 rfl) ?_
    refine lv_bipush (v := 6) X.1 X.2.1 dX0_beside_78 (by decide) ?_
    refine lv_idiv X.1 X.2.1 dX0_beside_80 (by decide) ?_
    refine lv_bipush (v := 6) X.1 X.2.1 dX0_beside_81 (by decide) ?_
    refine lv_imul X.1 X.2.1 dX0_beside_83 ?_
    refine lv_iload X.1 X.2.1 dX0_beside_84 (lv_at hl 3 rfl) ?_
    refine lv_iadd X.1 X.2.1 dX0_beside_86 ?_
    refine r_aa X hV dX0_beside_87 (by decide) h (fun v4 h => ?_)
    refine lv_astore (lv' := [(6, .ref v4), (0, .ref x0), (3, .int x3), (4, .int x4), (5, .int x5)]) X.1 X.2.1 dX0_beside_88 hl (by decide) rfl (fun ls hl => ?_)
    refine lv_aload X.1 X.2.1 dX0_beside_90 (lv_at hl 0 rfl) ?_
    obtain ⟨v5, s2, hc, h⟩ := b2_inv h
    refine r_ci (va_runU (C := RX3) (x := ⟨"PalaceOfRooms$Corner", "isThere", "()Z"⟩) (As := []) (rest := []) (cfX X) (c_X2_isThere_3 l hc) (va_cwU (owner := RX2) 0 X.2.2.2.2.1 (lw_app (lw_in _ [406, 407, 409, 410, 51] (by decide +kernel) (by decide +kernel)) (lw_meth q411)) rfl rfl rfl rfl yd_X2_isThere ⟨Nat.le_of_ble_eq_true rfl, Nat.le_of_ble_eq_true rfl⟩) (preV X hV (F_X2_isThere_3_g hc) rfl) rfl rfl hl.1 rfl (lv_room (Nat.le_of_ble_eq_true rfl)) dX0_beside_92 ⟨(Nat.le_of_ble_eq_true rfl), (Nat.le_of_ble_eq_true rfl)⟩) hF (fun H locs hV hF => ?_)
    refine r_ifeq (tgt := 104) X.1 X.2.1 dX0_beside_95 (by decide) h (fun h => ?_) (fun h => ?_)
    · refine lv_iload X.1 X.2.1 dX0_beside_104 (lv_at hl 4 rfl) ?_
      refine lv_iload X.1 X.2.1 dX0_beside_106 (lv_at hl 3 rfl) ?_
      refine lv_iadd X.1 X.2.1 dX0_beside_108 ?_
      refine lv_istore (lv' := [(5, .int (x5 + x4)), (6, .ref v4), (0, .ref x0), (3, .int x3), (4, .int x4)]) X.1 X.2.1 dX0_beside_109 hl (by decide) rfl (fun ls hl => ?_)
      refine lv_goto (tgt := 57) X.1 X.2.1 dX0_beside_111 (by decide) ?_
      exact hr57 (s2, x5 + x4) h _ _ _ hV hF (lv_sub hl [2, 3, 4, 0] rfl)
    · refine lv_aload X.1 X.2.1 dX0_beside_98 (lv_at hl 0 rfl) ?_
      refine r_gI X hV fl_X0_142_3 dX0_beside_100 h (fun v6 h => ?_)
      exact r_iret X hV hF h dX0_beside_103
set_option maxHeartbeats 4000000 in
theorem w_X0_beside_57 {p : Program} {l : Launch} {e : Env} {s : State} {m : MethodId} {args : Array Value} {below : List Frame} {meth : Method} {c : Code} {g : Gl} (X : FX g p m c s args meth cX0_beside 7 RX0 (some .int) "beside") {r : Int32 × Hp} {x0 : Nat} {x3 : Int32} {x4 : Int32}  : ∀ (n : Nat) (st : Hp × Int32), L_X0_beside_57 x0 x3 x4 n st = some r → ∀ (H : Heap) (locs : List Loc) (ls : Array Slot), HV g st.1 H → FR g locs → lv_has ls 7 [(0, .ref x0), (3, .int x3), (4, .int x4), (5, .int st.2)] → W p l e rm_X0_beside s m args below meth c H locs 0 0 (MQ below (Qi g r) args s 0 0 (frN g)) (F0 m 57 ls []) := by
  intro n
  induction n with
  | zero =>
    intro st h
    rw [L_X0_beside_57_0] at h
    cases h
  | succ n ih =>
    intro st h H locs ls hV hF hl
    rw [L_X0_beside_57_s] at h
    exact w_X0_beside_57_b X  ih h hV hF hl
set_option maxHeartbeats 4000000 in
theorem c_X0_beside (l : Launch) {g : Gl} {σ : Hp} {x0 : Nat} {x1 : Int32} {x2 : Int32} {r : Int32 × Hp} (h : F_X0_beside σ x0 x1 x2 = some r) : Met l yX0_beside (ws_ yX0_beside cX0_beside 7 (some .int)) rm_X0_beside (va_Pc [.ref x0, .int x1, .int x2] (WV g σ)) (Qi g r) 0 0 (frN g) := by
  refine ct_of (by decide) (Nat.le_of_ble_eq_true rfl) ?_
  intro p e s m below meth c ls X hV hl
  have hF : FR g [] := FR_nil
  unfold F_X0_beside at h
  have hl : lv_has ls 7 [(0, .ref x0), (1, .int x1), (2, .int x2)] := hl
  have X : FX g p m c s _ meth cX0_beside 7 RX0 (some .int) "beside" := X
  obtain ⟨-, h⟩ := gd_inv h
  refine lv_iload_n X.1 X.2.1 dX0_beside_0 rfl (lv_at hl 1 rfl) ?_
  obtain ⟨v1, s1, hc, h⟩ := b2_inv h
  refine r_ci (va_runS (As := [.int x1]) (rest := []) (cfX X) (c_X0_isThing l hc) (va_cwS 1 X.2.2.2.2.1 (lw_S q346 q347 q49 q348) rfl rfl rfl yd_X0_isThing ⟨Nat.le_of_ble_eq_true rfl, Nat.le_of_ble_eq_true rfl⟩) (preS X hV) rfl rfl hl.1 rfl (lv_room (Nat.le_of_ble_eq_true rfl)) dX0_beside_1 ⟨(Nat.le_of_ble_eq_true rfl), (Nat.le_of_ble_eq_true rfl)⟩) hF (fun H locs hV hF => ?_)
  refine r_ifne (tgt := 10) X.1 X.2.1 dX0_beside_4 (by decide) h (fun h => ?_) (fun h => ?_)
  · refine lv_iload_n X.1 X.2.1 dX0_beside_10 rfl (lv_at hl 2 rfl) ?_
    refine lv_i2l (v := (x2 : Int32).toInt64) X.1 X.2.1 dX0_beside_11 rfl ?_
    refine lv_lconst (v := 0) X.1 X.2.1 dX0_beside_12 (by decide) ?_
    refine lv_lconst (v := 1) X.1 X.2.1 dX0_beside_13 (by decide) ?_
    obtain ⟨v2, s2, hc, h⟩ := b2_inv h
    refine r_ci (va_runS (As := [.long ((x2 : Int32).toInt64), .long 0, .long 1]) (rest := []) (cfX X) (c_X0_isIn l hc) (va_cwS 3 X.2.2.2.2.1 (lw_S q331 q332 q49 q333) rfl rfl rfl yd_X0_isIn ⟨Nat.le_of_ble_eq_true rfl, Nat.le_of_ble_eq_true rfl⟩) (preS X hV) rfl rfl hl.1 rfl (lv_room (Nat.le_of_ble_eq_true rfl)) dX0_beside_14 ⟨(Nat.le_of_ble_eq_true rfl), (Nat.le_of_ble_eq_true rfl)⟩) hF (fun H locs hV hF => ?_)
    refine r_ifne (tgt := 23) X.1 X.2.1 dX0_beside_17 (by decide) h (fun h => ?_) (fun h => ?_)
    · refine lv_aload_n X.1 X.2.1 dX0_beside_23 rfl (lv_at hl 0 rfl) ?_
      refine lv_iload_n X.1 X.2.1 dX0_beside_24 rfl (lv_at hl 1 rfl) ?_
      obtain ⟨v3, s3, hc, h⟩ := b2_inv h
      refine r_ci (va_runV (C := RX0) (As := [.int x1]) (rest := []) (cfX X) (c_X0_whereIs l hc) (cwV 1 X.2.2.2.2.1 (lw_V q385 q387 qs2 q49 q388) rfl rfl rfl ⟨rfl, yd_X0_whereIs⟩ ⟨Nat.le_of_ble_eq_true rfl, Nat.le_of_ble_eq_true rfl⟩) (preV X hV (F_X0_whereIs_g hc) rfl) rfl rfl hl.1 rfl (lv_room (Nat.le_of_ble_eq_true rfl)) dX0_beside_25 ⟨(Nat.le_of_ble_eq_true rfl), (Nat.le_of_ble_eq_true rfl)⟩) hF (fun H locs hV hF => ?_)
      refine lv_istore_n (lv' := [(3, .int v3), (0, .ref x0), (1, .int x1), (2, .int x2)]) X.1 X.2.1 dX0_beside_28 rfl hl (by decide) rfl (fun ls hl => ?_)
      refine lv_iload_n X.1 X.2.1 dX0_beside_29 rfl (lv_at hl 0 rfl) ?_
      refine lv_iconst (v := (-1)) X.1 X.2.1 dX0_beside_30 (by decide) ?_
      refine r_ne (tgt := 36) X.1 X.2.1 dX0_beside_31 (by decide) h (fun h => ?_) (fun h => ?_)
      · refine lv_iload_n X.1 X.2.1 dX0_beside_36 rfl (lv_at hl 3 rfl) ?_
        refine lv_iconst (v := 1) X.1 X.2.1 dX0_beside_37 (by decide) ?_
        refine r_ne (tgt := 45) X.1 X.2.1 dX0_beside_38 (by decide) h (fun h => ?_) (fun h => ?_)
        · refine lv_iconst (v := (-1)) X.1 X.2.1 dX0_beside_45 (by decide) ?_
          refine lv_istore (lv' := [(4, .int (-1)), (3, .int v3), (0, .ref x0), (1, .int x1), (2, .int x2)]) X.1 X.2.1 dX0_beside_46 hl (by decide) rfl (fun ls hl => ?_)
          refine lv_iload_n X.1 X.2.1 dX0_beside_48 rfl (lv_at hl 1 rfl) ?_
          refine lv_bipush (v := 6) X.1 X.2.1 dX0_beside_49 (by decide) ?_
          refine lv_irem X.1 X.2.1 dX0_beside_51 (by decide) ?_
          refine lv_iload X.1 X.2.1 dX0_beside_52 (lv_at hl 0 rfl) ?_
          refine lv_iadd X.1 X.2.1 dX0_beside_54 ?_
          refine lv_istore (lv' := [(5, .int ((v3 - v3 / 6 * 6) + (-1))), (4, .int (-1)), (3, .int v3), (0, .ref x0), (1, .int x1), (2, .int x2)]) X.1 X.2.1 dX0_beside_55 hl (by decide) rfl (fun ls hl => ?_)
          exact w_X0_beside_57 X  FU (s3, (v3 - v3 / 6 * 6) + (-1)) h _ _ _ hV hF (lv_sub hl [3, 2, 1, 0] rfl)
        · refine lv_iconst (v := 1) X.1 X.2.1 dX0_beside_41 (by decide) ?_
          refine lv_goto (tgt := 46) X.1 X.2.1 dX0_beside_42 (by decide) ?_
          refine lv_istore (lv' := [(4, .int 1), (3, .int v3), (0, .ref x0), (1, .int x1), (2, .int x2)]) X.1 X.2.1 dX0_beside_46 hl (by decide) rfl (fun ls hl => ?_)
          refine lv_iload_n X.1 X.2.1 dX0_beside_48 rfl (lv_at hl 1 rfl) ?_
          refine lv_bipush (v := 6) X.1 X.2.1 dX0_beside_49 (by decide) ?_
          refine lv_irem X.1 X.2.1 dX0_beside_51 (by decide) ?_
          refine lv_iload X.1 X.2.1 dX0_beside_52 (lv_at hl 0 rfl) ?_
          refine lv_iadd X.1 X.2.1 dX0_beside_54 ?_
          refine lv_istore (lv' := [(5, .int ((v3 - v3 / 6 * 6) + 1)), (4, .int 1), (3, .int v3), (0, .ref x0), (1, .int x1), (2, .int x2)]) X.1 X.2.1 dX0_beside_55 hl (by decide) rfl (fun ls hl => ?_)
          exact w_X0_beside_57 X  FU (s3, (v3 - v3 / 6 * 6) + 1) h _ _ _ hV hF (lv_sub hl [3, 2, 1, 0] rfl)
      · refine lv_iconst (v := (-1)) X.1 X.2.1 dX0_beside_34 (by decide) ?_
        exact r_iret X hV hF h dX0_beside_35
    · refine lv_bipush (v := (-3)) X.1 X.2.1 dX0_beside_20 (by decide) ?_
      exact r_iret X hV hF h dX0_beside_22
  · refine lv_bipush (v := (-2)) X.1 X.2.1 dX0_beside_7 (by decide) ?_
    exact r_iret X hV hF h dX0_beside_9
/-! PalaceOfRooms.isPupil -/
theorem dX0_isPupil_0 : decode cX0_isPupil 0 = .ok (.iload_n 0, 1) := by decide +kernel
theorem dX0_isPupil_1 : decode cX0_isPupil 1 = .ok (.i2l, 1) := by decide +kernel
theorem dX0_isPupil_2 : decode cX0_isPupil 2 = .ok (.lconst 0, 1) := by decide +kernel
theorem dX0_isPupil_3 : decode cX0_isPupil 3 = .ok (.ldc2_w 301, 3) := by decide +kernel
theorem dX0_isPupil_6 : decode cX0_isPupil 6 = .ok (.invokestatic 5, 3) := by decide +kernel
theorem dX0_isPupil_9 : decode cX0_isPupil 9 = .ok (.ireturn, 1) := by decide +kernel
theorem yd_X0_isPupil : yX0_isPupil.cls ≠ "java/lang/invoke/MethodHandle" ∧ yX0_isPupil.cls ≠ "java/lang/invoke/VarHandle" ∧ (parseMethodDescriptor yX0_isPupil.desc).map (fun d => d.parameters.length) = some 1 := by decide +kernel
abbrev rm_X0_isPupil : Room := { frames := 1, cells := 0, slots := 0, locals := 25 }
set_option maxHeartbeats 4000000 in
theorem c_X0_isPupil (l : Launch) {g : Gl} {σ : Hp} {x0 : Int32} {r : Int32 × Hp} (h : F_X0_isPupil σ x0 = some r) : Met l yX0_isPupil (ws_ yX0_isPupil cX0_isPupil 1 (some .boolean)) rm_X0_isPupil (va_Pc [.int x0] (WV g σ)) (Qi g r) 0 0 (frN g) := by
  refine ct_of (by decide) (Nat.le_of_ble_eq_true rfl) ?_
  intro p e s m below meth c ls X hV hl
  have hF : FR g [] := FR_nil
  unfold F_X0_isPupil at h
  have hl : lv_has ls 1 [(0, .int x0)] := hl
  have X : FX g p m c s _ meth cX0_isPupil 1 RX0 (some .boolean) "isPupil" := X
  refine lv_iload_n X.1 X.2.1 dX0_isPupil_0 rfl (lv_at hl 0 rfl) ?_
  refine lv_i2l (v := (x0 : Int32).toInt64) X.1 X.2.1 dX0_isPupil_1 rfl ?_
  refine lv_lconst (v := 0) X.1 X.2.1 dX0_isPupil_2 (by decide) ?_
  refine lv_ldc2 (v := 3) X.1 X.2.1 X.2.2.2.1 (X.2.2.2.2.1 _ q930) dX0_isPupil_3 ?_
  obtain ⟨v1, s1, hc, h⟩ := b2_inv h
  refine r_ci (va_runS (As := [.long ((x0 : Int32).toInt64), .long 0, .long 3]) (rest := []) (cfX X) (c_X0_isIn l hc) (va_cwS 3 X.2.2.2.2.1 (lw_S q331 q332 q49 q333) rfl rfl rfl yd_X0_isIn ⟨Nat.le_of_ble_eq_true rfl, Nat.le_of_ble_eq_true rfl⟩) (preS X hV) rfl rfl hl.1 rfl (lv_room (Nat.le_of_ble_eq_true rfl)) dX0_isPupil_6 ⟨(Nat.le_of_ble_eq_true rfl), (Nat.le_of_ble_eq_true rfl)⟩) hF (fun H locs hV hF => ?_)
  exact r_zrv X hV hF h dX0_isPupil_9
/-! PalaceOfRooms.answer -/
theorem dX0_answer_0 : decode cX0_answer 0 = .ok (.iload_n 1, 1) := by decide +kernel
theorem dX0_answer_1 : decode cX0_answer 1 = .ok (.invokestatic 303, 3) := by decide +kernel
theorem dX0_answer_4 : decode cX0_answer 4 = .ok (.ifCond .ne 6, 3) := by decide +kernel
theorem dX0_answer_7 : decode cX0_answer 7 = .ok (.bipush (-2), 2) := by decide +kernel
theorem dX0_answer_9 : decode cX0_answer 9 = .ok (.ireturn, 1) := by decide +kernel
theorem dX0_answer_10 : decode cX0_answer 10 = .ok (.iload_n 2, 1) := by decide +kernel
theorem dX0_answer_11 : decode cX0_answer 11 = .ok (.i2l, 1) := by decide +kernel
theorem dX0_answer_12 : decode cX0_answer 12 = .ok (.lconst 1, 1) := by decide +kernel
theorem dX0_answer_13 : decode cX0_answer 13 = .ok (.ldc2_w 183, 3) := by decide +kernel
theorem dX0_answer_16 : decode cX0_answer 16 = .ok (.invokestatic 5, 3) := by decide +kernel
theorem dX0_answer_19 : decode cX0_answer 19 = .ok (.ifCond .ne 6, 3) := by decide +kernel
theorem dX0_answer_22 : decode cX0_answer 22 = .ok (.bipush (-3), 2) := by decide +kernel
theorem dX0_answer_24 : decode cX0_answer 24 = .ok (.ireturn, 1) := by decide +kernel
theorem dX0_answer_25 : decode cX0_answer 25 = .ok (.aload_n 0, 1) := by decide +kernel
theorem dX0_answer_26 : decode cX0_answer 26 = .ok (.getfield 101, 3) := by decide +kernel
theorem dX0_answer_29 : decode cX0_answer 29 = .ok (.iload_n 1, 1) := by decide +kernel
theorem dX0_answer_30 : decode cX0_answer 30 = .ok (.aaload, 1) := by decide +kernel
theorem dX0_answer_31 : decode cX0_answer 31 = .ok (.astore 4, 2) := by decide +kernel
theorem dX0_answer_33 : decode cX0_answer 33 = .ok (.aload 4, 2) := by decide +kernel
theorem dX0_answer_35 : decode cX0_answer 35 = .ok (.getfield 306, 3) := by decide +kernel
theorem dX0_answer_38 : decode cX0_answer 38 = .ok (.bipush 12, 2) := by decide +kernel
theorem dX0_answer_40 : decode cX0_answer 40 = .ok (.if_icmp .ne 6, 3) := by decide +kernel
theorem dX0_answer_43 : decode cX0_answer 43 = .ok (.bipush (-5), 2) := by decide +kernel
theorem dX0_answer_45 : decode cX0_answer 45 = .ok (.ireturn, 1) := by decide +kernel
theorem dX0_answer_46 : decode cX0_answer 46 = .ok (.aload 4, 2) := by decide +kernel
theorem dX0_answer_48 : decode cX0_answer 48 = .ok (.getfield 307, 3) := by decide +kernel
theorem dX0_answer_51 : decode cX0_answer 51 = .ok (.aload 4, 2) := by decide +kernel
theorem dX0_answer_53 : decode cX0_answer 53 = .ok (.getfield 306, 3) := by decide +kernel
theorem dX0_answer_56 : decode cX0_answer 56 = .ok (.iload_n 2, 1) := by decide +kernel
theorem dX0_answer_57 : decode cX0_answer 57 = .ok (.iastore, 1) := by decide +kernel
theorem dX0_answer_58 : decode cX0_answer 58 = .ok (.aload 4, 2) := by decide +kernel
theorem dX0_answer_60 : decode cX0_answer 60 = .ok (.getfield 310, 3) := by decide +kernel
theorem dX0_answer_63 : decode cX0_answer 63 = .ok (.aload 4, 2) := by decide +kernel
theorem dX0_answer_65 : decode cX0_answer 65 = .ok (.getfield 306, 3) := by decide +kernel
theorem dX0_answer_68 : decode cX0_answer 68 = .ok (.iload_n 3, 1) := by decide +kernel
theorem dX0_answer_69 : decode cX0_answer 69 = .ok (.bastore, 1) := by decide +kernel
theorem dX0_answer_70 : decode cX0_answer 70 = .ok (.aload 4, 2) := by decide +kernel
theorem dX0_answer_72 : decode cX0_answer 72 = .ok (.dup, 1) := by decide +kernel
theorem dX0_answer_73 : decode cX0_answer 73 = .ok (.getfield 306, 3) := by decide +kernel
theorem dX0_answer_76 : decode cX0_answer 76 = .ok (.iconst 1, 1) := by decide +kernel
theorem dX0_answer_77 : decode cX0_answer 77 = .ok (.iadd, 1) := by decide +kernel
theorem dX0_answer_78 : decode cX0_answer 78 = .ok (.putfield 306, 3) := by decide +kernel
theorem dX0_answer_81 : decode cX0_answer 81 = .ok (.aload 4, 2) := by decide +kernel
theorem dX0_answer_83 : decode cX0_answer 83 = .ok (.getfield 306, 3) := by decide +kernel
theorem dX0_answer_86 : decode cX0_answer 86 = .ok (.ireturn, 1) := by decide +kernel
theorem yd_X0_answer : yX0_answer.cls ≠ "java/lang/invoke/MethodHandle" ∧ yX0_answer.cls ≠ "java/lang/invoke/VarHandle" ∧ (parseMethodDescriptor yX0_answer.desc).map (fun d => d.parameters.length) = some 3 := by decide +kernel
theorem fl_X0_101_0 : FLk RX0 101 0 21 "[LPalaceOfRooms$Pupil;" := ⟨RX0, TX0, 22, "PalaceOfRooms", rfl, by decide, (fun q => by have h1 := q.1; have h2 := q.2; omega), rfl, in_X0, Or.inl q277, Or.inl rfl⟩
theorem fl_X0_306_9 : FLk RX0 306 9 2 "I" := ⟨RX9, TX9, 3, "PalaceOfRooms$Pupil", rfl, by decide, (fun q => by have h1 := q.1; have h2 := q.2; omega), rfl, in_X9, Or.inr (List.mem_of_getElem? (i := 10) rfl), Or.inl rfl⟩
theorem fl_X0_307_9 : FLk RX0 307 9 0 "[I" := ⟨RX9, TX9, 3, "PalaceOfRooms$Pupil", rfl, by decide, (fun q => by have h1 := q.1; have h2 := q.2; omega), rfl, in_X9, Or.inr (List.mem_of_getElem? (i := 8) rfl), Or.inl rfl⟩
theorem fl_X0_310_9 : FLk RX0 310 9 1 "[Z" := ⟨RX9, TX9, 3, "PalaceOfRooms$Pupil", rfl, by decide, (fun q => by have h1 := q.1; have h2 := q.2; omega), rfl, in_X9, Or.inr (List.mem_of_getElem? (i := 9) rfl), Or.inl rfl⟩
theorem fp_X0_306_9 : FPk RX0 306 9 2 "I" false := ⟨RX9, TX9, 3, "PalaceOfRooms$Pupil", tyX9, rfl, by decide, (fun q => by have h1 := q.1; have h2 := q.2; omega), rfl, in_X9, tyX9_ok, (fun a ha b hb h => Or.inl (nmX9 a ha b hb h)), rfl, (fun q => by cases q), (Or.inr ⟨rfl, List.mem_of_getElem? (i := 10) rfl⟩), Or.inl rfl⟩
abbrev rm_X0_answer : Room := { frames := 2, cells := 0, slots := 0, locals := 45 }
set_option maxHeartbeats 4000000 in
theorem c_X0_answer (l : Launch) {g : Gl} {σ : Hp} {x0 : Nat} {x1 : Int32} {x2 : Int32} {x3 : Int32} {r : Int32 × Hp} (h : F_X0_answer σ x0 x1 x2 x3 = some r) : Met l yX0_answer (ws_ yX0_answer cX0_answer 5 (some .int)) rm_X0_answer (va_Pc [.ref x0, .int x1, .int x2, .int x3] (WV g σ)) (Qi g r) 0 0 (frN g) := by
  refine ct_of (by decide) (Nat.le_of_ble_eq_true rfl) ?_
  intro p e s m below meth c ls X hV hl
  have hF : FR g [] := FR_nil
  unfold F_X0_answer at h
  have hl : lv_has ls 5 [(0, .ref x0), (1, .int x1), (2, .int x2), (3, .int x3)] := hl
  have X : FX g p m c s _ meth cX0_answer 5 RX0 (some .int) "answer" := X
  obtain ⟨-, h⟩ := gd_inv h
  refine lv_iload_n X.1 X.2.1 dX0_answer_0 rfl (lv_at hl 1 rfl) ?_
  obtain ⟨v1, s1, hc, h⟩ := b2_inv h
  refine r_ci (va_runS (As := [.int x1]) (rest := []) (cfX X) (c_X0_isPupil l hc) (va_cwS 1 X.2.2.2.2.1 (lw_S q927 q928 q49 q929) rfl rfl rfl yd_X0_isPupil ⟨Nat.le_of_ble_eq_true rfl, Nat.le_of_ble_eq_true rfl⟩) (preS X hV) rfl rfl hl.1 rfl (lv_room (Nat.le_of_ble_eq_true rfl)) dX0_answer_1 ⟨(Nat.le_of_ble_eq_true rfl), (Nat.le_of_ble_eq_true rfl)⟩) hF (fun H locs hV hF => ?_)
  refine r_ifne (tgt := 10) X.1 X.2.1 dX0_answer_4 (by decide) h (fun h => ?_) (fun h => ?_)
  · refine lv_iload_n X.1 X.2.1 dX0_answer_10 rfl (lv_at hl 2 rfl) ?_
    refine lv_i2l (v := (x2 : Int32).toInt64) X.1 X.2.1 dX0_answer_11 rfl ?_
    refine lv_lconst (v := 1) X.1 X.2.1 dX0_answer_12 (by decide) ?_
    refine lv_ldc2 (v := 60) X.1 X.2.1 X.2.2.2.1 (X.2.2.2.2.1 _ q431) dX0_answer_13 ?_
    obtain ⟨v2, s2, hc, h⟩ := b2_inv h
    refine r_ci (va_runS (As := [.long ((x2 : Int32).toInt64), .long 1, .long 60]) (rest := []) (cfX X) (c_X0_isIn l hc) (va_cwS 3 X.2.2.2.2.1 (lw_S q331 q332 q49 q333) rfl rfl rfl yd_X0_isIn ⟨Nat.le_of_ble_eq_true rfl, Nat.le_of_ble_eq_true rfl⟩) (preS X hV) rfl rfl hl.1 rfl (lv_room (Nat.le_of_ble_eq_true rfl)) dX0_answer_16 ⟨(Nat.le_of_ble_eq_true rfl), (Nat.le_of_ble_eq_true rfl)⟩) hF (fun H locs hV hF => ?_)
    refine r_ifne (tgt := 25) X.1 X.2.1 dX0_answer_19 (by decide) h (fun h => ?_) (fun h => ?_)
    · refine lv_aload_n X.1 X.2.1 dX0_answer_25 rfl (lv_at hl 0 rfl) ?_
      refine r_gR X hV fl_X0_101_0 (by decide) dX0_answer_26 h (fun v3 h => ?_)
      refine lv_iload_n X.1 X.2.1 dX0_answer_29 rfl (lv_at hl 1 rfl) ?_
      refine r_aa X hV dX0_answer_30 (by decide) h (fun v4 h => ?_)
      refine lv_astore (lv' := [(4, .ref v4), (0, .ref x0), (1, .int x1), (2, .int x2), (3, .int x3)]) X.1 X.2.1 dX0_answer_31 hl (by decide) rfl (fun ls hl => ?_)
      refine lv_aload X.1 X.2.1 dX0_answer_33 (lv_at hl 0 rfl) ?_
      refine r_gI X hV fl_X0_306_9 dX0_answer_35 h (fun v5 h => ?_)
      refine lv_bipush (v := 12) X.1 X.2.1 dX0_answer_38 (by decide) ?_
      refine r_ne (tgt := 46) X.1 X.2.1 dX0_answer_40 (by decide) h (fun h => ?_) (fun h => ?_)
      · refine lv_aload X.1 X.2.1 dX0_answer_46 (lv_at hl 0 rfl) ?_
        refine r_gR X hV fl_X0_307_9 (by decide) dX0_answer_48 h (fun v6 h => ?_)
        refine lv_aload X.1 X.2.1 dX0_answer_51 (lv_at hl 0 rfl) ?_
        refine r_gI X hV fl_X0_306_9 dX0_answer_53 h (fun v7 h => ?_)
        refine lv_iload_n X.1 X.2.1 dX0_answer_56 rfl (lv_at hl 3 rfl) ?_
        refine r_is X hV hF dX0_answer_57 h (fun s3 H locs hV hF h => ?_)
        refine lv_aload X.1 X.2.1 dX0_answer_58 (lv_at hl 0 rfl) ?_
        refine r_gR X hV fl_X0_310_9 (by decide) dX0_answer_60 h (fun v8 h => ?_)
        refine lv_aload X.1 X.2.1 dX0_answer_63 (lv_at hl 0 rfl) ?_
        refine r_gI X hV fl_X0_306_9 dX0_answer_65 h (fun v9 h => ?_)
        refine lv_iload_n X.1 X.2.1 dX0_answer_68 rfl (lv_at hl 4 rfl) ?_
        refine r_zs X hV hF dX0_answer_69 h (fun s4 H locs hV hF h => ?_)
        refine lv_aload X.1 X.2.1 dX0_answer_70 (lv_at hl 0 rfl) ?_
        refine lv_dup X.1 X.2.1 dX0_answer_72 rfl ?_
        refine r_gI X hV fl_X0_306_9 dX0_answer_73 h (fun v10 h => ?_)
        refine lv_iconst (v := 1) X.1 X.2.1 dX0_answer_76 (by decide) ?_
        refine lv_iadd X.1 X.2.1 dX0_answer_77 ?_
        refine r_pI X hV hF fp_X0_306_9 (fun q => by cases q) dX0_answer_78 h (fun s5 H locs hV hF h => ?_)
        refine lv_aload X.1 X.2.1 dX0_answer_81 (lv_at hl 0 rfl) ?_
        refine r_gI X hV fl_X0_306_9 dX0_answer_83 h (fun v11 h => ?_)
        exact r_iret X hV hF h dX0_answer_86
      · refine lv_bipush (v := (-5)) X.1 X.2.1 dX0_answer_43 (by decide) ?_
        exact r_iret X hV hF h dX0_answer_45
    · refine lv_bipush (v := (-3)) X.1 X.2.1 dX0_answer_22 (by decide) ?_
      exact r_iret X hV hF h dX0_answer_24
  · refine lv_bipush (v := (-2)) X.1 X.2.1 dX0_answer_7 (by decide) ?_
    exact r_iret X hV hF h dX0_answer_9
/-! PalaceOfRooms$Pupil.isRight -/
theorem dX9_isRight_0 : decode cX9_isRight 0 = .ok (.bipush 100, 2) := by decide +kernel
theorem dX9_isRight_2 : decode cX9_isRight 2 = .ok (.iload_n 0, 1) := by decide +kernel
theorem dX9_isRight_3 : decode cX9_isRight 3 = .ok (.iload_n 2, 1) := by decide +kernel
theorem dX9_isRight_4 : decode cX9_isRight 4 = .ok (.imul, 1) := by decide +kernel
theorem dX9_isRight_5 : decode cX9_isRight 5 = .ok (.isub, 1) := by decide +kernel
theorem dX9_isRight_6 : decode cX9_isRight 6 = .ok (.iload_n 1, 1) := by decide +kernel
theorem dX9_isRight_7 : decode cX9_isRight 7 = .ok (.if_icmp .lt 7, 3) := by decide +kernel
theorem dX9_isRight_10 : decode cX9_isRight 10 = .ok (.iconst 1, 1) := by decide +kernel
theorem dX9_isRight_11 : decode cX9_isRight 11 = .ok (.goto 4, 3) := by decide +kernel
theorem dX9_isRight_14 : decode cX9_isRight 14 = .ok (.iconst 0, 1) := by decide +kernel
theorem dX9_isRight_15 : decode cX9_isRight 15 = .ok (.ireturn, 1) := by decide +kernel
theorem yd_X9_isRight : yX9_isRight.cls ≠ "java/lang/invoke/MethodHandle" ∧ yX9_isRight.cls ≠ "java/lang/invoke/VarHandle" ∧ (parseMethodDescriptor yX9_isRight.desc).map (fun d => d.parameters.length) = some 3 := by decide +kernel
abbrev rm_X9_isRight : Room := { frames := 0, cells := 0, slots := 0, locals := 0 }
set_option maxHeartbeats 4000000 in
theorem c_X9_isRight (l : Launch) {g : Gl} {σ : Hp} {x0 : Int32} {x1 : Int32} {x2 : Int32} {r : Int32 × Hp} (h : F_X9_isRight σ x0 x1 x2 = some r) : Met l yX9_isRight (ws_ yX9_isRight cX9_isRight 3 (some .boolean)) rm_X9_isRight (va_Pc [.int x0, .int x1, .int x2] (WV g σ)) (Qi g r) 0 0 (frN g) := by
  refine ct_of (by decide) (Nat.le_of_ble_eq_true rfl) ?_
  intro p e s m below meth c ls X hV hl
  have hF : FR g [] := FR_nil
  unfold F_X9_isRight at h
  have hl : lv_has ls 3 [(0, .int x0), (1, .int x1), (2, .int x2)] := hl
  have X : FX g p m c s _ meth cX9_isRight 3 RX9 (some .boolean) "isRight" := X
  refine lv_bipush (v := 100) X.1 X.2.1 dX9_isRight_0 (by decide) ?_
  refine lv_iload_n X.1 X.2.1 dX9_isRight_2 rfl (lv_at hl 0 rfl) ?_
  refine lv_iload_n X.1 X.2.1 dX9_isRight_3 rfl (lv_at hl 2 rfl) ?_
  refine lv_imul X.1 X.2.1 dX9_isRight_4 ?_
  refine lv_isub X.1 X.2.1 dX9_isRight_5 ?_
  refine lv_iload_n X.1 X.2.1 dX9_isRight_6 rfl (lv_at hl 1 rfl) ?_
  refine r_lt (tgt := 14) X.1 X.2.1 dX9_isRight_7 (by decide) h (fun h => ?_) (fun h => ?_)
  · refine lv_iconst (v := 0) X.1 X.2.1 dX9_isRight_14 (by decide) ?_
    exact r_zret X hV hF h rfl dX9_isRight_15
  · refine lv_iconst (v := 1) X.1 X.2.1 dX9_isRight_10 (by decide) ?_
    refine lv_goto (tgt := 15) X.1 X.2.1 dX9_isRight_11 (by decide) ?_
    exact r_zret X hV hF h rfl dX9_isRight_15
/-! PalaceOfRooms$Pupil.agrees -/
theorem dX9_agrees_0 : decode cX9_agrees 0 = .ok (.iconst 0, 1) := by decide +kernel
theorem dX9_agrees_1 : decode cX9_agrees 1 = .ok (.istore_n 3, 1) := by decide +kernel
theorem dX9_agrees_2 : decode cX9_agrees 2 = .ok (.iconst 0, 1) := by decide +kernel
theorem dX9_agrees_3 : decode cX9_agrees 3 = .ok (.istore 4, 2) := by decide +kernel
theorem dX9_agrees_5 : decode cX9_agrees 5 = .ok (.iload 4, 2) := by decide +kernel
theorem dX9_agrees_7 : decode cX9_agrees 7 = .ok (.aload_n 0, 1) := by decide +kernel
theorem dX9_agrees_8 : decode cX9_agrees 8 = .ok (.getfield 19, 3) := by decide +kernel
theorem dX9_agrees_11 : decode cX9_agrees 11 = .ok (.if_icmp .ge 39, 3) := by decide +kernel
theorem dX9_agrees_14 : decode cX9_agrees 14 = .ok (.iload_n 3, 1) := by decide +kernel
theorem dX9_agrees_15 : decode cX9_agrees 15 = .ok (.iload_n 1, 1) := by decide +kernel
theorem dX9_agrees_16 : decode cX9_agrees 16 = .ok (.iload_n 2, 1) := by decide +kernel
theorem dX9_agrees_17 : decode cX9_agrees 17 = .ok (.aload_n 0, 1) := by decide +kernel
theorem dX9_agrees_18 : decode cX9_agrees 18 = .ok (.getfield 9, 3) := by decide +kernel
theorem dX9_agrees_21 : decode cX9_agrees 21 = .ok (.iload 4, 2) := by decide +kernel
theorem dX9_agrees_23 : decode cX9_agrees 23 = .ok (.iaload, 1) := by decide +kernel
theorem dX9_agrees_24 : decode cX9_agrees 24 = .ok (.invokestatic 23, 3) := by decide +kernel
theorem dX9_agrees_27 : decode cX9_agrees 27 = .ok (.aload_n 0, 1) := by decide +kernel
theorem dX9_agrees_28 : decode cX9_agrees 28 = .ok (.getfield 15, 3) := by decide +kernel
theorem dX9_agrees_31 : decode cX9_agrees 31 = .ok (.iload 4, 2) := by decide +kernel
theorem dX9_agrees_33 : decode cX9_agrees 33 = .ok (.baload, 1) := by decide +kernel
theorem dX9_agrees_34 : decode cX9_agrees 34 = .ok (.if_icmp .ne 7, 3) := by decide +kernel
theorem dX9_agrees_37 : decode cX9_agrees 37 = .ok (.iconst 1, 1) := by decide +kernel
theorem dX9_agrees_38 : decode cX9_agrees 38 = .ok (.goto 4, 3) := by decide +kernel
theorem dX9_agrees_41 : decode cX9_agrees 41 = .ok (.iconst 0, 1) := by decide +kernel
theorem dX9_agrees_42 : decode cX9_agrees 42 = .ok (.iadd, 1) := by decide +kernel
theorem dX9_agrees_43 : decode cX9_agrees 43 = .ok (.istore_n 3, 1) := by decide +kernel
theorem dX9_agrees_44 : decode cX9_agrees 44 = .ok (.iinc 4 1, 3) := by decide +kernel
theorem dX9_agrees_47 : decode cX9_agrees 47 = .ok (.goto (-42), 3) := by decide +kernel
theorem dX9_agrees_50 : decode cX9_agrees 50 = .ok (.iload_n 3, 1) := by decide +kernel
theorem dX9_agrees_51 : decode cX9_agrees 51 = .ok (.ireturn, 1) := by decide +kernel
theorem yd_X9_agrees : yX9_agrees.cls ≠ "java/lang/invoke/MethodHandle" ∧ yX9_agrees.cls ≠ "java/lang/invoke/VarHandle" ∧ (parseMethodDescriptor yX9_agrees.desc).map (fun d => d.parameters.length) = some 2 := by decide +kernel
theorem fl_X9_19_9 : FLk RX9 19 9 2 "I" := ⟨RX9, TX9, 3, "PalaceOfRooms$Pupil", rfl, by decide, (fun q => by have h1 := q.1; have h2 := q.2; omega), rfl, in_X9, Or.inl q240, Or.inl rfl⟩
theorem fl_X9_9_9 : FLk RX9 9 9 0 "[I" := ⟨RX9, TX9, 3, "PalaceOfRooms$Pupil", rfl, by decide, (fun q => by have h1 := q.1; have h2 := q.2; omega), rfl, in_X9, Or.inl q236, Or.inl rfl⟩
theorem fl_X9_15_9 : FLk RX9 15 9 1 "[Z" := ⟨RX9, TX9, 3, "PalaceOfRooms$Pupil", rfl, by decide, (fun q => by have h1 := q.1; have h2 := q.2; omega), rfl, in_X9, Or.inl q238, Or.inl rfl⟩
abbrev rm_X9_agrees : Room := { frames := 1, cells := 0, slots := 0, locals := 22 }
set_option maxHeartbeats 4000000 in
theorem w_X9_agrees_5_b {p : Program} {l : Launch} {e : Env} {s : State} {m : MethodId} {args : Array Value} {below : List Frame} {meth : Method} {c : Code} {g : Gl} (X : FX g p m c s args meth cX9_agrees 5 RX9 (some .int) "agrees") {r : Int32 × Hp} {rec5 : Hp × Int32 × Int32 → Option (Int32 × Hp)} {x0 : Nat} {x1 : Int32} {x2 : Int32} {σ : Hp} {x3 : Int32} {x4 : Int32} (hr5 : ∀ (st : Hp × Int32 × Int32), rec5 st = some r → ∀ (H : Heap) (locs : List Loc) (ls : Array Slot), HV g st.1 H → FR g locs → lv_has ls 5 [(0, .ref x0), (1, .int x1), (2, .int x2), (3, .int st.2.1), (4, .int st.2.2)] → W p l e rm_X9_agrees s m args below meth c H locs 0 0 (MQ below (Qi g r) args s 0 0 (frN g)) (F0 m 5 ls [])) {H : Heap} {locs : List Loc} {ls : Array Slot} (h : B_X9_agrees_5 x0 x1 x2 rec5 σ x3 x4 = some r) (hV : HV g σ H) (hF : FR g locs) (hl : lv_has ls 5 [(0, .ref x0), (1, .int x1), (2, .int x2), (3, .int x3), (4, .int x4)]) : W p l e rm_X9_agrees s m args below meth c H locs 0 0 (MQ below (Qi g r) args s 0 0 (frN g)) (F0 m 5 ls []) := by
  unfold B_X9_agrees_5 at h
  refine lv_iload X.1 X.2.1 dX9_agrees_5 (lv_at hl 4 rfl) ?_
  refine lv_aload_n X.1 X.2.1 dX9_agrees_7 rfl (lv_at hl 0 rfl) ?_
  refine r_gI X hV fl_X9_19_9 dX9_agrees_8 h (fun v1 h => ?_)
  refine r_ge (tgt := 50) X.1 X.2.1 dX9_agrees_11 (by decide) h (fun h => ?_) (fun h => ?_)
  · refine lv_iload_n X.1 X.2.1 dX9_agrees_50 rfl (lv_at hl 3 rfl) ?_
    exact r_iret X hV hF h dX9_agrees_51
  · refine lv_iload_n X.1 X.2.1 dX9_agrees_14 rfl (lv_at hl 3 rfl) ?_
    refine lv_iload_n X.1 X.2.1 dX9_agrees_15 rfl (lv_at hl 1 rfl) ?_
    refine lv_iload_n X.1 X.2.1 dX9_agrees_16 rfl (lv_at hl 2 rfl) ?_
    refine lv_aload_n X.1 X.2.1 dX9_agrees_17 rfl (lv_at hl 0 rfl) ?_
    refine r_gR X hV fl_X9_9_9 (by decide) dX9_agrees_18 h (fun v2 h => ?_)
    refine lv_iload X.1 X.2.1 dX9_agrees_21 (lv_at hl 4 rfl) ?_
    refine r_ia X hV dX9_agrees_23 h (fun v3 h => ?_)
    obtain ⟨v4, s1, hc, h⟩ := b2_inv h
    refine r_ci (va_runS (As := [.int x1, .int x2, .int v3]) (rest := [.int x3]) (cfX X) (c_X9_isRight l hc) (va_cwS 3 X.2.2.2.2.1 (lw_S q943 q944 q58 q945) rfl rfl rfl yd_X9_isRight ⟨Nat.le_of_ble_eq_true rfl, Nat.le_of_ble_eq_true rfl⟩) (preS X hV) rfl rfl hl.1 rfl (lv_room (Nat.le_of_ble_eq_true rfl)) dX9_agrees_24 ⟨(Nat.le_of_ble_eq_true rfl), (Nat.le_of_ble_eq_true rfl)⟩) hF (fun H locs hV hF => ?_)
    refine lv_aload_n X.1 X.2.1 dX9_agrees_27 rfl (lv_at hl 0 rfl) ?_
    refine r_gR X hV fl_X9_15_9 (by decide) dX9_agrees_28 h (fun v5 h => ?_)
    refine lv_iload X.1 X.2.1 dX9_agrees_31 (lv_at hl 4 rfl) ?_
    refine r_za X hV dX9_agrees_33 h (fun v6 h => ?_)
    refine r_ne (tgt := 41) X.1 X.2.1 dX9_agrees_34 (by decide) h (fun h => ?_) (fun h => ?_)
    · refine lv_iconst (v := 0) X.1 X.2.1 dX9_agrees_41 (by decide) ?_
      refine lv_iadd X.1 X.2.1 dX9_agrees_42 ?_
      refine lv_istore_n (lv' := [(3, .int (x3 + 0)), (0, .ref x0), (1, .int x1), (2, .int x2), (4, .int x4)]) X.1 X.2.1 dX9_agrees_43 rfl hl (by decide) rfl (fun ls hl => ?_)
      refine lv_iinc (v := x4 + 1) (lv' := [(4, .int (x4 + 1)), (3, .int (x3 + 0)), (0, .ref x0), (1, .int x1), (2, .int x2)]) X.1 X.2.1 dX9_agrees_44 hl (k := 4) rfl rfl (by decide) rfl (fun ls hl => ?_)
      refine lv_goto (tgt := 5) X.1 X.2.1 dX9_agrees_47 (by decide) ?_
      exact hr5 (s1, x3 + 0, x4 + 1) h _ _ _ hV hF (lv_sub hl [2, 3, 4, 1, 0] rfl)
    · refine lv_iconst (v := 1) X.1 X.2.1 dX9_agrees_37 (by decide) ?_
      refine lv_goto (tgt := 42) X.1 X.2.1 dX9_agrees_38 (by decide) ?_
      refine lv_iadd X.1 X.2.1 dX9_agrees_42 ?_
      refine lv_istore_n (lv' := [(3, .int (x3 + 1)), (0, .ref x0), (1, .int x1), (2, .int x2), (4, .int x4)]) X.1 X.2.1 dX9_agrees_43 rfl hl (by decide) rfl (fun ls hl => ?_)
      refine lv_iinc (v := x4 + 1) (lv' := [(4, .int (x4 + 1)), (3, .int (x3 + 1)), (0, .ref x0), (1, .int x1), (2, .int x2)]) X.1 X.2.1 dX9_agrees_44 hl (k := 4) rfl rfl (by decide) rfl (fun ls hl => ?_)
      refine lv_goto (tgt := 5) X.1 X.2.1 dX9_agrees_47 (by decide) ?_
      exact hr5 (s1, x3 + 1, x4 + 1) h _ _ _ hV hF (lv_sub hl [2, 3, 4, 1, 0] rfl)
set_option maxHeartbeats 4000000 in
theorem w_X9_agrees_5 {p : Program} {l : Launch} {e : Env} {s : State} {m : MethodId} {args : Array Value} {below : List Frame} {meth : Method} {c : Code} {g : Gl} (X : FX g p m c s args meth cX9_agrees 5 RX9 (some .int) "agrees") {r : Int32 × Hp} {x0 : Nat} {x1 : Int32} {x2 : Int32}  : ∀ (n : Nat) (st : Hp × Int32 × Int32), L_X9_agrees_5 x0 x1 x2 n st = some r → ∀ (H : Heap) (locs : List Loc) (ls : Array Slot), HV g st.1 H → FR g locs → lv_has ls 5 [(0, .ref x0), (1, .int x1), (2, .int x2), (3, .int st.2.1), (4, .int st.2.2)] → W p l e rm_X9_agrees s m args below meth c H locs 0 0 (MQ below (Qi g r) args s 0 0 (frN g)) (F0 m 5 ls []) := by
  intro n
  induction n with
  | zero =>
    intro st h
    rw [L_X9_agrees_5_0] at h
    cases h
  | succ n ih =>
    intro st h H locs ls hV hF hl
    rw [L_X9_agrees_5_s] at h
    exact w_X9_agrees_5_b X  ih h hV hF hl
set_option maxHeartbeats 4000000 in
theorem c_X9_agrees (l : Launch) {g : Gl} {σ : Hp} {x0 : Nat} {x1 : Int32} {x2 : Int32} {r : Int32 × Hp} (h : F_X9_agrees σ x0 x1 x2 = some r) : Met l yX9_agrees (ws_ yX9_agrees cX9_agrees 5 (some .int)) rm_X9_agrees (va_Pc [.ref x0, .int x1, .int x2] (WV g σ)) (Qi g r) 0 0 (frN g) := by
  refine ct_of (by decide) (Nat.le_of_ble_eq_true rfl) ?_
  intro p e s m below meth c ls X hV hl
  have hF : FR g [] := FR_nil
  unfold F_X9_agrees at h
  have hl : lv_has ls 5 [(0, .ref x0), (1, .int x1), (2, .int x2)] := hl
  have X : FX g p m c s _ meth cX9_agrees 5 RX9 (some .int) "agrees" := X
  obtain ⟨-, h⟩ := gd_inv h
  refine lv_iconst (v := 0) X.1 X.2.1 dX9_agrees_0 (by decide) ?_
  refine lv_istore_n (lv' := [(3, .int 0), (0, .ref x0), (1, .int x1), (2, .int x2)]) X.1 X.2.1 dX9_agrees_1 rfl hl (by decide) rfl (fun ls hl => ?_)
  refine lv_iconst (v := 0) X.1 X.2.1 dX9_agrees_2 (by decide) ?_
  refine lv_istore (lv' := [(4, .int 0), (3, .int 0), (0, .ref x0), (1, .int x1), (2, .int x2)]) X.1 X.2.1 dX9_agrees_3 hl (by decide) rfl (fun ls hl => ?_)
  exact w_X9_agrees_5 X  FU (σ, 0, 0) h _ _ _ hV hF (lv_sub hl [2, 3, 4, 1, 0] rfl)
/-! PalaceOfRooms$Pupil.mayBe -/
theorem dX9_mayBe_0 : decode cX9_mayBe 0 = .ok (.iconst 0, 1) := by decide +kernel
theorem dX9_mayBe_1 : decode cX9_mayBe 1 = .ok (.istore_n 1, 1) := by decide +kernel
theorem dX9_mayBe_2 : decode cX9_mayBe 2 = .ok (.iconst 1, 1) := by decide +kernel
theorem dX9_mayBe_3 : decode cX9_mayBe 3 = .ok (.istore_n 2, 1) := by decide +kernel
theorem dX9_mayBe_4 : decode cX9_mayBe 4 = .ok (.iload_n 2, 1) := by decide +kernel
theorem dX9_mayBe_5 : decode cX9_mayBe 5 = .ok (.bipush 9, 2) := by decide +kernel
theorem dX9_mayBe_7 : decode cX9_mayBe 7 = .ok (.if_icmp .gt 45, 3) := by decide +kernel
theorem dX9_mayBe_10 : decode cX9_mayBe 10 = .ok (.bipush 10, 2) := by decide +kernel
theorem dX9_mayBe_12 : decode cX9_mayBe 12 = .ok (.istore_n 3, 1) := by decide +kernel
theorem dX9_mayBe_13 : decode cX9_mayBe 13 = .ok (.iload_n 3, 1) := by decide +kernel
theorem dX9_mayBe_14 : decode cX9_mayBe 14 = .ok (.bipush 90, 2) := by decide +kernel
theorem dX9_mayBe_16 : decode cX9_mayBe 16 = .ok (.if_icmp .gt 30, 3) := by decide +kernel
theorem dX9_mayBe_19 : decode cX9_mayBe 19 = .ok (.iload_n 1, 1) := by decide +kernel
theorem dX9_mayBe_20 : decode cX9_mayBe 20 = .ok (.aload_n 0, 1) := by decide +kernel
theorem dX9_mayBe_21 : decode cX9_mayBe 21 = .ok (.iload_n 2, 1) := by decide +kernel
theorem dX9_mayBe_22 : decode cX9_mayBe 22 = .ok (.iload_n 3, 1) := by decide +kernel
theorem dX9_mayBe_23 : decode cX9_mayBe 23 = .ok (.invokevirtual 27, 3) := by decide +kernel
theorem dX9_mayBe_26 : decode cX9_mayBe 26 = .ok (.aload_n 0, 1) := by decide +kernel
theorem dX9_mayBe_27 : decode cX9_mayBe 27 = .ok (.getfield 19, 3) := by decide +kernel
theorem dX9_mayBe_30 : decode cX9_mayBe 30 = .ok (.if_icmp .ne 7, 3) := by decide +kernel
theorem dX9_mayBe_33 : decode cX9_mayBe 33 = .ok (.iconst 1, 1) := by decide +kernel
theorem dX9_mayBe_34 : decode cX9_mayBe 34 = .ok (.goto 4, 3) := by decide +kernel
theorem dX9_mayBe_37 : decode cX9_mayBe 37 = .ok (.iconst 0, 1) := by decide +kernel
theorem dX9_mayBe_38 : decode cX9_mayBe 38 = .ok (.iadd, 1) := by decide +kernel
theorem dX9_mayBe_39 : decode cX9_mayBe 39 = .ok (.istore_n 1, 1) := by decide +kernel
theorem dX9_mayBe_40 : decode cX9_mayBe 40 = .ok (.iinc 3 10, 3) := by decide +kernel
theorem dX9_mayBe_43 : decode cX9_mayBe 43 = .ok (.goto (-30), 3) := by decide +kernel
theorem dX9_mayBe_46 : decode cX9_mayBe 46 = .ok (.iinc 2 1, 3) := by decide +kernel
theorem dX9_mayBe_49 : decode cX9_mayBe 49 = .ok (.goto (-45), 3) := by decide +kernel
theorem dX9_mayBe_52 : decode cX9_mayBe 52 = .ok (.iload_n 1, 1) := by decide +kernel
theorem dX9_mayBe_53 : decode cX9_mayBe 53 = .ok (.ireturn, 1) := by decide +kernel
theorem yd_X9_mayBe : yX9_mayBe.cls ≠ "java/lang/invoke/MethodHandle" ∧ yX9_mayBe.cls ≠ "java/lang/invoke/VarHandle" ∧ (parseMethodDescriptor yX9_mayBe.desc).map (fun d => d.parameters.length) = some 0 := by decide +kernel
abbrev rm_X9_mayBe : Room := { frames := 2, cells := 0, slots := 0, locals := 46 }
set_option maxHeartbeats 4000000 in
theorem w_X9_mayBe_13_b {p : Program} {l : Launch} {e : Env} {s : State} {m : MethodId} {args : Array Value} {below : List Frame} {meth : Method} {c : Code} {g : Gl} (X : FX g p m c s args meth cX9_mayBe 4 RX9 (some .int) "mayBe") {r : Int32 × Hp} {rec4 : Hp × Int32 × Int32 → Option (Int32 × Hp)} {rec13 : Hp × Int32 × Int32 → Option (Int32 × Hp)} {x0 : Nat} {x2 : Int32} {σ : Hp} {x1 : Int32} {x3 : Int32} (hr4 : ∀ (st : Hp × Int32 × Int32), rec4 st = some r → ∀ (H : Heap) (locs : List Loc) (ls : Array Slot), HV g st.1 H → FR g locs → lv_has ls 4 [(0, .ref x0), (1, .int st.2.1), (2, .int st.2.2)] → W p l e rm_X9_mayBe s m args below meth c H locs 0 0 (MQ below (Qi g r) args s 0 0 (frN g)) (F0 m 4 ls [])) (hr13 : ∀ (st : Hp × Int32 × Int32), rec13 st = some r → ∀ (H : Heap) (locs : List Loc) (ls : Array Slot), HV g st.1 H → FR g locs → lv_has ls 4 [(0, .ref x0), (1, .int st.2.1), (2, .int x2), (3, .int st.2.2)] → W p l e rm_X9_mayBe s m args below meth c H locs 0 0 (MQ below (Qi g r) args s 0 0 (frN g)) (F0 m 13 ls [])) {H : Heap} {locs : List Loc} {ls : Array Slot} (h : B_X9_mayBe_13 rec4 x0 x2 rec13 σ x1 x3 = some r) (hV : HV g σ H) (hF : FR g locs) (hl : lv_has ls 4 [(0, .ref x0), (1, .int x1), (2, .int x2), (3, .int x3)]) : W p l e rm_X9_mayBe s m args below meth c H locs 0 0 (MQ below (Qi g r) args s 0 0 (frN g)) (F0 m 13 ls []) := by
  unfold B_X9_mayBe_13 at h
  refine lv_iload_n X.1 X.2.1 dX9_mayBe_13 rfl (lv_at hl 3 rfl) ?_
  refine lv_bipush (v := 90) X.1 X.2.1 dX9_mayBe_14 (by decide) ?_
  refine r_gt (tgt := 46) X.1 X.2.1 dX9_mayBe_16 (by decide) h (fun h => ?_) (fun h => ?_)
  · refine lv_iinc (v := x2 + 1) (lv' := [(2, .int (x2 + 1)), (0, .ref x0), (1, .int x1), (3, .int x3)]) X.1 X.2.1 dX9_mayBe_46 hl (k := 2) rfl rfl (by decide) rfl (fun ls hl => ?_)
    refine lv_goto (tgt := 4) X.1 X.2.1 dX9_mayBe_49 (by decide) ?_
    exact hr4 (σ, x1, x2 + 1) h _ _ _ hV hF (lv_sub hl [1, 2, 0] rfl)
  · refine lv_iload_n X.1 X.2.1 dX9_mayBe_19 rfl (lv_at hl 1 rfl) ?_
    refine lv_aload_n X.1 X.2.1 dX9_mayBe_20 rfl (lv_at hl 0 rfl) ?_
    refine lv_iload_n X.1 X.2.1 dX9_mayBe_21 rfl (lv_at hl 2 rfl) ?_
    refine lv_iload_n X.1 X.2.1 dX9_mayBe_22 rfl (lv_at hl 3 rfl) ?_
    obtain ⟨v1, s1, hc, h⟩ := b2_inv h
    refine r_ci (va_runV (C := RX9) (As := [.int x2, .int x3]) (rest := [.int x1]) (cfX X) (c_X9_agrees l hc) (cwV 2 X.2.2.2.2.1 (lw_V q939 q940 q941 q58 q942) rfl rfl rfl ⟨rfl, yd_X9_agrees⟩ ⟨Nat.le_of_ble_eq_true rfl, Nat.le_of_ble_eq_true rfl⟩) (preV X hV (F_X9_agrees_g hc) rfl) rfl rfl hl.1 rfl (lv_room (Nat.le_of_ble_eq_true rfl)) dX9_mayBe_23 ⟨(Nat.le_of_ble_eq_true rfl), (Nat.le_of_ble_eq_true rfl)⟩) hF (fun H locs hV hF => ?_)
    refine lv_aload_n X.1 X.2.1 dX9_mayBe_26 rfl (lv_at hl 0 rfl) ?_
    refine r_gI X hV fl_X9_19_9 dX9_mayBe_27 h (fun v2 h => ?_)
    refine r_ne (tgt := 37) X.1 X.2.1 dX9_mayBe_30 (by decide) h (fun h => ?_) (fun h => ?_)
    · refine lv_iconst (v := 0) X.1 X.2.1 dX9_mayBe_37 (by decide) ?_
      refine lv_iadd X.1 X.2.1 dX9_mayBe_38 ?_
      refine lv_istore_n (lv' := [(1, .int (x1 + 0)), (0, .ref x0), (2, .int x2), (3, .int x3)]) X.1 X.2.1 dX9_mayBe_39 rfl hl (by decide) rfl (fun ls hl => ?_)
      refine lv_iinc (v := x3 + 10) (lv' := [(3, .int (x3 + 10)), (1, .int (x1 + 0)), (0, .ref x0), (2, .int x2)]) X.1 X.2.1 dX9_mayBe_40 hl (k := 3) rfl rfl (by decide) rfl (fun ls hl => ?_)
      refine lv_goto (tgt := 13) X.1 X.2.1 dX9_mayBe_43 (by decide) ?_
      exact hr13 (s1, x1 + 0, x3 + 10) h _ _ _ hV hF (lv_sub hl [2, 1, 3, 0] rfl)
    · refine lv_iconst (v := 1) X.1 X.2.1 dX9_mayBe_33 (by decide) ?_
      refine lv_goto (tgt := 38) X.1 X.2.1 dX9_mayBe_34 (by decide) ?_
      refine lv_iadd X.1 X.2.1 dX9_mayBe_38 ?_
      refine lv_istore_n (lv' := [(1, .int (x1 + 1)), (0, .ref x0), (2, .int x2), (3, .int x3)]) X.1 X.2.1 dX9_mayBe_39 rfl hl (by decide) rfl (fun ls hl => ?_)
      refine lv_iinc (v := x3 + 10) (lv' := [(3, .int (x3 + 10)), (1, .int (x1 + 1)), (0, .ref x0), (2, .int x2)]) X.1 X.2.1 dX9_mayBe_40 hl (k := 3) rfl rfl (by decide) rfl (fun ls hl => ?_)
      refine lv_goto (tgt := 13) X.1 X.2.1 dX9_mayBe_43 (by decide) ?_
      exact hr13 (s1, x1 + 1, x3 + 10) h _ _ _ hV hF (lv_sub hl [2, 1, 3, 0] rfl)
set_option maxHeartbeats 4000000 in
theorem w_X9_mayBe_13 {p : Program} {l : Launch} {e : Env} {s : State} {m : MethodId} {args : Array Value} {below : List Frame} {meth : Method} {c : Code} {g : Gl} (X : FX g p m c s args meth cX9_mayBe 4 RX9 (some .int) "mayBe") {r : Int32 × Hp} {rec4 : Hp × Int32 × Int32 → Option (Int32 × Hp)} {x0 : Nat} {x2 : Int32} (hr4 : ∀ (st : Hp × Int32 × Int32), rec4 st = some r → ∀ (H : Heap) (locs : List Loc) (ls : Array Slot), HV g st.1 H → FR g locs → lv_has ls 4 [(0, .ref x0), (1, .int st.2.1), (2, .int st.2.2)] → W p l e rm_X9_mayBe s m args below meth c H locs 0 0 (MQ below (Qi g r) args s 0 0 (frN g)) (F0 m 4 ls [])) : ∀ (n : Nat) (st : Hp × Int32 × Int32), L_X9_mayBe_13 rec4 x0 x2 n st = some r → ∀ (H : Heap) (locs : List Loc) (ls : Array Slot), HV g st.1 H → FR g locs → lv_has ls 4 [(0, .ref x0), (1, .int st.2.1), (2, .int x2), (3, .int st.2.2)] → W p l e rm_X9_mayBe s m args below meth c H locs 0 0 (MQ below (Qi g r) args s 0 0 (frN g)) (F0 m 13 ls []) := by
  intro n
  induction n with
  | zero =>
    intro st h
    rw [L_X9_mayBe_13_0] at h
    cases h
  | succ n ih =>
    intro st h H locs ls hV hF hl
    rw [L_X9_mayBe_13_s] at h
    exact w_X9_mayBe_13_b X hr4 ih h hV hF hl
set_option maxHeartbeats 4000000 in
theorem w_X9_mayBe_4_b {p : Program} {l : Launch} {e : Env} {s : State} {m : MethodId} {args : Array Value} {below : List Frame} {meth : Method} {c : Code} {g : Gl} (X : FX g p m c s args meth cX9_mayBe 4 RX9 (some .int) "mayBe") {r : Int32 × Hp} {rec4 : Hp × Int32 × Int32 → Option (Int32 × Hp)} {x0 : Nat} {σ : Hp} {x1 : Int32} {x2 : Int32} (hr4 : ∀ (st : Hp × Int32 × Int32), rec4 st = some r → ∀ (H : Heap) (locs : List Loc) (ls : Array Slot), HV g st.1 H → FR g locs → lv_has ls 4 [(0, .ref x0), (1, .int st.2.1), (2, .int st.2.2)] → W p l e rm_X9_mayBe s m args below meth c H locs 0 0 (MQ below (Qi g r) args s 0 0 (frN g)) (F0 m 4 ls [])) {H : Heap} {locs : List Loc} {ls : Array Slot} (h : B_X9_mayBe_4 x0 rec4 σ x1 x2 = some r) (hV : HV g σ H) (hF : FR g locs) (hl : lv_has ls 4 [(0, .ref x0), (1, .int x1), (2, .int x2)]) : W p l e rm_X9_mayBe s m args below meth c H locs 0 0 (MQ below (Qi g r) args s 0 0 (frN g)) (F0 m 4 ls []) := by
  unfold B_X9_mayBe_4 at h
  refine lv_iload_n X.1 X.2.1 dX9_mayBe_4 rfl (lv_at hl 2 rfl) ?_
  refine lv_bipush (v := 9) X.1 X.2.1 dX9_mayBe_5 (by decide) ?_
  refine r_gt (tgt := 52) X.1 X.2.1 dX9_mayBe_7 (by decide) h (fun h => ?_) (fun h => ?_)
  · refine lv_iload_n X.1 X.2.1 dX9_mayBe_52 rfl (lv_at hl 1 rfl) ?_
    exact r_iret X hV hF h dX9_mayBe_53
  · refine lv_bipush (v := 10) X.1 X.2.1 dX9_mayBe_10 (by decide) ?_
    refine lv_istore_n (lv' := [(3, .int 10), (0, .ref x0), (1, .int x1), (2, .int x2)]) X.1 X.2.1 dX9_mayBe_12 rfl hl (by decide) rfl (fun ls hl => ?_)
    exact w_X9_mayBe_13 X hr4 FU (σ, x1, 10) h _ _ _ hV hF (lv_sub hl [1, 2, 3, 0] rfl)
set_option maxHeartbeats 4000000 in
theorem w_X9_mayBe_4 {p : Program} {l : Launch} {e : Env} {s : State} {m : MethodId} {args : Array Value} {below : List Frame} {meth : Method} {c : Code} {g : Gl} (X : FX g p m c s args meth cX9_mayBe 4 RX9 (some .int) "mayBe") {r : Int32 × Hp} {x0 : Nat}  : ∀ (n : Nat) (st : Hp × Int32 × Int32), L_X9_mayBe_4 x0 n st = some r → ∀ (H : Heap) (locs : List Loc) (ls : Array Slot), HV g st.1 H → FR g locs → lv_has ls 4 [(0, .ref x0), (1, .int st.2.1), (2, .int st.2.2)] → W p l e rm_X9_mayBe s m args below meth c H locs 0 0 (MQ below (Qi g r) args s 0 0 (frN g)) (F0 m 4 ls []) := by
  intro n
  induction n with
  | zero =>
    intro st h
    rw [L_X9_mayBe_4_0] at h
    cases h
  | succ n ih =>
    intro st h H locs ls hV hF hl
    rw [L_X9_mayBe_4_s] at h
    exact w_X9_mayBe_4_b X  ih h hV hF hl
set_option maxHeartbeats 4000000 in
theorem c_X9_mayBe (l : Launch) {g : Gl} {σ : Hp} {x0 : Nat} {r : Int32 × Hp} (h : F_X9_mayBe σ x0 = some r) : Met l yX9_mayBe (ws_ yX9_mayBe cX9_mayBe 4 (some .int)) rm_X9_mayBe (va_Pc [.ref x0] (WV g σ)) (Qi g r) 0 0 (frN g) := by
  refine ct_of (by decide) (Nat.le_of_ble_eq_true rfl) ?_
  intro p e s m below meth c ls X hV hl
  have hF : FR g [] := FR_nil
  unfold F_X9_mayBe at h
  have hl : lv_has ls 4 [(0, .ref x0)] := hl
  have X : FX g p m c s _ meth cX9_mayBe 4 RX9 (some .int) "mayBe" := X
  obtain ⟨-, h⟩ := gd_inv h
  refine lv_iconst (v := 0) X.1 X.2.1 dX9_mayBe_0 (by decide) ?_
  refine lv_istore_n (lv' := [(1, .int 0), (0, .ref x0)]) X.1 X.2.1 dX9_mayBe_1 rfl hl (by decide) rfl (fun ls hl => ?_)
  refine lv_iconst (v := 1) X.1 X.2.1 dX9_mayBe_2 (by decide) ?_
  refine lv_istore_n (lv' := [(2, .int 1), (1, .int 0), (0, .ref x0)]) X.1 X.2.1 dX9_mayBe_3 rfl hl (by decide) rfl (fun ls hl => ?_)
  exact w_X9_mayBe_4 X  FU (σ, 0, 1) h _ _ _ hV hF (lv_sub hl [2, 1, 0] rfl)
/-! PalaceOfRooms$Pupil.unlike -/
theorem dX9_unlike_0 : decode cX9_unlike 0 = .ok (.iconst 0, 1) := by decide +kernel
theorem dX9_unlike_1 : decode cX9_unlike 1 = .ok (.istore_n 2, 1) := by decide +kernel
theorem dX9_unlike_2 : decode cX9_unlike 2 = .ok (.iconst 1, 1) := by decide +kernel
theorem dX9_unlike_3 : decode cX9_unlike 3 = .ok (.istore_n 3, 1) := by decide +kernel
theorem dX9_unlike_4 : decode cX9_unlike 4 = .ok (.iload_n 3, 1) := by decide +kernel
theorem dX9_unlike_5 : decode cX9_unlike 5 = .ok (.bipush 9, 2) := by decide +kernel
theorem dX9_unlike_7 : decode cX9_unlike 7 = .ok (.if_icmp .gt 62, 3) := by decide +kernel
theorem dX9_unlike_10 : decode cX9_unlike 10 = .ok (.bipush 10, 2) := by decide +kernel
theorem dX9_unlike_12 : decode cX9_unlike 12 = .ok (.istore 4, 2) := by decide +kernel
theorem dX9_unlike_14 : decode cX9_unlike 14 = .ok (.iload 4, 2) := by decide +kernel
theorem dX9_unlike_16 : decode cX9_unlike 16 = .ok (.bipush 90, 2) := by decide +kernel
theorem dX9_unlike_18 : decode cX9_unlike 18 = .ok (.if_icmp .gt 45, 3) := by decide +kernel
theorem dX9_unlike_21 : decode cX9_unlike 21 = .ok (.iload_n 2, 1) := by decide +kernel
theorem dX9_unlike_22 : decode cX9_unlike 22 = .ok (.aload_n 0, 1) := by decide +kernel
theorem dX9_unlike_23 : decode cX9_unlike 23 = .ok (.iload_n 3, 1) := by decide +kernel
theorem dX9_unlike_24 : decode cX9_unlike 24 = .ok (.iload 4, 2) := by decide +kernel
theorem dX9_unlike_26 : decode cX9_unlike 26 = .ok (.invokevirtual 27, 3) := by decide +kernel
theorem dX9_unlike_29 : decode cX9_unlike 29 = .ok (.aload_n 0, 1) := by decide +kernel
theorem dX9_unlike_30 : decode cX9_unlike 30 = .ok (.getfield 19, 3) := by decide +kernel
theorem dX9_unlike_33 : decode cX9_unlike 33 = .ok (.if_icmp .ge 7, 3) := by decide +kernel
theorem dX9_unlike_36 : decode cX9_unlike 36 = .ok (.iconst 0, 1) := by decide +kernel
theorem dX9_unlike_37 : decode cX9_unlike 37 = .ok (.goto 18, 3) := by decide +kernel
theorem dX9_unlike_40 : decode cX9_unlike 40 = .ok (.iload_n 3, 1) := by decide +kernel
theorem dX9_unlike_41 : decode cX9_unlike 41 = .ok (.iload 4, 2) := by decide +kernel
theorem dX9_unlike_43 : decode cX9_unlike 43 = .ok (.iload_n 1, 1) := by decide +kernel
theorem dX9_unlike_44 : decode cX9_unlike 44 = .ok (.invokestatic 23, 3) := by decide +kernel
theorem dX9_unlike_47 : decode cX9_unlike 47 = .ok (.ifCond .eq 7, 3) := by decide +kernel
theorem dX9_unlike_50 : decode cX9_unlike 50 = .ok (.iconst 1, 1) := by decide +kernel
theorem dX9_unlike_51 : decode cX9_unlike 51 = .ok (.goto 4, 3) := by decide +kernel
theorem dX9_unlike_54 : decode cX9_unlike 54 = .ok (.iconst (-1), 1) := by decide +kernel
theorem dX9_unlike_55 : decode cX9_unlike 55 = .ok (.iadd, 1) := by decide +kernel
theorem dX9_unlike_56 : decode cX9_unlike 56 = .ok (.istore_n 2, 1) := by decide +kernel
theorem dX9_unlike_57 : decode cX9_unlike 57 = .ok (.iinc 4 10, 3) := by decide +kernel
theorem dX9_unlike_60 : decode cX9_unlike 60 = .ok (.goto (-46), 3) := by decide +kernel
theorem dX9_unlike_63 : decode cX9_unlike 63 = .ok (.iinc 3 1, 3) := by decide +kernel
theorem dX9_unlike_66 : decode cX9_unlike 66 = .ok (.goto (-62), 3) := by decide +kernel
theorem dX9_unlike_69 : decode cX9_unlike 69 = .ok (.iload_n 2, 1) := by decide +kernel
theorem dX9_unlike_70 : decode cX9_unlike 70 = .ok (.invokestatic 31, 3) := by decide +kernel
theorem dX9_unlike_73 : decode cX9_unlike 73 = .ok (.ireturn, 1) := by decide +kernel
theorem yd_X9_unlike : yX9_unlike.cls ≠ "java/lang/invoke/MethodHandle" ∧ yX9_unlike.cls ≠ "java/lang/invoke/VarHandle" ∧ (parseMethodDescriptor yX9_unlike.desc).map (fun d => d.parameters.length) = some 1 := by decide +kernel
abbrev rm_X9_unlike : Room := { frames := 2, cells := 0, slots := 0, locals := 46 }
set_option maxHeartbeats 4000000 in
theorem w_X9_unlike_14_b {p : Program} {l : Launch} {e : Env} {s : State} {m : MethodId} {args : Array Value} {below : List Frame} {meth : Method} {c : Code} {g : Gl} (X : FX g p m c s args meth cX9_unlike 5 RX9 (some .int) "unlike") {r : Int32 × Hp} {rec4 : Hp × Int32 × Int32 → Option (Int32 × Hp)} {rec14 : Hp × Int32 × Int32 → Option (Int32 × Hp)} {x0 : Nat} {x1 : Int32} {x3 : Int32} {σ : Hp} {x2 : Int32} {x4 : Int32} (hr4 : ∀ (st : Hp × Int32 × Int32), rec4 st = some r → ∀ (H : Heap) (locs : List Loc) (ls : Array Slot), HV g st.1 H → FR g locs → lv_has ls 5 [(0, .ref x0), (1, .int x1), (2, .int st.2.1), (3, .int st.2.2)] → W p l e rm_X9_unlike s m args below meth c H locs 0 0 (MQ below (Qi g r) args s 0 0 (frN g)) (F0 m 4 ls [])) (hr14 : ∀ (st : Hp × Int32 × Int32), rec14 st = some r → ∀ (H : Heap) (locs : List Loc) (ls : Array Slot), HV g st.1 H → FR g locs → lv_has ls 5 [(0, .ref x0), (1, .int x1), (2, .int st.2.1), (3, .int x3), (4, .int st.2.2)] → W p l e rm_X9_unlike s m args below meth c H locs 0 0 (MQ below (Qi g r) args s 0 0 (frN g)) (F0 m 14 ls [])) {H : Heap} {locs : List Loc} {ls : Array Slot} (h : B_X9_unlike_14 rec4 x0 x1 x3 rec14 σ x2 x4 = some r) (hV : HV g σ H) (hF : FR g locs) (hl : lv_has ls 5 [(0, .ref x0), (1, .int x1), (2, .int x2), (3, .int x3), (4, .int x4)]) : W p l e rm_X9_unlike s m args below meth c H locs 0 0 (MQ below (Qi g r) args s 0 0 (frN g)) (F0 m 14 ls []) := by
  unfold B_X9_unlike_14 at h
  refine lv_iload X.1 X.2.1 dX9_unlike_14 (lv_at hl 4 rfl) ?_
  refine lv_bipush (v := 90) X.1 X.2.1 dX9_unlike_16 (by decide) ?_
  refine r_gt (tgt := 63) X.1 X.2.1 dX9_unlike_18 (by decide) h (fun h => ?_) (fun h => ?_)
  · refine lv_iinc (v := x3 + 1) (lv' := [(3, .int (x3 + 1)), (0, .ref x0), (1, .int x1), (2, .int x2), (4, .int x4)]) X.1 X.2.1 dX9_unlike_63 hl (k := 3) rfl rfl (by decide) rfl (fun ls hl => ?_)
    refine lv_goto (tgt := 4) X.1 X.2.1 dX9_unlike_66 (by decide) ?_
    exact hr4 (σ, x2, x3 + 1) h _ _ _ hV hF (lv_sub hl [1, 2, 3, 0] rfl)
  · refine lv_iload_n X.1 X.2.1 dX9_unlike_21 rfl (lv_at hl 2 rfl) ?_
    refine lv_aload_n X.1 X.2.1 dX9_unlike_22 rfl (lv_at hl 0 rfl) ?_
    refine lv_iload_n X.1 X.2.1 dX9_unlike_23 rfl (lv_at hl 3 rfl) ?_
    refine lv_iload X.1 X.2.1 dX9_unlike_24 (lv_at hl 4 rfl) ?_
    obtain ⟨v1, s1, hc, h⟩ := b2_inv h
    refine r_ci (va_runV (C := RX9) (As := [.int x3, .int x4]) (rest := [.int x2]) (cfX X) (c_X9_agrees l hc) (cwV 2 X.2.2.2.2.1 (lw_V q939 q940 q941 q58 q942) rfl rfl rfl ⟨rfl, yd_X9_agrees⟩ ⟨Nat.le_of_ble_eq_true rfl, Nat.le_of_ble_eq_true rfl⟩) (preV X hV (F_X9_agrees_g hc) rfl) rfl rfl hl.1 rfl (lv_room (Nat.le_of_ble_eq_true rfl)) dX9_unlike_26 ⟨(Nat.le_of_ble_eq_true rfl), (Nat.le_of_ble_eq_true rfl)⟩) hF (fun H locs hV hF => ?_)
    refine lv_aload_n X.1 X.2.1 dX9_unlike_29 rfl (lv_at hl 0 rfl) ?_
    refine r_gI X hV fl_X9_19_9 dX9_unlike_30 h (fun v2 h => ?_)
    refine r_ge (tgt := 40) X.1 X.2.1 dX9_unlike_33 (by decide) h (fun h => ?_) (fun h => ?_)
    · refine lv_iload_n X.1 X.2.1 dX9_unlike_40 rfl (lv_at hl 3 rfl) ?_
      refine lv_iload X.1 X.2.1 dX9_unlike_41 (lv_at hl 4 rfl) ?_
      refine lv_iload_n X.1 X.2.1 dX9_unlike_43 rfl (lv_at hl 1 rfl) ?_
      obtain ⟨v3, s2, hc, h⟩ := b2_inv h
      refine r_ci (va_runS (As := [.int x3, .int x4, .int x1]) (rest := [.int x2]) (cfX X) (c_X9_isRight l hc) (va_cwS 3 X.2.2.2.2.1 (lw_S q943 q944 q58 q945) rfl rfl rfl yd_X9_isRight ⟨Nat.le_of_ble_eq_true rfl, Nat.le_of_ble_eq_true rfl⟩) (preS X hV) rfl rfl hl.1 rfl (lv_room (Nat.le_of_ble_eq_true rfl)) dX9_unlike_44 ⟨(Nat.le_of_ble_eq_true rfl), (Nat.le_of_ble_eq_true rfl)⟩) hF (fun H locs hV hF => ?_)
      refine r_ifeq (tgt := 54) X.1 X.2.1 dX9_unlike_47 (by decide) h (fun h => ?_) (fun h => ?_)
      · refine lv_iconst (v := (-1)) X.1 X.2.1 dX9_unlike_54 (by decide) ?_
        refine lv_iadd X.1 X.2.1 dX9_unlike_55 ?_
        refine lv_istore_n (lv' := [(2, .int (x2 + (-1))), (0, .ref x0), (1, .int x1), (3, .int x3), (4, .int x4)]) X.1 X.2.1 dX9_unlike_56 rfl hl (by decide) rfl (fun ls hl => ?_)
        refine lv_iinc (v := x4 + 10) (lv' := [(4, .int (x4 + 10)), (2, .int (x2 + (-1))), (0, .ref x0), (1, .int x1), (3, .int x3)]) X.1 X.2.1 dX9_unlike_57 hl (k := 4) rfl rfl (by decide) rfl (fun ls hl => ?_)
        refine lv_goto (tgt := 14) X.1 X.2.1 dX9_unlike_60 (by decide) ?_
        exact hr14 (s2, x2 + (-1), x4 + 10) h _ _ _ hV hF (lv_sub hl [2, 3, 1, 4, 0] rfl)
      · refine lv_iconst (v := 1) X.1 X.2.1 dX9_unlike_50 (by decide) ?_
        refine lv_goto (tgt := 55) X.1 X.2.1 dX9_unlike_51 (by decide) ?_
        refine lv_iadd X.1 X.2.1 dX9_unlike_55 ?_
        refine lv_istore_n (lv' := [(2, .int (x2 + 1)), (0, .ref x0), (1, .int x1), (3, .int x3), (4, .int x4)]) X.1 X.2.1 dX9_unlike_56 rfl hl (by decide) rfl (fun ls hl => ?_)
        refine lv_iinc (v := x4 + 10) (lv' := [(4, .int (x4 + 10)), (2, .int (x2 + 1)), (0, .ref x0), (1, .int x1), (3, .int x3)]) X.1 X.2.1 dX9_unlike_57 hl (k := 4) rfl rfl (by decide) rfl (fun ls hl => ?_)
        refine lv_goto (tgt := 14) X.1 X.2.1 dX9_unlike_60 (by decide) ?_
        exact hr14 (s2, x2 + 1, x4 + 10) h _ _ _ hV hF (lv_sub hl [2, 3, 1, 4, 0] rfl)
    · refine lv_iconst (v := 0) X.1 X.2.1 dX9_unlike_36 (by decide) ?_
      refine lv_goto (tgt := 55) X.1 X.2.1 dX9_unlike_37 (by decide) ?_
      refine lv_iadd X.1 X.2.1 dX9_unlike_55 ?_
      refine lv_istore_n (lv' := [(2, .int (x2 + 0)), (0, .ref x0), (1, .int x1), (3, .int x3), (4, .int x4)]) X.1 X.2.1 dX9_unlike_56 rfl hl (by decide) rfl (fun ls hl => ?_)
      refine lv_iinc (v := x4 + 10) (lv' := [(4, .int (x4 + 10)), (2, .int (x2 + 0)), (0, .ref x0), (1, .int x1), (3, .int x3)]) X.1 X.2.1 dX9_unlike_57 hl (k := 4) rfl rfl (by decide) rfl (fun ls hl => ?_)
      refine lv_goto (tgt := 14) X.1 X.2.1 dX9_unlike_60 (by decide) ?_
      exact hr14 (s1, x2 + 0, x4 + 10) h _ _ _ hV hF (lv_sub hl [2, 3, 1, 4, 0] rfl)
set_option maxHeartbeats 4000000 in
theorem w_X9_unlike_14 {p : Program} {l : Launch} {e : Env} {s : State} {m : MethodId} {args : Array Value} {below : List Frame} {meth : Method} {c : Code} {g : Gl} (X : FX g p m c s args meth cX9_unlike 5 RX9 (some .int) "unlike") {r : Int32 × Hp} {rec4 : Hp × Int32 × Int32 → Option (Int32 × Hp)} {x0 : Nat} {x1 : Int32} {x3 : Int32} (hr4 : ∀ (st : Hp × Int32 × Int32), rec4 st = some r → ∀ (H : Heap) (locs : List Loc) (ls : Array Slot), HV g st.1 H → FR g locs → lv_has ls 5 [(0, .ref x0), (1, .int x1), (2, .int st.2.1), (3, .int st.2.2)] → W p l e rm_X9_unlike s m args below meth c H locs 0 0 (MQ below (Qi g r) args s 0 0 (frN g)) (F0 m 4 ls [])) : ∀ (n : Nat) (st : Hp × Int32 × Int32), L_X9_unlike_14 rec4 x0 x1 x3 n st = some r → ∀ (H : Heap) (locs : List Loc) (ls : Array Slot), HV g st.1 H → FR g locs → lv_has ls 5 [(0, .ref x0), (1, .int x1), (2, .int st.2.1), (3, .int x3), (4, .int st.2.2)] → W p l e rm_X9_unlike s m args below meth c H locs 0 0 (MQ below (Qi g r) args s 0 0 (frN g)) (F0 m 14 ls []) := by
  intro n
  induction n with
  | zero =>
    intro st h
    rw [L_X9_unlike_14_0] at h
    cases h
  | succ n ih =>
    intro st h H locs ls hV hF hl
    rw [L_X9_unlike_14_s] at h
    exact w_X9_unlike_14_b X hr4 ih h hV hF hl
set_option maxHeartbeats 4000000 in
theorem w_X9_unlike_4_b {p : Program} {l : Launch} {e : Env} {s : State} {m : MethodId} {args : Array Value} {below : List Frame} {meth : Method} {c : Code} {g : Gl} (X : FX g p m c s args meth cX9_unlike 5 RX9 (some .int) "unlike") {r : Int32 × Hp} {rec4 : Hp × Int32 × Int32 → Option (Int32 × Hp)} {x0 : Nat} {x1 : Int32} {σ : Hp} {x2 : Int32} {x3 : Int32} (hr4 : ∀ (st : Hp × Int32 × Int32), rec4 st = some r → ∀ (H : Heap) (locs : List Loc) (ls : Array Slot), HV g st.1 H → FR g locs → lv_has ls 5 [(0, .ref x0), (1, .int x1), (2, .int st.2.1), (3, .int st.2.2)] → W p l e rm_X9_unlike s m args below meth c H locs 0 0 (MQ below (Qi g r) args s 0 0 (frN g)) (F0 m 4 ls [])) {H : Heap} {locs : List Loc} {ls : Array Slot} (h : B_X9_unlike_4 x0 x1 rec4 σ x2 x3 = some r) (hV : HV g σ H) (hF : FR g locs) (hl : lv_has ls 5 [(0, .ref x0), (1, .int x1), (2, .int x2), (3, .int x3)]) : W p l e rm_X9_unlike s m args below meth c H locs 0 0 (MQ below (Qi g r) args s 0 0 (frN g)) (F0 m 4 ls []) := by
  unfold B_X9_unlike_4 at h
  refine lv_iload_n X.1 X.2.1 dX9_unlike_4 rfl (lv_at hl 3 rfl) ?_
  refine lv_bipush (v := 9) X.1 X.2.1 dX9_unlike_5 (by decide) ?_
  refine r_gt (tgt := 69) X.1 X.2.1 dX9_unlike_7 (by decide) h (fun h => ?_) (fun h => ?_)
  · refine lv_iload_n X.1 X.2.1 dX9_unlike_69 rfl (lv_at hl 2 rfl) ?_
    refine va_mabs X.1 X.2.1 (X.2.2.1.trans hl.1.symm) X.2.2.2.1 (X.2.2.2.2.1 _ q960) (X.2.2.2.2.1 _ q961) (X.2.2.2.2.1 _ q61) (X.2.2.2.2.1 _ q962) (Nat.le_of_ble_eq_true rfl) (Nat.le_of_ble_eq_true rfl) (Nat.le_of_ble_eq_true rfl) (Nat.le_of_ble_eq_true rfl) dX9_unlike_70 ?_
    exact r_iret X hV hF h dX9_unlike_73
  · refine lv_bipush (v := 10) X.1 X.2.1 dX9_unlike_10 (by decide) ?_
    refine lv_istore (lv' := [(4, .int 10), (0, .ref x0), (1, .int x1), (2, .int x2), (3, .int x3)]) X.1 X.2.1 dX9_unlike_12 hl (by decide) rfl (fun ls hl => ?_)
    exact w_X9_unlike_14 X hr4 FU (σ, x2, 10) h _ _ _ hV hF (lv_sub hl [1, 2, 3, 4, 0] rfl)
set_option maxHeartbeats 4000000 in
theorem w_X9_unlike_4 {p : Program} {l : Launch} {e : Env} {s : State} {m : MethodId} {args : Array Value} {below : List Frame} {meth : Method} {c : Code} {g : Gl} (X : FX g p m c s args meth cX9_unlike 5 RX9 (some .int) "unlike") {r : Int32 × Hp} {x0 : Nat} {x1 : Int32}  : ∀ (n : Nat) (st : Hp × Int32 × Int32), L_X9_unlike_4 x0 x1 n st = some r → ∀ (H : Heap) (locs : List Loc) (ls : Array Slot), HV g st.1 H → FR g locs → lv_has ls 5 [(0, .ref x0), (1, .int x1), (2, .int st.2.1), (3, .int st.2.2)] → W p l e rm_X9_unlike s m args below meth c H locs 0 0 (MQ below (Qi g r) args s 0 0 (frN g)) (F0 m 4 ls []) := by
  intro n
  induction n with
  | zero =>
    intro st h
    rw [L_X9_unlike_4_0] at h
    cases h
  | succ n ih =>
    intro st h H locs ls hV hF hl
    rw [L_X9_unlike_4_s] at h
    exact w_X9_unlike_4_b X  ih h hV hF hl
set_option maxHeartbeats 4000000 in
theorem c_X9_unlike (l : Launch) {g : Gl} {σ : Hp} {x0 : Nat} {x1 : Int32} {r : Int32 × Hp} (h : F_X9_unlike σ x0 x1 = some r) : Met l yX9_unlike (ws_ yX9_unlike cX9_unlike 5 (some .int)) rm_X9_unlike (va_Pc [.ref x0, .int x1] (WV g σ)) (Qi g r) 0 0 (frN g) := by
  refine ct_of (by decide) (Nat.le_of_ble_eq_true rfl) ?_
  intro p e s m below meth c ls X hV hl
  have hF : FR g [] := FR_nil
  unfold F_X9_unlike at h
  have hl : lv_has ls 5 [(0, .ref x0), (1, .int x1)] := hl
  have X : FX g p m c s _ meth cX9_unlike 5 RX9 (some .int) "unlike" := X
  obtain ⟨-, h⟩ := gd_inv h
  refine lv_iconst (v := 0) X.1 X.2.1 dX9_unlike_0 (by decide) ?_
  refine lv_istore_n (lv' := [(2, .int 0), (0, .ref x0), (1, .int x1)]) X.1 X.2.1 dX9_unlike_1 rfl hl (by decide) rfl (fun ls hl => ?_)
  refine lv_iconst (v := 1) X.1 X.2.1 dX9_unlike_2 (by decide) ?_
  refine lv_istore_n (lv' := [(3, .int 1), (2, .int 0), (0, .ref x0), (1, .int x1)]) X.1 X.2.1 dX9_unlike_3 rfl hl (by decide) rfl (fun ls hl => ?_)
  exact w_X9_unlike_4 X  FU (σ, 0, 1) h _ _ _ hV hF (lv_sub hl [2, 3, 1, 0] rfl)
/-! PalaceOfRooms$Pupil.parts -/
theorem dX9_parts_0 : decode cX9_parts 0 = .ok (.iconst (-1), 1) := by decide +kernel
theorem dX9_parts_1 : decode cX9_parts 1 = .ok (.istore_n 1, 1) := by decide +kernel
theorem dX9_parts_2 : decode cX9_parts 2 = .ok (.iconst 1, 1) := by decide +kernel
theorem dX9_parts_3 : decode cX9_parts 3 = .ok (.istore_n 2, 1) := by decide +kernel
theorem dX9_parts_4 : decode cX9_parts 4 = .ok (.iload_n 2, 1) := by decide +kernel
theorem dX9_parts_5 : decode cX9_parts 5 = .ok (.bipush 60, 2) := by decide +kernel
theorem dX9_parts_7 : decode cX9_parts 7 = .ok (.if_icmp .gt 40, 3) := by decide +kernel
theorem dX9_parts_10 : decode cX9_parts 10 = .ok (.aload_n 0, 1) := by decide +kernel
theorem dX9_parts_11 : decode cX9_parts 11 = .ok (.invokevirtual 37, 3) := by decide +kernel
theorem dX9_parts_14 : decode cX9_parts 14 = .ok (.ifCond .le 33, 3) := by decide +kernel
theorem dX9_parts_17 : decode cX9_parts 17 = .ok (.iload_n 1, 1) := by decide +kernel
theorem dX9_parts_18 : decode cX9_parts 18 = .ok (.iconst (-1), 1) := by decide +kernel
theorem dX9_parts_19 : decode cX9_parts 19 = .ok (.if_icmp .eq 16, 3) := by decide +kernel
theorem dX9_parts_22 : decode cX9_parts 22 = .ok (.aload_n 0, 1) := by decide +kernel
theorem dX9_parts_23 : decode cX9_parts 23 = .ok (.iload_n 2, 1) := by decide +kernel
theorem dX9_parts_24 : decode cX9_parts 24 = .ok (.invokevirtual 41, 3) := by decide +kernel
theorem dX9_parts_27 : decode cX9_parts 27 = .ok (.aload_n 0, 1) := by decide +kernel
theorem dX9_parts_28 : decode cX9_parts 28 = .ok (.iload_n 1, 1) := by decide +kernel
theorem dX9_parts_29 : decode cX9_parts 29 = .ok (.invokevirtual 41, 3) := by decide +kernel
theorem dX9_parts_32 : decode cX9_parts 32 = .ok (.if_icmp .ge 7, 3) := by decide +kernel
theorem dX9_parts_35 : decode cX9_parts 35 = .ok (.iload_n 2, 1) := by decide +kernel
theorem dX9_parts_36 : decode cX9_parts 36 = .ok (.goto 4, 3) := by decide +kernel
theorem dX9_parts_39 : decode cX9_parts 39 = .ok (.iload_n 1, 1) := by decide +kernel
theorem dX9_parts_40 : decode cX9_parts 40 = .ok (.istore_n 1, 1) := by decide +kernel
theorem dX9_parts_41 : decode cX9_parts 41 = .ok (.iinc 2 1, 3) := by decide +kernel
theorem dX9_parts_44 : decode cX9_parts 44 = .ok (.goto (-40), 3) := by decide +kernel
theorem dX9_parts_47 : decode cX9_parts 47 = .ok (.iload_n 1, 1) := by decide +kernel
theorem dX9_parts_48 : decode cX9_parts 48 = .ok (.ireturn, 1) := by decide +kernel
theorem yd_X9_parts : yX9_parts.cls ≠ "java/lang/invoke/MethodHandle" ∧ yX9_parts.cls ≠ "java/lang/invoke/VarHandle" ∧ (parseMethodDescriptor yX9_parts.desc).map (fun d => d.parameters.length) = some 0 := by decide +kernel
abbrev rm_X9_parts : Room := { frames := 3, cells := 0, slots := 0, locals := 70 }
set_option maxHeartbeats 4000000 in
theorem w_X9_parts_4_b {p : Program} {l : Launch} {e : Env} {s : State} {m : MethodId} {args : Array Value} {below : List Frame} {meth : Method} {c : Code} {g : Gl} (X : FX g p m c s args meth cX9_parts 3 RX9 (some .int) "parts") {r : Int32 × Hp} {rec4 : Hp × Int32 × Int32 → Option (Int32 × Hp)} {x0 : Nat} {σ : Hp} {x1 : Int32} {x2 : Int32} (hr4 : ∀ (st : Hp × Int32 × Int32), rec4 st = some r → ∀ (H : Heap) (locs : List Loc) (ls : Array Slot), HV g st.1 H → FR g locs → lv_has ls 3 [(0, .ref x0), (1, .int st.2.1), (2, .int st.2.2)] → W p l e rm_X9_parts s m args below meth c H locs 0 0 (MQ below (Qi g r) args s 0 0 (frN g)) (F0 m 4 ls [])) {H : Heap} {locs : List Loc} {ls : Array Slot} (h : B_X9_parts_4 x0 rec4 σ x1 x2 = some r) (hV : HV g σ H) (hF : FR g locs) (hl : lv_has ls 3 [(0, .ref x0), (1, .int x1), (2, .int x2)]) : W p l e rm_X9_parts s m args below meth c H locs 0 0 (MQ below (Qi g r) args s 0 0 (frN g)) (F0 m 4 ls []) := by
  unfold B_X9_parts_4 at h
  refine lv_iload_n X.1 X.2.1 dX9_parts_4 rfl (lv_at hl 2 rfl) ?_
  refine lv_bipush (v := 60) X.1 X.2.1 dX9_parts_5 (by decide) ?_
  refine r_gt (tgt := 47) X.1 X.2.1 dX9_parts_7 (by decide) h (fun h => ?_) (fun h => ?_)
  · refine lv_iload_n X.1 X.2.1 dX9_parts_47 rfl (lv_at hl 1 rfl) ?_
    exact r_iret X hV hF h dX9_parts_48
  · refine lv_aload_n X.1 X.2.1 dX9_parts_10 rfl (lv_at hl 0 rfl) ?_
    obtain ⟨v1, s1, hc, h⟩ := b2_inv h
    refine r_ci (va_runV (C := RX9) (As := []) (rest := []) (cfX X) (c_X9_mayBe l hc) (cwV 0 X.2.2.2.2.1 (lw_V q955 q936 q937 q58 q938) rfl rfl rfl ⟨rfl, yd_X9_mayBe⟩ ⟨Nat.le_of_ble_eq_true rfl, Nat.le_of_ble_eq_true rfl⟩) (preV X hV (F_X9_mayBe_g hc) rfl) rfl rfl hl.1 rfl (lv_room (Nat.le_of_ble_eq_true rfl)) dX9_parts_11 ⟨(Nat.le_of_ble_eq_true rfl), (Nat.le_of_ble_eq_true rfl)⟩) hF (fun H locs hV hF => ?_)
    refine r_ifle (tgt := 47) X.1 X.2.1 dX9_parts_14 (by decide) h (fun h => ?_) (fun h => ?_)
    · refine lv_iload_n X.1 X.2.1 dX9_parts_47 rfl (lv_at hl 1 rfl) ?_
      exact r_iret X hV hF h dX9_parts_48
    · refine lv_iload_n X.1 X.2.1 dX9_parts_17 rfl (lv_at hl 1 rfl) ?_
      refine lv_iconst (v := (-1)) X.1 X.2.1 dX9_parts_18 (by decide) ?_
      refine r_eq (tgt := 35) X.1 X.2.1 dX9_parts_19 (by decide) h (fun h => ?_) (fun h => ?_)
      · refine lv_iload_n X.1 X.2.1 dX9_parts_35 rfl (lv_at hl 2 rfl) ?_
        refine lv_goto (tgt := 40) X.1 X.2.1 dX9_parts_36 (by decide) ?_
        refine lv_istore_n (lv' := [(1, .int x2), (0, .ref x0), (2, .int x2)]) X.1 X.2.1 dX9_parts_40 rfl hl (by decide) rfl (fun ls hl => ?_)
        refine lv_iinc (v := x2 + 1) (lv' := [(2, .int (x2 + 1)), (1, .int x2), (0, .ref x0)]) X.1 X.2.1 dX9_parts_41 hl (k := 2) rfl rfl (by decide) rfl (fun ls hl => ?_)
        refine lv_goto (tgt := 4) X.1 X.2.1 dX9_parts_44 (by decide) ?_
        exact hr4 (s1, x2, x2 + 1) h _ _ _ hV hF (lv_sub hl [2, 1, 0] rfl)
      · refine lv_aload_n X.1 X.2.1 dX9_parts_22 rfl (lv_at hl 0 rfl) ?_
        refine lv_iload_n X.1 X.2.1 dX9_parts_23 rfl (lv_at hl 2 rfl) ?_
        obtain ⟨v2, s2, hc, h⟩ := b2_inv h
        refine r_ci (va_runV (C := RX9) (As := [.int x2]) (rest := []) (cfX X) (c_X9_unlike l hc) (cwV 1 X.2.2.2.2.1 (lw_V q956 q958 qs21 q58 q959) rfl rfl rfl ⟨rfl, yd_X9_unlike⟩ ⟨Nat.le_of_ble_eq_true rfl, Nat.le_of_ble_eq_true rfl⟩) (preV X hV (F_X9_unlike_g hc) rfl) rfl rfl hl.1 rfl (lv_room (Nat.le_of_ble_eq_true rfl)) dX9_parts_24 ⟨(Nat.le_of_ble_eq_true rfl), (Nat.le_of_ble_eq_true rfl)⟩) hF (fun H locs hV hF => ?_)
        refine lv_aload_n X.1 X.2.1 dX9_parts_27 rfl (lv_at hl 0 rfl) ?_
        refine lv_iload_n X.1 X.2.1 dX9_parts_28 rfl (lv_at hl 1 rfl) ?_
        obtain ⟨v3, s3, hc, h⟩ := b2_inv h
        refine r_ci (va_runV (C := RX9) (As := [.int x1]) (rest := [.int v2]) (cfX X) (c_X9_unlike l hc) (cwV 1 X.2.2.2.2.1 (lw_V q956 q958 qs21 q58 q959) rfl rfl rfl ⟨rfl, yd_X9_unlike⟩ ⟨Nat.le_of_ble_eq_true rfl, Nat.le_of_ble_eq_true rfl⟩) (preV X hV (F_X9_unlike_g hc) rfl) rfl rfl hl.1 rfl (lv_room (Nat.le_of_ble_eq_true rfl)) dX9_parts_29 ⟨(Nat.le_of_ble_eq_true rfl), (Nat.le_of_ble_eq_true rfl)⟩) hF (fun H locs hV hF => ?_)
        refine r_ge (tgt := 39) X.1 X.2.1 dX9_parts_32 (by decide) h (fun h => ?_) (fun h => ?_)
        · refine lv_iload_n X.1 X.2.1 dX9_parts_39 rfl (lv_at hl 1 rfl) ?_
          refine lv_istore_n (lv' := [(1, .int x1), (0, .ref x0), (2, .int x2)]) X.1 X.2.1 dX9_parts_40 rfl hl (by decide) rfl (fun ls hl => ?_)
          refine lv_iinc (v := x2 + 1) (lv' := [(2, .int (x2 + 1)), (1, .int x1), (0, .ref x0)]) X.1 X.2.1 dX9_parts_41 hl (k := 2) rfl rfl (by decide) rfl (fun ls hl => ?_)
          refine lv_goto (tgt := 4) X.1 X.2.1 dX9_parts_44 (by decide) ?_
          exact hr4 (s3, x1, x2 + 1) h _ _ _ hV hF (lv_sub hl [2, 1, 0] rfl)
        · refine lv_iload_n X.1 X.2.1 dX9_parts_35 rfl (lv_at hl 2 rfl) ?_
          refine lv_goto (tgt := 40) X.1 X.2.1 dX9_parts_36 (by decide) ?_
          refine lv_istore_n (lv' := [(1, .int x2), (0, .ref x0), (2, .int x2)]) X.1 X.2.1 dX9_parts_40 rfl hl (by decide) rfl (fun ls hl => ?_)
          refine lv_iinc (v := x2 + 1) (lv' := [(2, .int (x2 + 1)), (1, .int x2), (0, .ref x0)]) X.1 X.2.1 dX9_parts_41 hl (k := 2) rfl rfl (by decide) rfl (fun ls hl => ?_)
          refine lv_goto (tgt := 4) X.1 X.2.1 dX9_parts_44 (by decide) ?_
          exact hr4 (s3, x2, x2 + 1) h _ _ _ hV hF (lv_sub hl [2, 1, 0] rfl)
set_option maxHeartbeats 4000000 in
theorem w_X9_parts_4 {p : Program} {l : Launch} {e : Env} {s : State} {m : MethodId} {args : Array Value} {below : List Frame} {meth : Method} {c : Code} {g : Gl} (X : FX g p m c s args meth cX9_parts 3 RX9 (some .int) "parts") {r : Int32 × Hp} {x0 : Nat}  : ∀ (n : Nat) (st : Hp × Int32 × Int32), L_X9_parts_4 x0 n st = some r → ∀ (H : Heap) (locs : List Loc) (ls : Array Slot), HV g st.1 H → FR g locs → lv_has ls 3 [(0, .ref x0), (1, .int st.2.1), (2, .int st.2.2)] → W p l e rm_X9_parts s m args below meth c H locs 0 0 (MQ below (Qi g r) args s 0 0 (frN g)) (F0 m 4 ls []) := by
  intro n
  induction n with
  | zero =>
    intro st h
    rw [L_X9_parts_4_0] at h
    cases h
  | succ n ih =>
    intro st h H locs ls hV hF hl
    rw [L_X9_parts_4_s] at h
    exact w_X9_parts_4_b X  ih h hV hF hl
set_option maxHeartbeats 4000000 in
theorem c_X9_parts (l : Launch) {g : Gl} {σ : Hp} {x0 : Nat} {r : Int32 × Hp} (h : F_X9_parts σ x0 = some r) : Met l yX9_parts (ws_ yX9_parts cX9_parts 3 (some .int)) rm_X9_parts (va_Pc [.ref x0] (WV g σ)) (Qi g r) 0 0 (frN g) := by
  refine ct_of (by decide) (Nat.le_of_ble_eq_true rfl) ?_
  intro p e s m below meth c ls X hV hl
  have hF : FR g [] := FR_nil
  unfold F_X9_parts at h
  have hl : lv_has ls 3 [(0, .ref x0)] := hl
  have X : FX g p m c s _ meth cX9_parts 3 RX9 (some .int) "parts" := X
  obtain ⟨-, h⟩ := gd_inv h
  refine lv_iconst (v := (-1)) X.1 X.2.1 dX9_parts_0 (by decide) ?_
  refine lv_istore_n (lv' := [(1, .int (-1)), (0, .ref x0)]) X.1 X.2.1 dX9_parts_1 rfl hl (by decide) rfl (fun ls hl => ?_)
  refine lv_iconst (v := 1) X.1 X.2.1 dX9_parts_2 (by decide) ?_
  refine lv_istore_n (lv' := [(2, .int 1), (1, .int (-1)), (0, .ref x0)]) X.1 X.2.1 dX9_parts_3 rfl hl (by decide) rfl (fun ls hl => ?_)
  exact w_X9_parts_4 X  FU (σ, (-1), 1) h _ _ _ hV hF (lv_sub hl [2, 1, 0] rfl)
