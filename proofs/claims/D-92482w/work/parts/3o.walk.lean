set_option maxRecDepth 100000
/-! PalaceOfRooms.corner -/
theorem dX0_corner_0 : decode cX0_corner 0 = .ok (.iload_n 1, 1) := by decide +kernel
theorem dX0_corner_1 : decode cX0_corner 1 = .ok (.invokestatic 147, 3) := by decide +kernel
theorem dX0_corner_4 : decode cX0_corner 4 = .ok (.ifCond .ne 6, 3) := by decide +kernel
theorem dX0_corner_7 : decode cX0_corner 7 = .ok (.bipush (-2), 2) := by decide +kernel
theorem dX0_corner_9 : decode cX0_corner 9 = .ok (.ireturn, 1) := by decide +kernel
theorem dX0_corner_10 : decode cX0_corner 10 = .ok (.aload_n 0, 1) := by decide +kernel
theorem dX0_corner_11 : decode cX0_corner 11 = .ok (.getfield 43, 3) := by decide +kernel
theorem dX0_corner_14 : decode cX0_corner 14 = .ok (.getfield 138, 3) := by decide +kernel
theorem dX0_corner_17 : decode cX0_corner 17 = .ok (.iload_n 1, 1) := by decide +kernel
theorem dX0_corner_18 : decode cX0_corner 18 = .ok (.aaload, 1) := by decide +kernel
theorem dX0_corner_19 : decode cX0_corner 19 = .ok (.astore_n 3, 1) := by decide +kernel
theorem dX0_corner_20 : decode cX0_corner 20 = .ok (.iload_n 2, 1) := by decide +kernel
theorem dX0_corner_21 : decode cX0_corner 21 = .ok (.tableswitch 105 0 4 #[35, 40, 56, 78, 100], 35) := by decide +kernel
theorem dX0_corner_56 : decode cX0_corner 56 = .ok (.aload_n 3, 1) := by decide +kernel
theorem dX0_corner_57 : decode cX0_corner 57 = .ok (.getfield 142, 3) := by decide +kernel
theorem dX0_corner_60 : decode cX0_corner 60 = .ok (.ireturn, 1) := by decide +kernel
theorem dX0_corner_61 : decode cX0_corner 61 = .ok (.aload_n 3, 1) := by decide +kernel
theorem dX0_corner_62 : decode cX0_corner 62 = .ok (.invokevirtual 159, 3) := by decide +kernel
theorem dX0_corner_65 : decode cX0_corner 65 = .ok (.ifCond .eq 10, 3) := by decide +kernel
theorem dX0_corner_68 : decode cX0_corner 68 = .ok (.aload_n 3, 1) := by decide +kernel
theorem dX0_corner_69 : decode cX0_corner 69 = .ok (.getfield 174, 3) := by decide +kernel
theorem dX0_corner_72 : decode cX0_corner 72 = .ok (.goto 4, 3) := by decide +kernel
theorem dX0_corner_75 : decode cX0_corner 75 = .ok (.iconst (-1), 1) := by decide +kernel
theorem dX0_corner_76 : decode cX0_corner 76 = .ok (.ireturn, 1) := by decide +kernel
theorem dX0_corner_77 : decode cX0_corner 77 = .ok (.aload_n 3, 1) := by decide +kernel
theorem dX0_corner_78 : decode cX0_corner 78 = .ok (.getfield 167, 3) := by decide +kernel
theorem dX0_corner_81 : decode cX0_corner 81 = .ok (.invokevirtual 177, 3) := by decide +kernel
theorem dX0_corner_84 : decode cX0_corner 84 = .ok (.ifCond .eq 13, 3) := by decide +kernel
theorem dX0_corner_87 : decode cX0_corner 87 = .ok (.aload_n 3, 1) := by decide +kernel
theorem dX0_corner_88 : decode cX0_corner 88 = .ok (.getfield 167, 3) := by decide +kernel
theorem dX0_corner_91 : decode cX0_corner 91 = .ok (.getfield 178, 3) := by decide +kernel
theorem dX0_corner_94 : decode cX0_corner 94 = .ok (.goto 4, 3) := by decide +kernel
theorem dX0_corner_97 : decode cX0_corner 97 = .ok (.iconst (-1), 1) := by decide +kernel
theorem dX0_corner_98 : decode cX0_corner 98 = .ok (.ireturn, 1) := by decide +kernel
theorem dX0_corner_99 : decode cX0_corner 99 = .ok (.aload_n 3, 1) := by decide +kernel
theorem dX0_corner_100 : decode cX0_corner 100 = .ok (.getfield 167, 3) := by decide +kernel
theorem dX0_corner_103 : decode cX0_corner 103 = .ok (.invokevirtual 177, 3) := by decide +kernel
theorem dX0_corner_106 : decode cX0_corner 106 = .ok (.ifCond .eq 13, 3) := by decide +kernel
theorem dX0_corner_109 : decode cX0_corner 109 = .ok (.aload_n 3, 1) := by decide +kernel
theorem dX0_corner_110 : decode cX0_corner 110 = .ok (.getfield 167, 3) := by decide +kernel
theorem dX0_corner_113 : decode cX0_corner 113 = .ok (.getfield 179, 3) := by decide +kernel
theorem dX0_corner_116 : decode cX0_corner 116 = .ok (.goto 4, 3) := by decide +kernel
theorem dX0_corner_119 : decode cX0_corner 119 = .ok (.iconst (-1), 1) := by decide +kernel
theorem dX0_corner_120 : decode cX0_corner 120 = .ok (.ireturn, 1) := by decide +kernel
theorem dX0_corner_121 : decode cX0_corner 121 = .ok (.aload_n 3, 1) := by decide +kernel
theorem dX0_corner_122 : decode cX0_corner 122 = .ok (.getfield 180, 3) := by decide +kernel
theorem dX0_corner_125 : decode cX0_corner 125 = .ok (.ireturn, 1) := by decide +kernel
theorem dX0_corner_126 : decode cX0_corner 126 = .ok (.bipush (-3), 2) := by decide +kernel
theorem dX0_corner_128 : decode cX0_corner 128 = .ok (.ireturn, 1) := by decide +kernel
theorem yd_X0_corner : yX0_corner.cls ≠ "java/lang/invoke/MethodHandle" ∧ yX0_corner.cls ≠ "java/lang/invoke/VarHandle" ∧ (parseMethodDescriptor yX0_corner.desc).map (fun d => d.parameters.length) = some 2 := by decide +kernel
theorem fl_X0_174_3 : FLk RX0 174 3 1 "I" := ⟨RX3, TX3, 4, "PalaceOfRooms$Corner", rfl, by decide, (fun q => by have h1 := q.1; have h2 := q.2; omega), rfl, in_X3, Or.inl q123, Or.inr q119⟩
theorem fl_X0_178_4 : FLk RX0 178 4 0 "I" := ⟨RX4, TX4, 2, "PalaceOfRooms$Ghost", rfl, by decide, (fun q => by have h1 := q.1; have h2 := q.2; omega), rfl, in_X4, Or.inl q114, Or.inr q115⟩
theorem fl_X0_179_4 : FLk RX0 179 4 1 "I" := ⟨RX4, TX4, 2, "PalaceOfRooms$Ghost", rfl, by decide, (fun q => by have h1 := q.1; have h2 := q.2; omega), rfl, in_X4, Or.inl q124, Or.inr q117⟩
theorem fl_X0_180_3 : FLk RX0 180 3 3 "I" := ⟨RX3, TX3, 4, "PalaceOfRooms$Corner", rfl, by decide, (fun q => by have h1 := q.1; have h2 := q.2; omega), rfl, in_X3, Or.inr (List.mem_of_getElem? (i := 2) rfl), Or.inl rfl⟩
abbrev rm_X0_corner : Room := { frames := 2, cells := 0, slots := 0, locals := 45 }
set_option maxHeartbeats 4000000 in
theorem c_X0_corner (l : Launch) {g : Gl} {σ : Hp} {x0 : Nat} {x1 : Int32} {x2 : Int32} {r : Int32 × Hp} (h : F_X0_corner σ x0 x1 x2 = some r) : Met l yX0_corner (ws_ yX0_corner cX0_corner 4 (some .int)) rm_X0_corner (va_Pc [.ref x0, .int x1, .int x2] (WV g σ)) (Qi g r) 0 0 (frN g) := by
  refine ct_of (by decide) (Nat.le_of_ble_eq_true rfl) ?_
  intro p e s m below meth c ls X hV hl
  have hF : FR g [] := FR_nil
  unfold F_X0_corner at h
  have hl : lv_has ls 4 [(0, .ref x0), (1, .int x1), (2, .int x2)] := hl
  have X : FX g p m c s _ meth cX0_corner 4 RX0 (some .int) "corner" := X
  obtain ⟨-, h⟩ := gd_inv h
  refine lv_iload_n X.1 X.2.1 dX0_corner_0 rfl (lv_at hl 1 rfl) ?_
  obtain ⟨v1, s1, hc, h⟩ := b2_inv h
  refine r_ci (va_runS (As := [.int x1]) (rest := []) (cfX X) (c_X0_isCorner l hc) (va_cwS 1 X.2.2.2.2.1 (lw_S q381 q382 q49 q383) rfl rfl rfl yd_X0_isCorner ⟨Nat.le_of_ble_eq_true rfl, Nat.le_of_ble_eq_true rfl⟩) (preS X hV) rfl rfl hl.1 rfl (lv_room (Nat.le_of_ble_eq_true rfl)) dX0_corner_1 ⟨(Nat.le_of_ble_eq_true rfl), (Nat.le_of_ble_eq_true rfl)⟩) hF (fun H locs hV hF => ?_)
  refine r_ifne (tgt := 10) X.1 X.2.1 dX0_corner_4 (by decide) h (fun h => ?_) (fun h => ?_)
  · refine lv_aload_n X.1 X.2.1 dX0_corner_10 rfl (lv_at hl 0 rfl) ?_
    refine r_gR X hV fl_X0_43_0 (by decide) dX0_corner_11 h (fun v2 h => ?_)
    refine r_gR X hV fl_X0_138_1 (by decide) dX0_corner_14 h (fun v3 h => ?_)
    refine lv_iload_n X.1 X.2.1 dX0_corner_17 rfl (lv_at hl 1 rfl) ?_
    refine r_aa X hV dX0_corner_18 (by decide) h (fun v4 h => ?_)
    refine lv_astore_n (lv' := [(3, .ref v4), (0, .ref x0), (1, .int x1), (2, .int x2)]) X.1 X.2.1 dX0_corner_19 rfl hl (by decide) rfl (fun ls hl => ?_)
    refine lv_iload_n X.1 X.2.1 dX0_corner_20 rfl (lv_at hl 3 rfl) ?_
    refine r_case (tgt := 56) (off := 35) 0 X.1 X.2.1 dX0_corner_21 (by decide) (by decide) rfl (by decide) h (fun h => ?_) (fun n0 h => ?_)
    · refine lv_aload_n X.1 X.2.1 dX0_corner_56 rfl (lv_at hl 0 rfl) ?_
      refine r_gI X hV fl_X0_142_3 dX0_corner_57 h (fun v5 h => ?_)
      exact r_iret X hV hF h dX0_corner_60
    refine r_case (tgt := 61) (off := 40) 1 X.1 X.2.1 dX0_corner_21 (by decide) (by decide) rfl (by decide) h (fun h => ?_) (fun n1 h => ?_)
    · refine lv_aload_n X.1 X.2.1 dX0_corner_61 rfl (lv_at hl 0 rfl) ?_
      obtain ⟨v6, s2, hc, h⟩ := b2_inv h
      refine r_ci (va_runU (C := RX3) (x := ⟨"PalaceOfRooms$Corner", "isThere", "()Z"⟩) (As := []) (rest := []) (cfX X) (c_X2_isThere_3 l hc) (va_cwU (owner := RX2) 0 X.2.2.2.2.1 (lw_app (lw_in _ [406, 407, 409, 410, 51] (by decide +kernel) (by decide +kernel)) (lw_meth q411)) rfl rfl rfl rfl yd_X2_isThere ⟨Nat.le_of_ble_eq_true rfl, Nat.le_of_ble_eq_true rfl⟩) (preV X hV (F_X2_isThere_3_g hc) rfl) rfl rfl hl.1 rfl (lv_room (Nat.le_of_ble_eq_true rfl)) dX0_corner_62 ⟨(Nat.le_of_ble_eq_true rfl), (Nat.le_of_ble_eq_true rfl)⟩) hF (fun H locs hV hF => ?_)
      refine r_ifeq (tgt := 75) X.1 X.2.1 dX0_corner_65 (by decide) h (fun h => ?_) (fun h => ?_)
      · refine lv_iconst (v := (-1)) X.1 X.2.1 dX0_corner_75 (by decide) ?_
        exact r_iret X hV hF h dX0_corner_76
      · refine lv_aload_n X.1 X.2.1 dX0_corner_68 rfl (lv_at hl 0 rfl) ?_
        refine r_gI X hV fl_X0_174_3 dX0_corner_69 h (fun v7 h => ?_)
        refine lv_goto (tgt := 76) X.1 X.2.1 dX0_corner_72 (by decide) ?_
        exact r_iret X hV hF h dX0_corner_76
    refine r_case (tgt := 77) (off := 56) 2 X.1 X.2.1 dX0_corner_21 (by decide) (by decide) rfl (by decide) h (fun h => ?_) (fun n2 h => ?_)
    · refine lv_aload_n X.1 X.2.1 dX0_corner_77 rfl (lv_at hl 0 rfl) ?_
      refine r_gR X hV fl_X0_167_3 (by decide) dX0_corner_78 h (fun v8 h => ?_)
      obtain ⟨v9, s3, hc, h⟩ := b2_inv h
      refine r_ci (va_runV (C := RX4) (As := []) (rest := []) (cfX X) (c_X4_isThere l hc) (cwV 0 X.2.2.2.2.1 (lw_V q418 q419 q420 q53 q421) rfl rfl rfl ⟨rfl, yd_X4_isThere⟩ ⟨Nat.le_of_ble_eq_true rfl, Nat.le_of_ble_eq_true rfl⟩) (preV X hV (F_X4_isThere_g hc) rfl) rfl rfl hl.1 rfl (lv_room (Nat.le_of_ble_eq_true rfl)) dX0_corner_81 ⟨(Nat.le_of_ble_eq_true rfl), (Nat.le_of_ble_eq_true rfl)⟩) hF (fun H locs hV hF => ?_)
      refine r_ifeq (tgt := 97) X.1 X.2.1 dX0_corner_84 (by decide) h (fun h => ?_) (fun h => ?_)
      · refine lv_iconst (v := (-1)) X.1 X.2.1 dX0_corner_97 (by decide) ?_
        exact r_iret X hV hF h dX0_corner_98
      · refine lv_aload_n X.1 X.2.1 dX0_corner_87 rfl (lv_at hl 0 rfl) ?_
        refine r_gR X hV fl_X0_167_3 (by decide) dX0_corner_88 h (fun v10 h => ?_)
        refine r_gI X hV fl_X0_178_4 dX0_corner_91 h (fun v11 h => ?_)
        refine lv_goto (tgt := 98) X.1 X.2.1 dX0_corner_94 (by decide) ?_
        exact r_iret X hV hF h dX0_corner_98
    refine r_case (tgt := 99) (off := 78) 3 X.1 X.2.1 dX0_corner_21 (by decide) (by decide) rfl (by decide) h (fun h => ?_) (fun n3 h => ?_)
    · refine lv_aload_n X.1 X.2.1 dX0_corner_99 rfl (lv_at hl 0 rfl) ?_
      refine r_gR X hV fl_X0_167_3 (by decide) dX0_corner_100 h (fun v12 h => ?_)
      obtain ⟨v13, s4, hc, h⟩ := b2_inv h
      refine r_ci (va_runV (C := RX4) (As := []) (rest := []) (cfX X) (c_X4_isThere l hc) (cwV 0 X.2.2.2.2.1 (lw_V q418 q419 q420 q53 q421) rfl rfl rfl ⟨rfl, yd_X4_isThere⟩ ⟨Nat.le_of_ble_eq_true rfl, Nat.le_of_ble_eq_true rfl⟩) (preV X hV (F_X4_isThere_g hc) rfl) rfl rfl hl.1 rfl (lv_room (Nat.le_of_ble_eq_true rfl)) dX0_corner_103 ⟨(Nat.le_of_ble_eq_true rfl), (Nat.le_of_ble_eq_true rfl)⟩) hF (fun H locs hV hF => ?_)
      refine r_ifeq (tgt := 119) X.1 X.2.1 dX0_corner_106 (by decide) h (fun h => ?_) (fun h => ?_)
      · refine lv_iconst (v := (-1)) X.1 X.2.1 dX0_corner_119 (by decide) ?_
        exact r_iret X hV hF h dX0_corner_120
      · refine lv_aload_n X.1 X.2.1 dX0_corner_109 rfl (lv_at hl 0 rfl) ?_
        refine r_gR X hV fl_X0_167_3 (by decide) dX0_corner_110 h (fun v14 h => ?_)
        refine r_gI X hV fl_X0_179_4 dX0_corner_113 h (fun v15 h => ?_)
        refine lv_goto (tgt := 120) X.1 X.2.1 dX0_corner_116 (by decide) ?_
        exact r_iret X hV hF h dX0_corner_120
    refine r_case (tgt := 121) (off := 100) 4 X.1 X.2.1 dX0_corner_21 (by decide) (by decide) rfl (by decide) h (fun h => ?_) (fun n4 h => ?_)
    · refine lv_aload_n X.1 X.2.1 dX0_corner_121 rfl (lv_at hl 0 rfl) ?_
      refine r_gI X hV fl_X0_180_3 dX0_corner_122 h (fun v16 h => ?_)
      exact r_iret X hV hF h dX0_corner_125
    refine lv_tableOut (tgt := 126) X.1 X.2.1 dX0_corner_21 (tsw_out (n := 5) (by decide) (fun i hi => by
      match i, hi with
      | 0, _ => exact n0
      | 1, _ => exact n1
      | 2, _ => exact n2
      | 3, _ => exact n3
      | 4, _ => exact n4)) (by decide) ?_
    refine lv_bipush (v := (-3)) X.1 X.2.1 dX0_corner_126 (by decide) ?_
    exact r_iret X hV hF h dX0_corner_128
  · refine lv_bipush (v := (-2)) X.1 X.2.1 dX0_corner_7 (by decide) ?_
    exact r_iret X hV hF h dX0_corner_9
/-! PalaceOfRooms.where -/
theorem dX0_where_0 : decode cX0_where 0 = .ok (.iload_n 1, 1) := by decide +kernel
theorem dX0_where_1 : decode cX0_where 1 = .ok (.invokestatic 116, 3) := by decide +kernel
theorem dX0_where_4 : decode cX0_where 4 = .ok (.ifCond .eq 11, 3) := by decide +kernel
theorem dX0_where_7 : decode cX0_where 7 = .ok (.aload_n 0, 1) := by decide +kernel
theorem dX0_where_8 : decode cX0_where 8 = .ok (.iload_n 1, 1) := by decide +kernel
theorem dX0_where_9 : decode cX0_where 9 = .ok (.invokevirtual 150, 3) := by decide +kernel
theorem dX0_where_12 : decode cX0_where 12 = .ok (.goto 5, 3) := by decide +kernel
theorem dX0_where_15 : decode cX0_where 15 = .ok (.bipush (-2), 2) := by decide +kernel
theorem dX0_where_17 : decode cX0_where 17 = .ok (.ireturn, 1) := by decide +kernel
theorem yd_X0_where : yX0_where.cls ≠ "java/lang/invoke/MethodHandle" ∧ yX0_where.cls ≠ "java/lang/invoke/VarHandle" ∧ (parseMethodDescriptor yX0_where.desc).map (fun d => d.parameters.length) = some 1 := by decide +kernel
abbrev rm_X0_where : Room := { frames := 2, cells := 0, slots := 0, locals := 45 }
set_option maxHeartbeats 4000000 in
theorem c_X0_where (l : Launch) {g : Gl} {σ : Hp} {x0 : Nat} {x1 : Int32} {r : Int32 × Hp} (h : F_X0_where σ x0 x1 = some r) : Met l yX0_where (ws_ yX0_where cX0_where 2 (some .int)) rm_X0_where (va_Pc [.ref x0, .int x1] (WV g σ)) (Qi g r) 0 0 (frN g) := by
  refine ct_of (by decide) (Nat.le_of_ble_eq_true rfl) ?_
  intro p e s m below meth c ls X hV hl
  have hF : FR g [] := FR_nil
  unfold F_X0_where at h
  have hl : lv_has ls 2 [(0, .ref x0), (1, .int x1)] := hl
  have X : FX g p m c s _ meth cX0_where 2 RX0 (some .int) "where" := X
  obtain ⟨-, h⟩ := gd_inv h
  refine lv_iload_n X.1 X.2.1 dX0_where_0 rfl (lv_at hl 1 rfl) ?_
  obtain ⟨v1, s1, hc, h⟩ := b2_inv h
  refine r_ci (va_runS (As := [.int x1]) (rest := []) (cfX X) (c_X0_isThing l hc) (va_cwS 1 X.2.2.2.2.1 (lw_S q346 q347 q49 q348) rfl rfl rfl yd_X0_isThing ⟨Nat.le_of_ble_eq_true rfl, Nat.le_of_ble_eq_true rfl⟩) (preS X hV) rfl rfl hl.1 rfl (lv_room (Nat.le_of_ble_eq_true rfl)) dX0_where_1 ⟨(Nat.le_of_ble_eq_true rfl), (Nat.le_of_ble_eq_true rfl)⟩) hF (fun H locs hV hF => ?_)
  refine r_ifeq (tgt := 15) X.1 X.2.1 dX0_where_4 (by decide) h (fun h => ?_) (fun h => ?_)
  · refine lv_bipush (v := (-2)) X.1 X.2.1 dX0_where_15 (by decide) ?_
    exact r_iret X hV hF h dX0_where_17
  · refine lv_aload_n X.1 X.2.1 dX0_where_7 rfl (lv_at hl 0 rfl) ?_
    refine lv_iload_n X.1 X.2.1 dX0_where_8 rfl (lv_at hl 1 rfl) ?_
    obtain ⟨v2, s2, hc, h⟩ := b2_inv h
    refine r_ci (va_runV (C := RX0) (As := [.int x1]) (rest := []) (cfX X) (c_X0_whereIs l hc) (cwV 1 X.2.2.2.2.1 (lw_V q385 q387 qs2 q49 q388) rfl rfl rfl ⟨rfl, yd_X0_whereIs⟩ ⟨Nat.le_of_ble_eq_true rfl, Nat.le_of_ble_eq_true rfl⟩) (preV X hV (F_X0_whereIs_g hc) rfl) rfl rfl hl.1 rfl (lv_room (Nat.le_of_ble_eq_true rfl)) dX0_where_9 ⟨(Nat.le_of_ble_eq_true rfl), (Nat.le_of_ble_eq_true rfl)⟩) hF (fun H locs hV hF => ?_)
    refine lv_goto (tgt := 17) X.1 X.2.1 dX0_where_12 (by decide) ?_
    exact r_iret X hV hF h dX0_where_17
/-! PalaceOfRooms.isLike -/
theorem dX0_isLike_0 : decode cX0_isLike 0 = .ok (.aload_n 0, 1) := by decide +kernel
theorem dX0_isLike_1 : decode cX0_isLike 1 = .ok (.iload_n 1, 1) := by decide +kernel
theorem dX0_isLike_2 : decode cX0_isLike 2 = .ok (.iload_n 2, 1) := by decide +kernel
theorem dX0_isLike_3 : decode cX0_isLike 3 = .ok (.invokevirtual 127, 3) := by decide +kernel
theorem dX0_isLike_6 : decode cX0_isLike 6 = .ok (.aload_n 0, 1) := by decide +kernel
theorem dX0_isLike_7 : decode cX0_isLike 7 = .ok (.getfield 28, 3) := by decide +kernel
theorem dX0_isLike_10 : decode cX0_isLike 10 = .ok (.if_icmp .lt 7, 3) := by decide +kernel
theorem dX0_isLike_13 : decode cX0_isLike 13 = .ok (.iconst 1, 1) := by decide +kernel
theorem dX0_isLike_14 : decode cX0_isLike 14 = .ok (.goto 4, 3) := by decide +kernel
theorem dX0_isLike_17 : decode cX0_isLike 17 = .ok (.iconst 0, 1) := by decide +kernel
theorem dX0_isLike_18 : decode cX0_isLike 18 = .ok (.ireturn, 1) := by decide +kernel
theorem yd_X0_isLike : yX0_isLike.cls ≠ "java/lang/invoke/MethodHandle" ∧ yX0_isLike.cls ≠ "java/lang/invoke/VarHandle" ∧ (parseMethodDescriptor yX0_isLike.desc).map (fun d => d.parameters.length) = some 2 := by decide +kernel
abbrev rm_X0_isLike : Room := { frames := 2, cells := 0, slots := 0, locals := 42 }
set_option maxHeartbeats 4000000 in
theorem c_X0_isLike (l : Launch) {g : Gl} {σ : Hp} {x0 : Nat} {x1 : Int32} {x2 : Int32} {r : Int32 × Hp} (h : F_X0_isLike σ x0 x1 x2 = some r) : Met l yX0_isLike (ws_ yX0_isLike cX0_isLike 3 (some .boolean)) rm_X0_isLike (va_Pc [.ref x0, .int x1, .int x2] (WV g σ)) (Qi g r) 0 0 (frN g) := by
  refine ct_of (by decide) (Nat.le_of_ble_eq_true rfl) ?_
  intro p e s m below meth c ls X hV hl
  have hF : FR g [] := FR_nil
  unfold F_X0_isLike at h
  have hl : lv_has ls 3 [(0, .ref x0), (1, .int x1), (2, .int x2)] := hl
  have X : FX g p m c s _ meth cX0_isLike 3 RX0 (some .boolean) "isLike" := X
  obtain ⟨-, h⟩ := gd_inv h
  refine lv_aload_n X.1 X.2.1 dX0_isLike_0 rfl (lv_at hl 0 rfl) ?_
  refine lv_iload_n X.1 X.2.1 dX0_isLike_1 rfl (lv_at hl 1 rfl) ?_
  refine lv_iload_n X.1 X.2.1 dX0_isLike_2 rfl (lv_at hl 2 rfl) ?_
  obtain ⟨v1, s1, hc, h⟩ := b2_inv h
  refine r_ci (va_runV (C := RX0) (As := [.int x1, .int x2]) (rest := []) (cfX X) (c_X0_likeness l hc) (cwV 2 X.2.2.2.2.1 (lw_V q355 q357 qs1 q49 q358) rfl rfl rfl ⟨rfl, yd_X0_likeness⟩ ⟨Nat.le_of_ble_eq_true rfl, Nat.le_of_ble_eq_true rfl⟩) (preV X hV (F_X0_likeness_g hc) rfl) rfl rfl hl.1 rfl (lv_room (Nat.le_of_ble_eq_true rfl)) dX0_isLike_3 ⟨(Nat.le_of_ble_eq_true rfl), (Nat.le_of_ble_eq_true rfl)⟩) hF (fun H locs hV hF => ?_)
  refine lv_aload_n X.1 X.2.1 dX0_isLike_6 rfl (lv_at hl 0 rfl) ?_
  refine r_gI X hV fl_X0_28_0 dX0_isLike_7 h (fun v2 h => ?_)
  refine r_lt (tgt := 17) X.1 X.2.1 dX0_isLike_10 (by decide) h (fun h => ?_) (fun h => ?_)
  · refine lv_iconst (v := 0) X.1 X.2.1 dX0_isLike_17 (by decide) ?_
    exact r_zret X hV hF h rfl dX0_isLike_18
  · refine lv_iconst (v := 1) X.1 X.2.1 dX0_isLike_13 (by decide) ?_
    refine lv_goto (tgt := 18) X.1 X.2.1 dX0_isLike_14 (by decide) ?_
    exact r_zret X hV hF h rfl dX0_isLike_18
/-! PalaceOfRooms$House.likes -/
theorem dX1_likes_0 : decode cX1_likes 0 = .ok (.iconst 0, 1) := by decide +kernel
theorem dX1_likes_1 : decode cX1_likes 1 = .ok (.istore_n 2, 1) := by decide +kernel
theorem dX1_likes_2 : decode cX1_likes 2 = .ok (.iload_n 1, 1) := by decide +kernel
theorem dX1_likes_3 : decode cX1_likes 3 = .ok (.bipush 6, 2) := by decide +kernel
theorem dX1_likes_5 : decode cX1_likes 5 = .ok (.idiv, 1) := by decide +kernel
theorem dX1_likes_6 : decode cX1_likes 6 = .ok (.bipush 6, 2) := by decide +kernel
theorem dX1_likes_8 : decode cX1_likes 8 = .ok (.imul, 1) := by decide +kernel
theorem dX1_likes_9 : decode cX1_likes 9 = .ok (.istore_n 3, 1) := by decide +kernel
theorem dX1_likes_10 : decode cX1_likes 10 = .ok (.iload_n 3, 1) := by decide +kernel
theorem dX1_likes_11 : decode cX1_likes 11 = .ok (.iload_n 1, 1) := by decide +kernel
theorem dX1_likes_12 : decode cX1_likes 12 = .ok (.bipush 6, 2) := by decide +kernel
theorem dX1_likes_14 : decode cX1_likes 14 = .ok (.idiv, 1) := by decide +kernel
theorem dX1_likes_15 : decode cX1_likes 15 = .ok (.iconst 1, 1) := by decide +kernel
theorem dX1_likes_16 : decode cX1_likes 16 = .ok (.iadd, 1) := by decide +kernel
theorem dX1_likes_17 : decode cX1_likes 17 = .ok (.bipush 6, 2) := by decide +kernel
theorem dX1_likes_19 : decode cX1_likes 19 = .ok (.imul, 1) := by decide +kernel
theorem dX1_likes_20 : decode cX1_likes 20 = .ok (.if_icmp .ge 62, 3) := by decide +kernel
theorem dX1_likes_23 : decode cX1_likes 23 = .ok (.iload_n 2, 1) := by decide +kernel
theorem dX1_likes_24 : decode cX1_likes 24 = .ok (.iload_n 3, 1) := by decide +kernel
theorem dX1_likes_25 : decode cX1_likes 25 = .ok (.iload_n 1, 1) := by decide +kernel
theorem dX1_likes_26 : decode cX1_likes 26 = .ok (.if_icmp .eq 47, 3) := by decide +kernel
theorem dX1_likes_29 : decode cX1_likes 29 = .ok (.aload_n 0, 1) := by decide +kernel
theorem dX1_likes_30 : decode cX1_likes 30 = .ok (.getfield 17, 3) := by decide +kernel
theorem dX1_likes_33 : decode cX1_likes 33 = .ok (.iload_n 3, 1) := by decide +kernel
theorem dX1_likes_34 : decode cX1_likes 34 = .ok (.aaload, 1) := by decide +kernel
theorem dX1_likes_35 : decode cX1_likes 35 = .ok (.invokevirtual 26, 3) := by decide +kernel
theorem dX1_likes_38 : decode cX1_likes 38 = .ok (.ifCond .eq 35, 3) := by decide +kernel
theorem dX1_likes_41 : decode cX1_likes 41 = .ok (.aload_n 0, 1) := by decide +kernel
theorem dX1_likes_42 : decode cX1_likes 42 = .ok (.getfield 3, 3) := by decide +kernel
theorem dX1_likes_45 : decode cX1_likes 45 = .ok (.aload_n 0, 1) := by decide +kernel
theorem dX1_likes_46 : decode cX1_likes 46 = .ok (.getfield 17, 3) := by decide +kernel
theorem dX1_likes_49 : decode cX1_likes 49 = .ok (.iload_n 3, 1) := by decide +kernel
theorem dX1_likes_50 : decode cX1_likes 50 = .ok (.aaload, 1) := by decide +kernel
theorem dX1_likes_51 : decode cX1_likes 51 = .ok (.getfield 30, 3) := by decide +kernel
theorem dX1_likes_54 : decode cX1_likes 54 = .ok (.aload_n 0, 1) := by decide +kernel
theorem dX1_likes_55 : decode cX1_likes 55 = .ok (.getfield 17, 3) := by decide +kernel
theorem dX1_likes_58 : decode cX1_likes 58 = .ok (.iload_n 1, 1) := by decide +kernel
theorem dX1_likes_59 : decode cX1_likes 59 = .ok (.aaload, 1) := by decide +kernel
theorem dX1_likes_60 : decode cX1_likes 60 = .ok (.getfield 30, 3) := by decide +kernel
theorem dX1_likes_63 : decode cX1_likes 63 = .ok (.invokevirtual 34, 3) := by decide +kernel
theorem dX1_likes_66 : decode cX1_likes 66 = .ok (.ifCond .eq 7, 3) := by decide +kernel
theorem dX1_likes_69 : decode cX1_likes 69 = .ok (.iconst 1, 1) := by decide +kernel
theorem dX1_likes_70 : decode cX1_likes 70 = .ok (.goto 4, 3) := by decide +kernel
theorem dX1_likes_73 : decode cX1_likes 73 = .ok (.iconst 0, 1) := by decide +kernel
theorem dX1_likes_74 : decode cX1_likes 74 = .ok (.iadd, 1) := by decide +kernel
theorem dX1_likes_75 : decode cX1_likes 75 = .ok (.istore_n 2, 1) := by decide +kernel
theorem dX1_likes_76 : decode cX1_likes 76 = .ok (.iinc 3 1, 3) := by decide +kernel
theorem dX1_likes_79 : decode cX1_likes 79 = .ok (.goto (-69), 3) := by decide +kernel
theorem dX1_likes_82 : decode cX1_likes 82 = .ok (.iload_n 2, 1) := by decide +kernel
theorem dX1_likes_83 : decode cX1_likes 83 = .ok (.ireturn, 1) := by decide +kernel
theorem yd_X1_likes : yX1_likes.cls ≠ "java/lang/invoke/MethodHandle" ∧ yX1_likes.cls ≠ "java/lang/invoke/VarHandle" ∧ (parseMethodDescriptor yX1_likes.desc).map (fun d => d.parameters.length) = some 1 := by decide +kernel
theorem fl_X1_3_1 : FLk RX1 3 1 1 "LPalaceOfRooms;" := ⟨RX1, TX1, 2, "PalaceOfRooms$House", rfl, by decide, (fun q => by have h1 := q.1; have h2 := q.2; omega), rfl, in_X1, Or.inl q146, Or.inl rfl⟩
theorem fl_X1_30_3 : FLk RX1 30 3 0 "I" := ⟨RX3, TX3, 4, "PalaceOfRooms$Corner", rfl, by decide, (fun q => by have h1 := q.1; have h2 := q.2; omega), rfl, in_X3, Or.inl q112, Or.inr q111⟩
abbrev rm_X1_likes : Room := { frames := 3, cells := 0, slots := 0, locals := 64 }
set_option maxHeartbeats 4000000 in
theorem w_X1_likes_10_b {p : Program} {l : Launch} {e : Env} {s : State} {m : MethodId} {args : Array Value} {below : List Frame} {meth : Method} {c : Code} {g : Gl} (X : FX g p m c s args meth cX1_likes 4 RX1 (some .int) "likes") {r : Int32 × Hp} {rec10 : Hp × Int32 × Int32 → Option (Int32 × Hp)} {x0 : Nat} {x1 : Int32} {σ : Hp} {x2 : Int32} {x3 : Int32} (hr10 : ∀ (st : Hp × Int32 × Int32), rec10 st = some r → ∀ (H : Heap) (locs : List Loc) (ls : Array Slot), HV g st.1 H → FR g locs → lv_has ls 4 [(0, .ref x0), (1, .int x1), (2, .int st.2.1), (3, .int st.2.2)] → W p l e rm_X1_likes s m args below meth c H locs 0 0 (MQ below (Qi g r) args s 0 0 (frN g)) (F0 m 10 ls [])) {H : Heap} {locs : List Loc} {ls : Array Slot} (h : B_X1_likes_10 x0 x1 rec10 σ x2 x3 = some r) (hV : HV g σ H) (hF : FR g locs) (hl : lv_has ls 4 [(0, .ref x0), (1, .int x1), (2, .int x2), (3, .int x3)]) : W p l e rm_X1_likes s m args below meth c H locs 0 0 (MQ below (Qi g r) args s 0 0 (frN g)) (F0 m 10 ls []) := by
  unfold B_X1_likes_10 at h
  refine lv_iload_n X.1 X.2.1 dX1_likes_10 rfl (lv_at hl 3 rfl) ?_
  refine lv_iload_n X.1 X.2.1 dX1_likes_11 rfl (lv_at hl 1 rfl) ?_
  refine lv_bipush (v := 6) X.1 X.2.1 dX1_likes_12 (by decide) ?_
  refine lv_idiv X.1 X.2.1 dX1_likes_14 (by decide) ?_
  refine lv_iconst (v := 1) X.1 X.2.1 dX1_likes_15 (by decide) ?_
  refine lv_iadd X.1 X.2.1 dX1_likes_16 ?_
  refine lv_bipush (v := 6) X.1 X.2.1 dX1_likes_17 (by decide) ?_
  refine lv_imul X.1 X.2.1 dX1_likes_19 ?_
  refine r_ge (tgt := 82) X.1 X.2.1 dX1_likes_20 (by decide) h (fun h => ?_) (fun h => ?_)
  · refine lv_iload_n X.1 X.2.1 dX1_likes_82 rfl (lv_at hl 2 rfl) ?_
    exact r_iret X hV hF h dX1_likes_83
  · refine lv_iload_n X.1 X.2.1 dX1_likes_23 rfl (lv_at hl 2 rfl) ?_
    refine lv_iload_n X.1 X.2.1 dX1_likes_24 rfl (lv_at hl 3 rfl) ?_
    refine lv_iload_n X.1 X.2.1 dX1_likes_25 rfl (lv_at hl 1 rfl) ?_
    refine r_eq (tgt := 73) X.1 X.2.1 dX1_likes_26 (by decide) h (fun h => ?_) (fun h => ?_)
    · refine lv_iconst (v := 0) X.1 X.2.1 dX1_likes_73 (by decide) ?_
      refine lv_iadd X.1 X.2.1 dX1_likes_74 ?_
      refine lv_istore_n (lv' := [(2, .int (x2 + 0)), (0, .ref x0), (1, .int x1), (3, .int x3)]) X.1 X.2.1 dX1_likes_75 rfl hl (by decide) rfl (fun ls hl => ?_)
      refine lv_iinc (v := x3 + 1) (lv' := [(3, .int (x3 + 1)), (2, .int (x2 + 0)), (0, .ref x0), (1, .int x1)]) X.1 X.2.1 dX1_likes_76 hl (k := 3) rfl rfl (by decide) rfl (fun ls hl => ?_)
      refine lv_goto (tgt := 10) X.1 X.2.1 dX1_likes_79 (by decide) ?_
      exact hr10 (σ, x2 + 0, x3 + 1) h _ _ _ hV hF (lv_sub hl [2, 3, 1, 0] rfl)
    · refine lv_aload_n X.1 X.2.1 dX1_likes_29 rfl (lv_at hl 0 rfl) ?_
      refine r_gR X hV fl_X1_17_1 (by decide) dX1_likes_30 h (fun v1 h => ?_)
      refine lv_iload_n X.1 X.2.1 dX1_likes_33 rfl (lv_at hl 3 rfl) ?_
      refine r_aa X hV dX1_likes_34 (by decide) h (fun v2 h => ?_)
      obtain ⟨v3, s1, hc, h⟩ := b2_inv h
      refine r_ci (va_runU (C := RX3) (x := ⟨"PalaceOfRooms$Corner", "isThere", "()Z"⟩) (As := []) (rest := [.int x2]) (cfX X) (c_X2_isThere_3 l hc) (va_cwU (owner := RX2) 0 X.2.2.2.2.1 (lw_app (lw_in _ [436, 407, 409, 410, 51] (by decide +kernel) (by decide +kernel)) (lw_meth q411)) rfl rfl rfl rfl yd_X2_isThere ⟨Nat.le_of_ble_eq_true rfl, Nat.le_of_ble_eq_true rfl⟩) (preV X hV (F_X2_isThere_3_g hc) rfl) rfl rfl hl.1 rfl (lv_room (Nat.le_of_ble_eq_true rfl)) dX1_likes_35 ⟨(Nat.le_of_ble_eq_true rfl), (Nat.le_of_ble_eq_true rfl)⟩) hF (fun H locs hV hF => ?_)
      refine r_ifeq (tgt := 73) X.1 X.2.1 dX1_likes_38 (by decide) h (fun h => ?_) (fun h => ?_)
      · refine lv_iconst (v := 0) X.1 X.2.1 dX1_likes_73 (by decide) ?_
        refine lv_iadd X.1 X.2.1 dX1_likes_74 ?_
        refine lv_istore_n (lv' := [(2, .int (x2 + 0)), (0, .ref x0), (1, .int x1), (3, .int x3)]) X.1 X.2.1 dX1_likes_75 rfl hl (by decide) rfl (fun ls hl => ?_)
        refine lv_iinc (v := x3 + 1) (lv' := [(3, .int (x3 + 1)), (2, .int (x2 + 0)), (0, .ref x0), (1, .int x1)]) X.1 X.2.1 dX1_likes_76 hl (k := 3) rfl rfl (by decide) rfl (fun ls hl => ?_)
        refine lv_goto (tgt := 10) X.1 X.2.1 dX1_likes_79 (by decide) ?_
        exact hr10 (s1, x2 + 0, x3 + 1) h _ _ _ hV hF (lv_sub hl [2, 3, 1, 0] rfl)
      · refine lv_aload_n X.1 X.2.1 dX1_likes_41 rfl (lv_at hl 0 rfl) ?_
        refine r_gR X hV fl_X1_3_1 (by decide) dX1_likes_42 h (fun v4 h => ?_)
        refine lv_aload_n X.1 X.2.1 dX1_likes_45 rfl (lv_at hl 0 rfl) ?_
        refine r_gR X hV fl_X1_17_1 (by decide) dX1_likes_46 h (fun v5 h => ?_)
        refine lv_iload_n X.1 X.2.1 dX1_likes_49 rfl (lv_at hl 3 rfl) ?_
        refine r_aa X hV dX1_likes_50 (by decide) h (fun v6 h => ?_)
        refine r_gI X hV fl_X1_30_3 dX1_likes_51 h (fun v7 h => ?_)
        refine lv_aload_n X.1 X.2.1 dX1_likes_54 rfl (lv_at hl 0 rfl) ?_
        refine r_gR X hV fl_X1_17_1 (by decide) dX1_likes_55 h (fun v8 h => ?_)
        refine lv_iload_n X.1 X.2.1 dX1_likes_58 rfl (lv_at hl 1 rfl) ?_
        refine r_aa X hV dX1_likes_59 (by decide) h (fun v9 h => ?_)
        refine r_gI X hV fl_X1_30_3 dX1_likes_60 h (fun v10 h => ?_)
        obtain ⟨v11, s2, hc, h⟩ := b2_inv h
        refine r_ci (va_runVN (C := RX0) (As := [.int v7, .int v10]) (rest := [.int x2]) (cfX X) (c_X0_isLike l hc) ⟨va_cnB 2 X.2.2.2.2.1 (lw_meth q444) rfl rfl rfl (X.2.2.2.2.2.1.2.2.2.1 _ (List.mem_of_getElem? (i := 10) rfl)) (X.2.2.2.2.1 _ q49) yd_X0_isLike ⟨Nat.le_of_ble_eq_true rfl, Nat.le_of_ble_eq_true rfl⟩, X.2.2.2.2.1 _ q443, X.2.2.2.2.1 _ qs4⟩ (preV X hV (F_X0_isLike_g hc) rfl) rfl rfl hl.1 rfl (lv_room (Nat.le_of_ble_eq_true rfl)) dX1_likes_63 ⟨(Nat.le_of_ble_eq_true rfl), (Nat.le_of_ble_eq_true rfl)⟩) hF (fun H locs hV hF => ?_)
        refine r_ifeq (tgt := 73) X.1 X.2.1 dX1_likes_66 (by decide) h (fun h => ?_) (fun h => ?_)
        · refine lv_iconst (v := 0) X.1 X.2.1 dX1_likes_73 (by decide) ?_
          refine lv_iadd X.1 X.2.1 dX1_likes_74 ?_
          refine lv_istore_n (lv' := [(2, .int (x2 + 0)), (0, .ref x0), (1, .int x1), (3, .int x3)]) X.1 X.2.1 dX1_likes_75 rfl hl (by decide) rfl (fun ls hl => ?_)
          refine lv_iinc (v := x3 + 1) (lv' := [(3, .int (x3 + 1)), (2, .int (x2 + 0)), (0, .ref x0), (1, .int x1)]) X.1 X.2.1 dX1_likes_76 hl (k := 3) rfl rfl (by decide) rfl (fun ls hl => ?_)
          refine lv_goto (tgt := 10) X.1 X.2.1 dX1_likes_79 (by decide) ?_
          exact hr10 (s2, x2 + 0, x3 + 1) h _ _ _ hV hF (lv_sub hl [2, 3, 1, 0] rfl)
        · refine lv_iconst (v := 1) X.1 X.2.1 dX1_likes_69 (by decide) ?_
          refine lv_goto (tgt := 74) X.1 X.2.1 dX1_likes_70 (by decide) ?_
          refine lv_iadd X.1 X.2.1 dX1_likes_74 ?_
          refine lv_istore_n (lv' := [(2, .int (x2 + 1)), (0, .ref x0), (1, .int x1), (3, .int x3)]) X.1 X.2.1 dX1_likes_75 rfl hl (by decide) rfl (fun ls hl => ?_)
          refine lv_iinc (v := x3 + 1) (lv' := [(3, .int (x3 + 1)), (2, .int (x2 + 1)), (0, .ref x0), (1, .int x1)]) X.1 X.2.1 dX1_likes_76 hl (k := 3) rfl rfl (by decide) rfl (fun ls hl => ?_)
          refine lv_goto (tgt := 10) X.1 X.2.1 dX1_likes_79 (by decide) ?_
          exact hr10 (s2, x2 + 1, x3 + 1) h _ _ _ hV hF (lv_sub hl [2, 3, 1, 0] rfl)
set_option maxHeartbeats 4000000 in
theorem w_X1_likes_10 {p : Program} {l : Launch} {e : Env} {s : State} {m : MethodId} {args : Array Value} {below : List Frame} {meth : Method} {c : Code} {g : Gl} (X : FX g p m c s args meth cX1_likes 4 RX1 (some .int) "likes") {r : Int32 × Hp} {x0 : Nat} {x1 : Int32}  : ∀ (n : Nat) (st : Hp × Int32 × Int32), L_X1_likes_10 x0 x1 n st = some r → ∀ (H : Heap) (locs : List Loc) (ls : Array Slot), HV g st.1 H → FR g locs → lv_has ls 4 [(0, .ref x0), (1, .int x1), (2, .int st.2.1), (3, .int st.2.2)] → W p l e rm_X1_likes s m args below meth c H locs 0 0 (MQ below (Qi g r) args s 0 0 (frN g)) (F0 m 10 ls []) := by
  intro n
  induction n with
  | zero =>
    intro st h
    rw [L_X1_likes_10_0] at h
    cases h
  | succ n ih =>
    intro st h H locs ls hV hF hl
    rw [L_X1_likes_10_s] at h
    exact w_X1_likes_10_b X  ih h hV hF hl
set_option maxHeartbeats 4000000 in
theorem c_X1_likes (l : Launch) {g : Gl} {σ : Hp} {x0 : Nat} {x1 : Int32} {r : Int32 × Hp} (h : F_X1_likes σ x0 x1 = some r) : Met l yX1_likes (ws_ yX1_likes cX1_likes 4 (some .int)) rm_X1_likes (va_Pc [.ref x0, .int x1] (WV g σ)) (Qi g r) 0 0 (frN g) := by
  refine ct_of (by decide) (Nat.le_of_ble_eq_true rfl) ?_
  intro p e s m below meth c ls X hV hl
  have hF : FR g [] := FR_nil
  unfold F_X1_likes at h
  have hl : lv_has ls 4 [(0, .ref x0), (1, .int x1)] := hl
  have X : FX g p m c s _ meth cX1_likes 4 RX1 (some .int) "likes" := X
  obtain ⟨-, h⟩ := gd_inv h
  refine lv_iconst (v := 0) X.1 X.2.1 dX1_likes_0 (by decide) ?_
  refine lv_istore_n (lv' := [(2, .int 0), (0, .ref x0), (1, .int x1)]) X.1 X.2.1 dX1_likes_1 rfl hl (by decide) rfl (fun ls hl => ?_)
  refine lv_iload_n X.1 X.2.1 dX1_likes_2 rfl (lv_at hl 2 rfl) ?_
  refine lv_bipush (v := 6) X.1 X.2.1 dX1_likes_3 (by decide) ?_
  refine lv_idiv X.1 X.2.1 dX1_likes_5 (by decide) ?_
  refine lv_bipush (v := 6) X.1 X.2.1 dX1_likes_6 (by decide) ?_
  refine lv_imul X.1 X.2.1 dX1_likes_8 ?_
  refine lv_istore_n (lv' := [(3, .int ((x1 / 6) * 6)), (2, .int 0), (0, .ref x0), (1, .int x1)]) X.1 X.2.1 dX1_likes_9 rfl hl (by decide) rfl (fun ls hl => ?_)
  exact w_X1_likes_10 X  FU (σ, 0, (x1 / 6) * 6) h _ _ _ hV hF (lv_sub hl [2, 3, 1, 0] rfl)
/-! PalaceOfRooms$Kept.fade for classes {0: 3} -/
theorem dX2_fade_0 : decode cX2_fade 0 = .ok (.aload_n 0, 1) := by decide +kernel
theorem dX2_fade_1 : decode cX2_fade 1 = .ok (.iconst 0, 1) := by decide +kernel
theorem dX2_fade_2 : decode cX2_fade 2 = .ok (.aload_n 0, 1) := by decide +kernel
theorem dX2_fade_3 : decode cX2_fade 3 = .ok (.getfield 15, 3) := by decide +kernel
theorem dX2_fade_6 : decode cX2_fade 6 = .ok (.iload_n 1, 1) := by decide +kernel
theorem dX2_fade_7 : decode cX2_fade 7 = .ok (.isub, 1) := by decide +kernel
theorem dX2_fade_8 : decode cX2_fade 8 = .ok (.invokestatic 22, 3) := by decide +kernel
theorem dX2_fade_11 : decode cX2_fade 11 = .ok (.putfield 15, 3) := by decide +kernel
theorem dX2_fade_14 : decode cX2_fade 14 = .ok (.return_, 1) := by decide +kernel
theorem yd_X2_fade : yX2_fade.cls ≠ "java/lang/invoke/MethodHandle" ∧ yX2_fade.cls ≠ "java/lang/invoke/VarHandle" ∧ (parseMethodDescriptor yX2_fade.desc).map (fun d => d.parameters.length) = some 1 := by decide +kernel
theorem fl_X2_15_3 : FLk RX2 15 3 1 "I" := ⟨RX3, TX3, 4, "PalaceOfRooms$Kept", rfl, by decide, (fun q => by have h1 := q.1; have h2 := q.2; omega), rfl, in_X3, Or.inl q120, Or.inl rfl⟩
abbrev rm_X2_fade_3 : Room := { frames := 1, cells := 0, slots := 0, locals := 24 }
set_option maxHeartbeats 4000000 in
theorem c_X2_fade_3 (l : Launch) {g : Gl} {σ : Hp} {x0 : Nat} {x1 : Int32} {r : Hp} (h : F_X2_fade_3 σ x0 x1 = some r) : Met l yX2_fade (ws_ yX2_fade cX2_fade 2 none) rm_X2_fade_3 (va_Pc [.ref x0, .int x1] (WV g σ)) (Qv g r) 0 0 (frN g) := by
  refine ct_of (by decide) (Nat.le_of_ble_eq_true rfl) ?_
  intro p e s m below meth c ls X hV hl
  have hF : FR g [] := FR_nil
  unfold F_X2_fade_3 at h
  have hl : lv_has ls 2 [(0, .ref x0), (1, .int x1)] := hl
  have X : FX g p m c s _ meth cX2_fade 2 RX2 none "fade" := X
  obtain ⟨-, h⟩ := gd_inv h
  refine lv_aload_n X.1 X.2.1 dX2_fade_0 rfl (lv_at hl 0 rfl) ?_
  refine lv_iconst (v := 0) X.1 X.2.1 dX2_fade_1 (by decide) ?_
  refine lv_aload_n X.1 X.2.1 dX2_fade_2 rfl (lv_at hl 0 rfl) ?_
  refine r_gI X hV fl_X2_15_3 dX2_fade_3 h (fun v1 h => ?_)
  refine lv_iload_n X.1 X.2.1 dX2_fade_6 rfl (lv_at hl 1 rfl) ?_
  refine lv_isub X.1 X.2.1 dX2_fade_7 ?_
  refine va_mmax X.1 X.2.1 (X.2.2.1.trans hl.1.symm) X.2.2.2.1 (X.2.2.2.2.1 _ q451) (X.2.2.2.2.1 _ q452) (X.2.2.2.2.1 _ q61) (X.2.2.2.2.1 _ q453) (Nat.le_of_ble_eq_true rfl) (Nat.le_of_ble_eq_true rfl) (Nat.le_of_ble_eq_true rfl) (Nat.le_of_ble_eq_true rfl) dX2_fade_8 ?_
  refine r_pI X hV hF fp_X2_15_3 (fun q => by cases q) dX2_fade_11 h (fun s1 H locs hV hF h => ?_)
  exact r_vret X hV hF h dX2_fade_14
/-! PalaceOfRooms$Kept.fade for classes {0: 4} -/
theorem fl_X2_15_4 : FLk RX2 15 4 1 "I" := ⟨RX4, TX4, 2, "PalaceOfRooms$Kept", rfl, by decide, (fun q => by have h1 := q.1; have h2 := q.2; omega), rfl, in_X4, Or.inl q120, Or.inl rfl⟩
abbrev rm_X2_fade_4 : Room := { frames := 1, cells := 0, slots := 0, locals := 24 }
set_option maxHeartbeats 4000000 in
theorem c_X2_fade_4 (l : Launch) {g : Gl} {σ : Hp} {x0 : Nat} {x1 : Int32} {r : Hp} (h : F_X2_fade_4 σ x0 x1 = some r) : Met l yX2_fade (ws_ yX2_fade cX2_fade 2 none) rm_X2_fade_4 (va_Pc [.ref x0, .int x1] (WV g σ)) (Qv g r) 0 0 (frN g) := by
  refine ct_of (by decide) (Nat.le_of_ble_eq_true rfl) ?_
  intro p e s m below meth c ls X hV hl
  have hF : FR g [] := FR_nil
  unfold F_X2_fade_4 at h
  have hl : lv_has ls 2 [(0, .ref x0), (1, .int x1)] := hl
  have X : FX g p m c s _ meth cX2_fade 2 RX2 none "fade" := X
  obtain ⟨-, h⟩ := gd_inv h
  refine lv_aload_n X.1 X.2.1 dX2_fade_0 rfl (lv_at hl 0 rfl) ?_
  refine lv_iconst (v := 0) X.1 X.2.1 dX2_fade_1 (by decide) ?_
  refine lv_aload_n X.1 X.2.1 dX2_fade_2 rfl (lv_at hl 0 rfl) ?_
  refine r_gI X hV fl_X2_15_4 dX2_fade_3 h (fun v1 h => ?_)
  refine lv_iload_n X.1 X.2.1 dX2_fade_6 rfl (lv_at hl 1 rfl) ?_
  refine lv_isub X.1 X.2.1 dX2_fade_7 ?_
  refine va_mmax X.1 X.2.1 (X.2.2.1.trans hl.1.symm) X.2.2.2.1 (X.2.2.2.2.1 _ q451) (X.2.2.2.2.1 _ q452) (X.2.2.2.2.1 _ q61) (X.2.2.2.2.1 _ q453) (Nat.le_of_ble_eq_true rfl) (Nat.le_of_ble_eq_true rfl) (Nat.le_of_ble_eq_true rfl) (Nat.le_of_ble_eq_true rfl) dX2_fade_8 ?_
  refine r_pI X hV hF fp_X2_15_4 (fun q => by cases q) dX2_fade_11 h (fun s1 H locs hV hF h => ?_)
  exact r_vret X hV hF h dX2_fade_14
/-! PalaceOfRooms$Ghost.fade -/
theorem dX4_fade_0 : decode cX4_fade 0 = .ok (.aload_n 0, 1) := by decide +kernel
theorem dX4_fade_1 : decode cX4_fade 1 = .ok (.iload_n 1, 1) := by decide +kernel
theorem dX4_fade_2 : decode cX4_fade 2 = .ok (.invokespecial 19, 3) := by decide +kernel
theorem dX4_fade_5 : decode cX4_fade 5 = .ok (.aload_n 0, 1) := by decide +kernel
theorem dX4_fade_6 : decode cX4_fade 6 = .ok (.getfield 13, 3) := by decide +kernel
theorem dX4_fade_9 : decode cX4_fade 9 = .ok (.ifCond .ne 9, 3) := by decide +kernel
theorem dX4_fade_12 : decode cX4_fade 12 = .ok (.aload_n 0, 1) := by decide +kernel
theorem dX4_fade_13 : decode cX4_fade 13 = .ok (.iconst (-1), 1) := by decide +kernel
theorem dX4_fade_14 : decode cX4_fade 14 = .ok (.iconst 0, 1) := by decide +kernel
theorem dX4_fade_15 : decode cX4_fade 15 = .ok (.invokevirtual 23, 3) := by decide +kernel
theorem dX4_fade_18 : decode cX4_fade 18 = .ok (.return_, 1) := by decide +kernel
theorem yd_X4_fade : yX4_fade.cls ≠ "java/lang/invoke/MethodHandle" ∧ yX4_fade.cls ≠ "java/lang/invoke/VarHandle" ∧ (parseMethodDescriptor yX4_fade.desc).map (fun d => d.parameters.length) = some 1 := by decide +kernel
abbrev rm_X4_fade : Room := { frames := 2, cells := 0, slots := 0, locals := 45 }
set_option maxHeartbeats 4000000 in
theorem c_X4_fade (l : Launch) {g : Gl} {σ : Hp} {x0 : Nat} {x1 : Int32} {r : Hp} (h : F_X4_fade σ x0 x1 = some r) : Met l yX4_fade (ws_ yX4_fade cX4_fade 2 none) rm_X4_fade (va_Pc [.ref x0, .int x1] (WV g σ)) (Qv g r) 0 0 (frN g) := by
  refine ct_of (by decide) (Nat.le_of_ble_eq_true rfl) ?_
  intro p e s m below meth c ls X hV hl
  have hF : FR g [] := FR_nil
  unfold F_X4_fade at h
  have hl : lv_has ls 2 [(0, .ref x0), (1, .int x1)] := hl
  have X : FX g p m c s _ meth cX4_fade 2 RX4 none "fade" := X
  obtain ⟨-, h⟩ := gd_inv h
  refine lv_aload_n X.1 X.2.1 dX4_fade_0 rfl (lv_at hl 0 rfl) ?_
  refine lv_iload_n X.1 X.2.1 dX4_fade_1 rfl (lv_at hl 1 rfl) ?_
  obtain ⟨s1, hc, h⟩ := b1_inv h
  refine r_cv (va_runSU (C := RX4) (X.2.2.2.2.2.1.1 4 _ rfl).2 (As := [.int x1]) (rest := []) (cfX X) (c_X2_fade_4 l hc) (va_cwSU 1 X.2.2.2.2.1 (lw_app (lw_in _ [459, 1365, 129, 449, 51] (by decide +kernel) (by decide +kernel)) (lw_meth q450)) rfl rfl rfl ⟨by decide +kernel, (yd_X2_fade).2.2⟩ ⟨Nat.le_of_ble_eq_true rfl, Nat.le_of_ble_eq_true rfl⟩) (preV X hV (F_X2_fade_4_g hc) rfl) rfl rfl hl.1 rfl (lv_room (Nat.le_of_ble_eq_true rfl)) dX4_fade_2 ⟨(Nat.le_of_ble_eq_true rfl), (Nat.le_of_ble_eq_true rfl)⟩) hF (fun H locs hV hF => ?_)
  refine lv_aload_n X.1 X.2.1 dX4_fade_5 rfl (lv_at hl 0 rfl) ?_
  refine r_gI X hV fl_X4_13_4 dX4_fade_6 h (fun v2 h => ?_)
  refine r_ifne (tgt := 18) X.1 X.2.1 dX4_fade_9 (by decide) h (fun h => ?_) (fun h => ?_)
  · exact r_vret X hV hF h dX4_fade_18
  · refine lv_aload_n X.1 X.2.1 dX4_fade_12 rfl (lv_at hl 0 rfl) ?_
    refine lv_iconst (v := (-1)) X.1 X.2.1 dX4_fade_13 (by decide) ?_
    refine lv_iconst (v := 0) X.1 X.2.1 dX4_fade_14 (by decide) ?_
    obtain ⟨s2, hc, h⟩ := b1_inv h
    refine r_cv (va_runU (C := RX4) (x := ⟨"PalaceOfRooms$Ghost", "lay", "(II)V"⟩) (As := [.int (-1), .int 0]) (rest := []) (cfX X) (c_X2_lay_4 l hc) (va_cwU (owner := RX2) 2 X.2.2.2.2.1 (lw_app (lw_in _ [460, 394, 396, 397, 51] (by decide +kernel) (by decide +kernel)) (lw_meth q398)) rfl rfl rfl rfl yd_X2_lay ⟨Nat.le_of_ble_eq_true rfl, Nat.le_of_ble_eq_true rfl⟩) (preV X hV (F_X2_lay_4_g hc) rfl) rfl rfl hl.1 rfl (lv_room (Nat.le_of_ble_eq_true rfl)) dX4_fade_15 ⟨(Nat.le_of_ble_eq_true rfl), (Nat.le_of_ble_eq_true rfl)⟩) hF (fun H locs hV hF => ?_)
    exact r_vret X hV hF h dX4_fade_18
/-! PalaceOfRooms$House.goBy -/
theorem dX1_goBy_0 : decode cX1_goBy 0 = .ok (.iconst 0, 1) := by decide +kernel
theorem dX1_goBy_1 : decode cX1_goBy 1 = .ok (.istore_n 1, 1) := by decide +kernel
theorem dX1_goBy_2 : decode cX1_goBy 2 = .ok (.iload_n 1, 1) := by decide +kernel
theorem dX1_goBy_3 : decode cX1_goBy 3 = .ok (.bipush 48, 2) := by decide +kernel
theorem dX1_goBy_5 : decode cX1_goBy 5 = .ok (.if_icmp .ge 83, 3) := by decide +kernel
theorem dX1_goBy_8 : decode cX1_goBy 8 = .ok (.aload_n 0, 1) := by decide +kernel
theorem dX1_goBy_9 : decode cX1_goBy 9 = .ok (.getfield 17, 3) := by decide +kernel
theorem dX1_goBy_12 : decode cX1_goBy 12 = .ok (.iload_n 1, 1) := by decide +kernel
theorem dX1_goBy_13 : decode cX1_goBy 13 = .ok (.aaload, 1) := by decide +kernel
theorem dX1_goBy_14 : decode cX1_goBy 14 = .ok (.astore_n 2, 1) := by decide +kernel
theorem dX1_goBy_15 : decode cX1_goBy 15 = .ok (.aload_n 2, 1) := by decide +kernel
theorem dX1_goBy_16 : decode cX1_goBy 16 = .ok (.invokevirtual 26, 3) := by decide +kernel
theorem dX1_goBy_19 : decode cX1_goBy 19 = .ok (.ifCond .eq 28, 3) := by decide +kernel
theorem dX1_goBy_22 : decode cX1_goBy 22 = .ok (.aload_n 2, 1) := by decide +kernel
theorem dX1_goBy_23 : decode cX1_goBy 23 = .ok (.aload_n 0, 1) := by decide +kernel
theorem dX1_goBy_24 : decode cX1_goBy 24 = .ok (.getfield 3, 3) := by decide +kernel
theorem dX1_goBy_27 : decode cX1_goBy 27 = .ok (.getfield 38, 3) := by decide +kernel
theorem dX1_goBy_30 : decode cX1_goBy 30 = .ok (.aload_n 2, 1) := by decide +kernel
theorem dX1_goBy_31 : decode cX1_goBy 31 = .ok (.getfield 42, 3) := by decide +kernel
theorem dX1_goBy_34 : decode cX1_goBy 34 = .ok (.bipush 10, 2) := by decide +kernel
theorem dX1_goBy_36 : decode cX1_goBy 36 = .ok (.idiv, 1) := by decide +kernel
theorem dX1_goBy_37 : decode cX1_goBy 37 = .ok (.iaload, 1) := by decide +kernel
theorem dX1_goBy_38 : decode cX1_goBy 38 = .ok (.aload_n 0, 1) := by decide +kernel
theorem dX1_goBy_39 : decode cX1_goBy 39 = .ok (.iload_n 1, 1) := by decide +kernel
theorem dX1_goBy_40 : decode cX1_goBy 40 = .ok (.invokevirtual 45, 3) := by decide +kernel
theorem dX1_goBy_43 : decode cX1_goBy 43 = .ok (.iadd, 1) := by decide +kernel
theorem dX1_goBy_44 : decode cX1_goBy 44 = .ok (.invokevirtual 49, 3) := by decide +kernel
theorem dX1_goBy_47 : decode cX1_goBy 47 = .ok (.aload_n 2, 1) := by decide +kernel
theorem dX1_goBy_48 : decode cX1_goBy 48 = .ok (.getfield 53, 3) := by decide +kernel
theorem dX1_goBy_51 : decode cX1_goBy 51 = .ok (.invokevirtual 57, 3) := by decide +kernel
theorem dX1_goBy_54 : decode cX1_goBy 54 = .ok (.ifCond .eq 28, 3) := by decide +kernel
theorem dX1_goBy_57 : decode cX1_goBy 57 = .ok (.aload_n 2, 1) := by decide +kernel
theorem dX1_goBy_58 : decode cX1_goBy 58 = .ok (.getfield 53, 3) := by decide +kernel
theorem dX1_goBy_61 : decode cX1_goBy 61 = .ok (.aload_n 0, 1) := by decide +kernel
theorem dX1_goBy_62 : decode cX1_goBy 62 = .ok (.getfield 3, 3) := by decide +kernel
theorem dX1_goBy_65 : decode cX1_goBy 65 = .ok (.getfield 38, 3) := by decide +kernel
theorem dX1_goBy_68 : decode cX1_goBy 68 = .ok (.aload_n 2, 1) := by decide +kernel
theorem dX1_goBy_69 : decode cX1_goBy 69 = .ok (.getfield 53, 3) := by decide +kernel
theorem dX1_goBy_72 : decode cX1_goBy 72 = .ok (.getfield 60, 3) := by decide +kernel
theorem dX1_goBy_75 : decode cX1_goBy 75 = .ok (.bipush 10, 2) := by decide +kernel
theorem dX1_goBy_77 : decode cX1_goBy 77 = .ok (.idiv, 1) := by decide +kernel
theorem dX1_goBy_78 : decode cX1_goBy 78 = .ok (.iaload, 1) := by decide +kernel
theorem dX1_goBy_79 : decode cX1_goBy 79 = .ok (.invokevirtual 61, 3) := by decide +kernel
theorem dX1_goBy_82 : decode cX1_goBy 82 = .ok (.iinc 1 1, 3) := by decide +kernel
theorem dX1_goBy_85 : decode cX1_goBy 85 = .ok (.goto (-83), 3) := by decide +kernel
theorem dX1_goBy_88 : decode cX1_goBy 88 = .ok (.return_, 1) := by decide +kernel
theorem yd_X1_goBy : yX1_goBy.cls ≠ "java/lang/invoke/MethodHandle" ∧ yX1_goBy.cls ≠ "java/lang/invoke/VarHandle" ∧ (parseMethodDescriptor yX1_goBy.desc).map (fun d => d.parameters.length) = some 0 := by decide +kernel
theorem fl_X1_53_3 : FLk RX1 53 3 2 "LPalaceOfRooms$Ghost;" := ⟨RX3, TX3, 4, "PalaceOfRooms$Corner", rfl, by decide, (fun q => by have h1 := q.1; have h2 := q.2; omega), rfl, in_X3, Or.inr (List.mem_of_getElem? (i := 0) rfl), Or.inl rfl⟩
theorem fl_X1_38_0 : FLk RX1 38 0 5 "[I" := ⟨RX0, TX0, 22, "PalaceOfRooms", rfl, by decide, (fun q => by have h1 := q.1; have h2 := q.2; omega), rfl, in_X0, Or.inr (List.mem_of_getElem? (i := 12) rfl), Or.inl rfl⟩
theorem fl_X1_60_4 : FLk RX1 60 4 1 "I" := ⟨RX4, TX4, 2, "PalaceOfRooms$Ghost", rfl, by decide, (fun q => by have h1 := q.1; have h2 := q.2; omega), rfl, in_X4, Or.inl q122, Or.inr q117⟩
theorem fl_X1_42_3 : FLk RX1 42 3 1 "I" := ⟨RX3, TX3, 4, "PalaceOfRooms$Corner", rfl, by decide, (fun q => by have h1 := q.1; have h2 := q.2; omega), rfl, in_X3, Or.inl q121, Or.inr q119⟩
abbrev rm_X1_goBy : Room := { frames := 4, cells := 0, slots := 0, locals := 87 }
set_option maxHeartbeats 4000000 in
theorem w_X1_goBy_47 {p : Program} {l : Launch} {e : Env} {s : State} {m : MethodId} {args : Array Value} {below : List Frame} {meth : Method} {c : Code} {g : Gl} (X : FX g p m c s args meth cX1_goBy 3 RX1 none "goBy") {r : Hp} {rec2 : Hp × Int32 → Option (Hp)} {σ : Hp} {x0 : Nat} {x1 : Int32} {x2 : Nat} (hr2 : ∀ (st : Hp × Int32), rec2 st = some r → ∀ (H : Heap) (locs : List Loc) (ls : Array Slot), HV g st.1 H → FR g locs → lv_has ls 3 [(0, .ref x0), (1, .int st.2)] → W p l e rm_X1_goBy s m args below meth c H locs 0 0 (MQ below (Qv g r) args s 0 0 (frN g)) (F0 m 2 ls [])) {H : Heap} {locs : List Loc} {ls : Array Slot} (h : F_X1_goBy_47 rec2 σ x0 x1 x2 = some r) (hV : HV g σ H) (hF : FR g locs) (hl : lv_has ls 3 [(0, .ref x0), (1, .int x1), (2, .ref x2)]) : W p l e rm_X1_goBy s m args below meth c H locs 0 0 (MQ below (Qv g r) args s 0 0 (frN g)) (F0 m 47 ls []) := by
  unfold F_X1_goBy_47 at h
  refine lv_aload_n X.1 X.2.1 dX1_goBy_47 rfl (lv_at hl 2 rfl) ?_
  refine r_gR X hV fl_X1_53_3 (by decide) dX1_goBy_48 h (fun v1 h => ?_)
  obtain ⟨v2, s1, hc, h⟩ := b2_inv h
  refine r_ci (va_runV (C := RX4) (As := []) (rest := []) (cfX X) (c_X4_isThere l hc) (cwV 0 X.2.2.2.2.1 (lw_V q454 q419 q420 q53 q421) rfl rfl rfl ⟨rfl, yd_X4_isThere⟩ ⟨Nat.le_of_ble_eq_true rfl, Nat.le_of_ble_eq_true rfl⟩) (preV X hV (F_X4_isThere_g hc) rfl) rfl rfl hl.1 rfl (lv_room (Nat.le_of_ble_eq_true rfl)) dX1_goBy_51 ⟨(Nat.le_of_ble_eq_true rfl), (Nat.le_of_ble_eq_true rfl)⟩) hF (fun H locs hV hF => ?_)
  refine r_ifeq (tgt := 82) X.1 X.2.1 dX1_goBy_54 (by decide) h (fun h => ?_) (fun h => ?_)
  · refine lv_iinc (v := x1 + 1) (lv' := [(1, .int (x1 + 1)), (0, .ref x0), (2, .ref x2)]) X.1 X.2.1 dX1_goBy_82 hl (k := 1) rfl rfl (by decide) rfl (fun ls hl => ?_)
    refine lv_goto (tgt := 2) X.1 X.2.1 dX1_goBy_85 (by decide) ?_
    exact hr2 (s1, x1 + 1) h _ _ _ hV hF (lv_sub hl [1, 0] rfl)
  · refine lv_aload_n X.1 X.2.1 dX1_goBy_57 rfl (lv_at hl 2 rfl) ?_
    refine r_gR X hV fl_X1_53_3 (by decide) dX1_goBy_58 h (fun v3 h => ?_)
    refine lv_aload_n X.1 X.2.1 dX1_goBy_61 rfl (lv_at hl 0 rfl) ?_
    refine r_gR X hV fl_X1_3_1 (by decide) dX1_goBy_62 h (fun v4 h => ?_)
    refine r_gR X hV fl_X1_38_0 (by decide) dX1_goBy_65 h (fun v5 h => ?_)
    refine lv_aload_n X.1 X.2.1 dX1_goBy_68 rfl (lv_at hl 2 rfl) ?_
    refine r_gR X hV fl_X1_53_3 (by decide) dX1_goBy_69 h (fun v6 h => ?_)
    refine r_gI X hV fl_X1_60_4 dX1_goBy_72 h (fun v7 h => ?_)
    refine lv_bipush (v := 10) X.1 X.2.1 dX1_goBy_75 (by decide) ?_
    refine lv_idiv X.1 X.2.1 dX1_goBy_77 (by decide) ?_
    refine r_ia X hV dX1_goBy_78 h (fun v8 h => ?_)
    obtain ⟨s2, hc, h⟩ := b1_inv h
    refine r_cv (va_runV (C := RX4) (As := [.int v8]) (rest := []) (cfX X) (c_X4_fade l hc) (cwV 1 X.2.2.2.2.1 (lw_V q455 q456 q457 q53 q458) rfl rfl rfl ⟨rfl, yd_X4_fade⟩ ⟨Nat.le_of_ble_eq_true rfl, Nat.le_of_ble_eq_true rfl⟩) (preV X hV (F_X4_fade_g hc) rfl) rfl rfl hl.1 rfl (lv_room (Nat.le_of_ble_eq_true rfl)) dX1_goBy_79 ⟨(Nat.le_of_ble_eq_true rfl), (Nat.le_of_ble_eq_true rfl)⟩) hF (fun H locs hV hF => ?_)
    refine lv_iinc (v := x1 + 1) (lv' := [(1, .int (x1 + 1)), (0, .ref x0), (2, .ref x2)]) X.1 X.2.1 dX1_goBy_82 hl (k := 1) rfl rfl (by decide) rfl (fun ls hl => ?_)
    refine lv_goto (tgt := 2) X.1 X.2.1 dX1_goBy_85 (by decide) ?_
    exact hr2 (s2, x1 + 1) h _ _ _ hV hF (lv_sub hl [1, 0] rfl)
set_option maxHeartbeats 4000000 in
theorem w_X1_goBy_2_b {p : Program} {l : Launch} {e : Env} {s : State} {m : MethodId} {args : Array Value} {below : List Frame} {meth : Method} {c : Code} {g : Gl} (X : FX g p m c s args meth cX1_goBy 3 RX1 none "goBy") {r : Hp} {rec2 : Hp × Int32 → Option (Hp)} {x0 : Nat} {σ : Hp} {x1 : Int32} (hr2 : ∀ (st : Hp × Int32), rec2 st = some r → ∀ (H : Heap) (locs : List Loc) (ls : Array Slot), HV g st.1 H → FR g locs → lv_has ls 3 [(0, .ref x0), (1, .int st.2)] → W p l e rm_X1_goBy s m args below meth c H locs 0 0 (MQ below (Qv g r) args s 0 0 (frN g)) (F0 m 2 ls [])) {H : Heap} {locs : List Loc} {ls : Array Slot} (h : B_X1_goBy_2 x0 rec2 σ x1 = some r) (hV : HV g σ H) (hF : FR g locs) (hl : lv_has ls 3 [(0, .ref x0), (1, .int x1)]) : W p l e rm_X1_goBy s m args below meth c H locs 0 0 (MQ below (Qv g r) args s 0 0 (frN g)) (F0 m 2 ls []) := by
  unfold B_X1_goBy_2 at h
  refine lv_iload_n X.1 X.2.1 dX1_goBy_2 rfl (lv_at hl 1 rfl) ?_
  refine lv_bipush (v := 48) X.1 X.2.1 dX1_goBy_3 (by decide) ?_
  refine r_ge (tgt := 88) X.1 X.2.1 dX1_goBy_5 (by decide) h (fun h => ?_) (fun h => ?_)
  · exact r_vret X hV hF h dX1_goBy_88
  · refine lv_aload_n X.1 X.2.1 dX1_goBy_8 rfl (lv_at hl 0 rfl) ?_
    refine r_gR X hV fl_X1_17_1 (by decide) dX1_goBy_9 h (fun v1 h => ?_)
    refine lv_iload_n X.1 X.2.1 dX1_goBy_12 rfl (lv_at hl 1 rfl) ?_
    refine r_aa X hV dX1_goBy_13 (by decide) h (fun v2 h => ?_)
    refine lv_astore_n (lv' := [(2, .ref v2), (0, .ref x0), (1, .int x1)]) X.1 X.2.1 dX1_goBy_14 rfl hl (by decide) rfl (fun ls hl => ?_)
    refine lv_aload_n X.1 X.2.1 dX1_goBy_15 rfl (lv_at hl 0 rfl) ?_
    obtain ⟨v3, s1, hc, h⟩ := b2_inv h
    refine r_ci (va_runU (C := RX3) (x := ⟨"PalaceOfRooms$Corner", "isThere", "()Z"⟩) (As := []) (rest := []) (cfX X) (c_X2_isThere_3 l hc) (va_cwU (owner := RX2) 0 X.2.2.2.2.1 (lw_app (lw_in _ [436, 407, 409, 410, 51] (by decide +kernel) (by decide +kernel)) (lw_meth q411)) rfl rfl rfl rfl yd_X2_isThere ⟨Nat.le_of_ble_eq_true rfl, Nat.le_of_ble_eq_true rfl⟩) (preV X hV (F_X2_isThere_3_g hc) rfl) rfl rfl hl.1 rfl (lv_room (Nat.le_of_ble_eq_true rfl)) dX1_goBy_16 ⟨(Nat.le_of_ble_eq_true rfl), (Nat.le_of_ble_eq_true rfl)⟩) hF (fun H locs hV hF => ?_)
    refine r_ifeq (tgt := 47) X.1 X.2.1 dX1_goBy_19 (by decide) h (fun h => ?_) (fun h => ?_)
    · exact w_X1_goBy_47 X hr2 h hV hF (lv_sub hl [1, 2, 0] rfl)
    · refine lv_aload_n X.1 X.2.1 dX1_goBy_22 rfl (lv_at hl 0 rfl) ?_
      refine lv_aload_n X.1 X.2.1 dX1_goBy_23 rfl (lv_at hl 1 rfl) ?_
      refine r_gR X hV fl_X1_3_1 (by decide) dX1_goBy_24 h (fun v4 h => ?_)
      refine r_gR X hV fl_X1_38_0 (by decide) dX1_goBy_27 h (fun v5 h => ?_)
      refine lv_aload_n X.1 X.2.1 dX1_goBy_30 rfl (lv_at hl 0 rfl) ?_
      refine r_gI X hV fl_X1_42_3 dX1_goBy_31 h (fun v6 h => ?_)
      refine lv_bipush (v := 10) X.1 X.2.1 dX1_goBy_34 (by decide) ?_
      refine lv_idiv X.1 X.2.1 dX1_goBy_36 (by decide) ?_
      refine r_ia X hV dX1_goBy_37 h (fun v7 h => ?_)
      refine lv_aload_n X.1 X.2.1 dX1_goBy_38 rfl (lv_at hl 1 rfl) ?_
      refine lv_iload_n X.1 X.2.1 dX1_goBy_39 rfl (lv_at hl 2 rfl) ?_
      obtain ⟨v8, s2, hc, h⟩ := b2_inv h
      refine r_ci (va_runV (C := RX1) (As := [.int x1]) (rest := [.int v7, .ref v2]) (cfX X) (c_X1_likes l hc) (cwV 1 X.2.2.2.2.1 (lw_V q437 q439 qs3 q50 q440) rfl rfl rfl ⟨rfl, yd_X1_likes⟩ ⟨Nat.le_of_ble_eq_true rfl, Nat.le_of_ble_eq_true rfl⟩) (preV X hV (F_X1_likes_g hc) rfl) rfl rfl hl.1 rfl (lv_room (Nat.le_of_ble_eq_true rfl)) dX1_goBy_40 ⟨(Nat.le_of_ble_eq_true rfl), (Nat.le_of_ble_eq_true rfl)⟩) hF (fun H locs hV hF => ?_)
      refine lv_iadd X.1 X.2.1 dX1_goBy_43 ?_
      obtain ⟨s3, hc, h⟩ := b1_inv h
      refine r_cv (va_runU (C := RX3) (x := ⟨"PalaceOfRooms$Corner", "fade", "(I)V"⟩) (As := [.int (v7 + v8)]) (rest := []) (cfX X) (c_X2_fade_3 l hc) (va_cwU (owner := RX2) 1 X.2.2.2.2.1 (lw_app (lw_in _ [445, 446, 448, 449, 51] (by decide +kernel) (by decide +kernel)) (lw_meth q450)) rfl rfl rfl rfl yd_X2_fade ⟨Nat.le_of_ble_eq_true rfl, Nat.le_of_ble_eq_true rfl⟩) (preV X hV (F_X2_fade_3_g hc) rfl) rfl rfl hl.1 rfl (lv_room (Nat.le_of_ble_eq_true rfl)) dX1_goBy_44 ⟨(Nat.le_of_ble_eq_true rfl), (Nat.le_of_ble_eq_true rfl)⟩) hF (fun H locs hV hF => ?_)
      exact w_X1_goBy_47 X hr2 h hV hF (lv_sub hl [1, 2, 0] rfl)
set_option maxHeartbeats 4000000 in
theorem w_X1_goBy_2 {p : Program} {l : Launch} {e : Env} {s : State} {m : MethodId} {args : Array Value} {below : List Frame} {meth : Method} {c : Code} {g : Gl} (X : FX g p m c s args meth cX1_goBy 3 RX1 none "goBy") {r : Hp} {x0 : Nat}  : ∀ (n : Nat) (st : Hp × Int32), L_X1_goBy_2 x0 n st = some r → ∀ (H : Heap) (locs : List Loc) (ls : Array Slot), HV g st.1 H → FR g locs → lv_has ls 3 [(0, .ref x0), (1, .int st.2)] → W p l e rm_X1_goBy s m args below meth c H locs 0 0 (MQ below (Qv g r) args s 0 0 (frN g)) (F0 m 2 ls []) := by
  intro n
  induction n with
  | zero =>
    intro st h
    rw [L_X1_goBy_2_0] at h
    cases h
  | succ n ih =>
    intro st h H locs ls hV hF hl
    rw [L_X1_goBy_2_s] at h
    exact w_X1_goBy_2_b X  ih h hV hF hl
set_option maxHeartbeats 4000000 in
theorem c_X1_goBy (l : Launch) {g : Gl} {σ : Hp} {x0 : Nat} {r : Hp} (h : F_X1_goBy σ x0 = some r) : Met l yX1_goBy (ws_ yX1_goBy cX1_goBy 3 none) rm_X1_goBy (va_Pc [.ref x0] (WV g σ)) (Qv g r) 0 0 (frN g) := by
  refine ct_of (by decide) (Nat.le_of_ble_eq_true rfl) ?_
  intro p e s m below meth c ls X hV hl
  have hF : FR g [] := FR_nil
  unfold F_X1_goBy at h
  have hl : lv_has ls 3 [(0, .ref x0)] := hl
  have X : FX g p m c s _ meth cX1_goBy 3 RX1 none "goBy" := X
  obtain ⟨-, h⟩ := gd_inv h
  refine lv_iconst (v := 0) X.1 X.2.1 dX1_goBy_0 (by decide) ?_
  refine lv_istore_n (lv' := [(1, .int 0), (0, .ref x0)]) X.1 X.2.1 dX1_goBy_1 rfl hl (by decide) rfl (fun ls hl => ?_)
  exact w_X1_goBy_2 X  FU (σ, 0) h _ _ _ hV hF (lv_sub hl [1, 0] rfl)
/-! PalaceOfRooms.days -/
theorem dX0_days_0 : decode cX0_days 0 = .ok (.iload_n 1, 1) := by decide +kernel
theorem dX0_days_1 : decode cX0_days 1 = .ok (.i2l, 1) := by decide +kernel
theorem dX0_days_2 : decode cX0_days 2 = .ok (.lconst 1, 1) := by decide +kernel
theorem dX0_days_3 : decode cX0_days 3 = .ok (.ldc2_w 183, 3) := by decide +kernel
theorem dX0_days_6 : decode cX0_days 6 = .ok (.invokestatic 5, 3) := by decide +kernel
theorem dX0_days_9 : decode cX0_days 9 = .ok (.ifCond .eq 15, 3) := by decide +kernel
theorem dX0_days_12 : decode cX0_days 12 = .ok (.aload_n 0, 1) := by decide +kernel
theorem dX0_days_13 : decode cX0_days 13 = .ok (.getfield 153, 3) := by decide +kernel
theorem dX0_days_16 : decode cX0_days 16 = .ok (.iload_n 1, 1) := by decide +kernel
theorem dX0_days_17 : decode cX0_days 17 = .ok (.iadd, 1) := by decide +kernel
theorem dX0_days_18 : decode cX0_days 18 = .ok (.sipush 400, 3) := by decide +kernel
theorem dX0_days_21 : decode cX0_days 21 = .ok (.if_icmp .le 6, 3) := by decide +kernel
theorem dX0_days_24 : decode cX0_days 24 = .ok (.bipush (-3), 2) := by decide +kernel
theorem dX0_days_26 : decode cX0_days 26 = .ok (.ireturn, 1) := by decide +kernel
theorem dX0_days_27 : decode cX0_days 27 = .ok (.iconst 0, 1) := by decide +kernel
theorem dX0_days_28 : decode cX0_days 28 = .ok (.istore_n 2, 1) := by decide +kernel
theorem dX0_days_29 : decode cX0_days 29 = .ok (.iload_n 2, 1) := by decide +kernel
theorem dX0_days_30 : decode cX0_days 30 = .ok (.iload_n 1, 1) := by decide +kernel
theorem dX0_days_31 : decode cX0_days 31 = .ok (.if_icmp .ge 16, 3) := by decide +kernel
theorem dX0_days_34 : decode cX0_days 34 = .ok (.aload_n 0, 1) := by decide +kernel
theorem dX0_days_35 : decode cX0_days 35 = .ok (.getfield 43, 3) := by decide +kernel
theorem dX0_days_38 : decode cX0_days 38 = .ok (.invokevirtual 185, 3) := by decide +kernel
theorem dX0_days_41 : decode cX0_days 41 = .ok (.iinc 2 1, 3) := by decide +kernel
theorem dX0_days_44 : decode cX0_days 44 = .ok (.goto (-15), 3) := by decide +kernel
theorem dX0_days_47 : decode cX0_days 47 = .ok (.aload_n 0, 1) := by decide +kernel
theorem dX0_days_48 : decode cX0_days 48 = .ok (.dup, 1) := by decide +kernel
theorem dX0_days_49 : decode cX0_days 49 = .ok (.getfield 153, 3) := by decide +kernel
theorem dX0_days_52 : decode cX0_days 52 = .ok (.iload_n 1, 1) := by decide +kernel
theorem dX0_days_53 : decode cX0_days 53 = .ok (.iadd, 1) := by decide +kernel
theorem dX0_days_54 : decode cX0_days 54 = .ok (.putfield 153, 3) := by decide +kernel
theorem dX0_days_57 : decode cX0_days 57 = .ok (.aload_n 0, 1) := by decide +kernel
theorem dX0_days_58 : decode cX0_days 58 = .ok (.getfield 153, 3) := by decide +kernel
theorem dX0_days_61 : decode cX0_days 61 = .ok (.ireturn, 1) := by decide +kernel
theorem yd_X0_days : yX0_days.cls ≠ "java/lang/invoke/MethodHandle" ∧ yX0_days.cls ≠ "java/lang/invoke/VarHandle" ∧ (parseMethodDescriptor yX0_days.desc).map (fun d => d.parameters.length) = some 1 := by decide +kernel
theorem fp_X0_153_0 : FPk RX0 153 0 6 "I" false := ⟨RX0, TX0, 22, "PalaceOfRooms", tyX0, rfl, by decide, (fun q => by have h1 := q.1; have h2 := q.2; omega), rfl, in_X0, tyX0_ok, (fun a ha b hb h => Or.inl (nmX0 a ha b hb h)), rfl, (fun q => by cases q), (Or.inl q257), Or.inl rfl⟩
abbrev rm_X0_days : Room := { frames := 5, cells := 0, slots := 0, locals := 109 }
set_option maxHeartbeats 4000000 in
theorem w_X0_days_47 {p : Program} {l : Launch} {e : Env} {s : State} {m : MethodId} {args : Array Value} {below : List Frame} {meth : Method} {c : Code} {g : Gl} (X : FX g p m c s args meth cX0_days 3 RX0 (some .int) "days") {r : Int32 × Hp} {σ : Hp} {x0 : Nat} {x1 : Int32}  {H : Heap} {locs : List Loc} {ls : Array Slot} (h : F_X0_days_47 σ x0 x1 = some r) (hV : HV g σ H) (hF : FR g locs) (hl : lv_has ls 3 [(0, .ref x0), (1, .int x1)]) : W p l e rm_X0_days s m args below meth c H locs 0 0 (MQ below (Qi g r) args s 0 0 (frN g)) (F0 m 47 ls []) := by
  unfold F_X0_days_47 at h
  refine lv_aload_n X.1 X.2.1 dX0_days_47 rfl (lv_at hl 0 rfl) ?_
  refine lv_dup X.1 X.2.1 dX0_days_48 rfl ?_
  refine r_gI X hV fl_X0_153_0 dX0_days_49 h (fun v1 h => ?_)
  refine lv_iload_n X.1 X.2.1 dX0_days_52 rfl (lv_at hl 1 rfl) ?_
  refine lv_iadd X.1 X.2.1 dX0_days_53 ?_
  refine r_pI X hV hF fp_X0_153_0 (fun q => by cases q) dX0_days_54 h (fun s1 H locs hV hF h => ?_)
  refine lv_aload_n X.1 X.2.1 dX0_days_57 rfl (lv_at hl 0 rfl) ?_
  refine r_gI X hV fl_X0_153_0 dX0_days_58 h (fun v2 h => ?_)
  exact r_iret X hV hF h dX0_days_61
set_option maxHeartbeats 4000000 in
theorem w_X0_days_29_b {p : Program} {l : Launch} {e : Env} {s : State} {m : MethodId} {args : Array Value} {below : List Frame} {meth : Method} {c : Code} {g : Gl} (X : FX g p m c s args meth cX0_days 3 RX0 (some .int) "days") {r : Int32 × Hp} {rec29 : Hp × Int32 → Option (Int32 × Hp)} {x0 : Nat} {x1 : Int32} {σ : Hp} {x2 : Int32} (hr29 : ∀ (st : Hp × Int32), rec29 st = some r → ∀ (H : Heap) (locs : List Loc) (ls : Array Slot), HV g st.1 H → FR g locs → lv_has ls 3 [(0, .ref x0), (1, .int x1), (2, .int st.2)] → W p l e rm_X0_days s m args below meth c H locs 0 0 (MQ below (Qi g r) args s 0 0 (frN g)) (F0 m 29 ls [])) {H : Heap} {locs : List Loc} {ls : Array Slot} (h : B_X0_days_29 x0 x1 rec29 σ x2 = some r) (hV : HV g σ H) (hF : FR g locs) (hl : lv_has ls 3 [(0, .ref x0), (1, .int x1), (2, .int x2)]) : W p l e rm_X0_days s m args below meth c H locs 0 0 (MQ below (Qi g r) args s 0 0 (frN g)) (F0 m 29 ls []) := by
  unfold B_X0_days_29 at h
  refine lv_iload_n X.1 X.2.1 dX0_days_29 rfl (lv_at hl 2 rfl) ?_
  refine lv_iload_n X.1 X.2.1 dX0_days_30 rfl (lv_at hl 1 rfl) ?_
  refine r_ge (tgt := 47) X.1 X.2.1 dX0_days_31 (by decide) h (fun h => ?_) (fun h => ?_)
  · exact w_X0_days_47 X  h hV hF (lv_sub hl [0, 1] rfl)
  · refine lv_aload_n X.1 X.2.1 dX0_days_34 rfl (lv_at hl 0 rfl) ?_
    refine r_gR X hV fl_X0_43_0 (by decide) dX0_days_35 h (fun v1 h => ?_)
    obtain ⟨s1, hc, h⟩ := b1_inv h
    refine r_cv (va_runV (C := RX1) (As := []) (rest := []) (cfX X) (c_X1_goBy l hc) (cwV 0 X.2.2.2.2.1 (lw_V q432 q433 q434 q50 q435) rfl rfl rfl ⟨rfl, yd_X1_goBy⟩ ⟨Nat.le_of_ble_eq_true rfl, Nat.le_of_ble_eq_true rfl⟩) (preV X hV (F_X1_goBy_g hc) rfl) rfl rfl hl.1 rfl (lv_room (Nat.le_of_ble_eq_true rfl)) dX0_days_38 ⟨(Nat.le_of_ble_eq_true rfl), (Nat.le_of_ble_eq_true rfl)⟩) hF (fun H locs hV hF => ?_)
    refine lv_iinc (v := x2 + 1) (lv' := [(2, .int (x2 + 1)), (0, .ref x0), (1, .int x1)]) X.1 X.2.1 dX0_days_41 hl (k := 2) rfl rfl (by decide) rfl (fun ls hl => ?_)
    refine lv_goto (tgt := 29) X.1 X.2.1 dX0_days_44 (by decide) ?_
    exact hr29 (s1, x2 + 1) h _ _ _ hV hF (lv_sub hl [1, 2, 0] rfl)
set_option maxHeartbeats 4000000 in
theorem w_X0_days_29 {p : Program} {l : Launch} {e : Env} {s : State} {m : MethodId} {args : Array Value} {below : List Frame} {meth : Method} {c : Code} {g : Gl} (X : FX g p m c s args meth cX0_days 3 RX0 (some .int) "days") {r : Int32 × Hp} {x0 : Nat} {x1 : Int32}  : ∀ (n : Nat) (st : Hp × Int32), L_X0_days_29 x0 x1 n st = some r → ∀ (H : Heap) (locs : List Loc) (ls : Array Slot), HV g st.1 H → FR g locs → lv_has ls 3 [(0, .ref x0), (1, .int x1), (2, .int st.2)] → W p l e rm_X0_days s m args below meth c H locs 0 0 (MQ below (Qi g r) args s 0 0 (frN g)) (F0 m 29 ls []) := by
  intro n
  induction n with
  | zero =>
    intro st h
    rw [L_X0_days_29_0] at h
    cases h
  | succ n ih =>
    intro st h H locs ls hV hF hl
    rw [L_X0_days_29_s] at h
    exact w_X0_days_29_b X  ih h hV hF hl
set_option maxHeartbeats 4000000 in
theorem c_X0_days (l : Launch) {g : Gl} {σ : Hp} {x0 : Nat} {x1 : Int32} {r : Int32 × Hp} (h : F_X0_days σ x0 x1 = some r) : Met l yX0_days (ws_ yX0_days cX0_days 3 (some .int)) rm_X0_days (va_Pc [.ref x0, .int x1] (WV g σ)) (Qi g r) 0 0 (frN g) := by
  refine ct_of (by decide) (Nat.le_of_ble_eq_true rfl) ?_
  intro p e s m below meth c ls X hV hl
  have hF : FR g [] := FR_nil
  unfold F_X0_days at h
  have hl : lv_has ls 3 [(0, .ref x0), (1, .int x1)] := hl
  have X : FX g p m c s _ meth cX0_days 3 RX0 (some .int) "days" := X
  obtain ⟨-, h⟩ := gd_inv h
  refine lv_iload_n X.1 X.2.1 dX0_days_0 rfl (lv_at hl 1 rfl) ?_
  refine lv_i2l (v := (x1 : Int32).toInt64) X.1 X.2.1 dX0_days_1 rfl ?_
  refine lv_lconst (v := 1) X.1 X.2.1 dX0_days_2 (by decide) ?_
  refine lv_ldc2 (v := 60) X.1 X.2.1 X.2.2.2.1 (X.2.2.2.2.1 _ q431) dX0_days_3 ?_
  obtain ⟨v1, s1, hc, h⟩ := b2_inv h
  refine r_ci (va_runS (As := [.long ((x1 : Int32).toInt64), .long 1, .long 60]) (rest := []) (cfX X) (c_X0_isIn l hc) (va_cwS 3 X.2.2.2.2.1 (lw_S q331 q332 q49 q333) rfl rfl rfl yd_X0_isIn ⟨Nat.le_of_ble_eq_true rfl, Nat.le_of_ble_eq_true rfl⟩) (preS X hV) rfl rfl hl.1 rfl (lv_room (Nat.le_of_ble_eq_true rfl)) dX0_days_6 ⟨(Nat.le_of_ble_eq_true rfl), (Nat.le_of_ble_eq_true rfl)⟩) hF (fun H locs hV hF => ?_)
  refine r_ifeq (tgt := 24) X.1 X.2.1 dX0_days_9 (by decide) h (fun h => ?_) (fun h => ?_)
  · refine lv_bipush (v := (-3)) X.1 X.2.1 dX0_days_24 (by decide) ?_
    exact r_iret X hV hF h dX0_days_26
  · refine lv_aload_n X.1 X.2.1 dX0_days_12 rfl (lv_at hl 0 rfl) ?_
    refine r_gI X hV fl_X0_153_0 dX0_days_13 h (fun v2 h => ?_)
    refine lv_iload_n X.1 X.2.1 dX0_days_16 rfl (lv_at hl 1 rfl) ?_
    refine lv_iadd X.1 X.2.1 dX0_days_17 ?_
    refine lv_sipush (v := 400) X.1 X.2.1 dX0_days_18 (by decide) ?_
    refine r_le (tgt := 27) X.1 X.2.1 dX0_days_21 (by decide) h (fun h => ?_) (fun h => ?_)
    · refine lv_iconst (v := 0) X.1 X.2.1 dX0_days_27 (by decide) ?_
      refine lv_istore_n (lv' := [(2, .int 0), (0, .ref x0), (1, .int x1)]) X.1 X.2.1 dX0_days_28 rfl hl (by decide) rfl (fun ls hl => ?_)
      exact w_X0_days_29 X  FU (s1, 0) h _ _ _ hV hF (lv_sub hl [1, 2, 0] rfl)
    · refine lv_bipush (v := (-3)) X.1 X.2.1 dX0_days_24 (by decide) ?_
      exact r_iret X hV hF h dX0_days_26
/-! PalaceOfRooms$House.walk -/
theorem dX1_walk_0 : decode cX1_walk 0 = .ok (.iconst 0, 1) := by decide +kernel
theorem dX1_walk_1 : decode cX1_walk 1 = .ok (.istore_n 2, 1) := by decide +kernel
theorem dX1_walk_2 : decode cX1_walk 2 = .ok (.iload_n 1, 1) := by decide +kernel
theorem dX1_walk_3 : decode cX1_walk 3 = .ok (.bipush 6, 2) := by decide +kernel
theorem dX1_walk_5 : decode cX1_walk 5 = .ok (.imul, 1) := by decide +kernel
theorem dX1_walk_6 : decode cX1_walk 6 = .ok (.istore_n 3, 1) := by decide +kernel
theorem dX1_walk_7 : decode cX1_walk 7 = .ok (.iload_n 3, 1) := by decide +kernel
theorem dX1_walk_8 : decode cX1_walk 8 = .ok (.iload_n 1, 1) := by decide +kernel
theorem dX1_walk_9 : decode cX1_walk 9 = .ok (.iconst 1, 1) := by decide +kernel
theorem dX1_walk_10 : decode cX1_walk 10 = .ok (.iadd, 1) := by decide +kernel
theorem dX1_walk_11 : decode cX1_walk 11 = .ok (.bipush 6, 2) := by decide +kernel
theorem dX1_walk_13 : decode cX1_walk 13 = .ok (.imul, 1) := by decide +kernel
theorem dX1_walk_14 : decode cX1_walk 14 = .ok (.if_icmp .ge 67, 3) := by decide +kernel
theorem dX1_walk_17 : decode cX1_walk 17 = .ok (.aload_n 0, 1) := by decide +kernel
theorem dX1_walk_18 : decode cX1_walk 18 = .ok (.getfield 17, 3) := by decide +kernel
theorem dX1_walk_21 : decode cX1_walk 21 = .ok (.iload_n 3, 1) := by decide +kernel
theorem dX1_walk_22 : decode cX1_walk 22 = .ok (.aaload, 1) := by decide +kernel
theorem dX1_walk_23 : decode cX1_walk 23 = .ok (.astore 4, 2) := by decide +kernel
theorem dX1_walk_25 : decode cX1_walk 25 = .ok (.aload 4, 2) := by decide +kernel
theorem dX1_walk_27 : decode cX1_walk 27 = .ok (.invokevirtual 26, 3) := by decide +kernel
theorem dX1_walk_30 : decode cX1_walk 30 = .ok (.ifCond .eq 25, 3) := by decide +kernel
theorem dX1_walk_33 : decode cX1_walk 33 = .ok (.bipush 100, 2) := by decide +kernel
theorem dX1_walk_35 : decode cX1_walk 35 = .ok (.aload 4, 2) := by decide +kernel
theorem dX1_walk_37 : decode cX1_walk 37 = .ok (.getfield 42, 3) := by decide +kernel
theorem dX1_walk_40 : decode cX1_walk 40 = .ok (.isub, 1) := by decide +kernel
theorem dX1_walk_41 : decode cX1_walk 41 = .ok (.aload_n 0, 1) := by decide +kernel
theorem dX1_walk_42 : decode cX1_walk 42 = .ok (.getfield 3, 3) := by decide +kernel
theorem dX1_walk_45 : decode cX1_walk 45 = .ok (.getfield 62, 3) := by decide +kernel
theorem dX1_walk_48 : decode cX1_walk 48 = .ok (.imul, 1) := by decide +kernel
theorem dX1_walk_49 : decode cX1_walk 49 = .ok (.bipush 100, 2) := by decide +kernel
theorem dX1_walk_51 : decode cX1_walk 51 = .ok (.idiv, 1) := by decide +kernel
theorem dX1_walk_52 : decode cX1_walk 52 = .ok (.goto 4, 3) := by decide +kernel
theorem dX1_walk_55 : decode cX1_walk 55 = .ok (.iconst 0, 1) := by decide +kernel
theorem dX1_walk_56 : decode cX1_walk 56 = .ok (.istore 5, 2) := by decide +kernel
theorem dX1_walk_58 : decode cX1_walk 58 = .ok (.aload 4, 2) := by decide +kernel
theorem dX1_walk_60 : decode cX1_walk 60 = .ok (.dup, 1) := by decide +kernel
theorem dX1_walk_61 : decode cX1_walk 61 = .ok (.getfield 42, 3) := by decide +kernel
theorem dX1_walk_64 : decode cX1_walk 64 = .ok (.iload 5, 2) := by decide +kernel
theorem dX1_walk_66 : decode cX1_walk 66 = .ok (.iadd, 1) := by decide +kernel
theorem dX1_walk_67 : decode cX1_walk 67 = .ok (.putfield 42, 3) := by decide +kernel
theorem dX1_walk_70 : decode cX1_walk 70 = .ok (.iload_n 2, 1) := by decide +kernel
theorem dX1_walk_71 : decode cX1_walk 71 = .ok (.iload 5, 2) := by decide +kernel
theorem dX1_walk_73 : decode cX1_walk 73 = .ok (.iadd, 1) := by decide +kernel
theorem dX1_walk_74 : decode cX1_walk 74 = .ok (.istore_n 2, 1) := by decide +kernel
theorem dX1_walk_75 : decode cX1_walk 75 = .ok (.iinc 3 1, 3) := by decide +kernel
theorem dX1_walk_78 : decode cX1_walk 78 = .ok (.goto (-71), 3) := by decide +kernel
theorem dX1_walk_81 : decode cX1_walk 81 = .ok (.iload_n 2, 1) := by decide +kernel
theorem dX1_walk_82 : decode cX1_walk 82 = .ok (.ireturn, 1) := by decide +kernel
theorem yd_X1_walk : yX1_walk.cls ≠ "java/lang/invoke/MethodHandle" ∧ yX1_walk.cls ≠ "java/lang/invoke/VarHandle" ∧ (parseMethodDescriptor yX1_walk.desc).map (fun d => d.parameters.length) = some 1 := by decide +kernel
theorem fp_X1_42_3 : FPk RX1 42 3 1 "I" false := ⟨RX3, TX3, 4, "PalaceOfRooms$Corner", tyX3, rfl, by decide, (fun q => by have h1 := q.1; have h2 := q.2; omega), rfl, in_X3, tyX3_ok, (fun a ha b hb h => Or.inl (nmX3 a ha b hb h)), rfl, (fun q => by cases q), (Or.inl q121), Or.inr q119⟩
theorem fl_X1_62_0 : FLk RX1 62 0 4 "I" := ⟨RX0, TX0, 22, "PalaceOfRooms", rfl, by decide, (fun q => by have h1 := q.1; have h2 := q.2; omega), rfl, in_X0, Or.inr (List.mem_of_getElem? (i := 11) rfl), Or.inl rfl⟩
abbrev rm_X1_walk : Room := { frames := 1, cells := 0, slots := 0, locals := 20 }
set_option maxHeartbeats 4000000 in
theorem w_X1_walk_56 {p : Program} {l : Launch} {e : Env} {s : State} {m : MethodId} {args : Array Value} {below : List Frame} {meth : Method} {c : Code} {g : Gl} (X : FX g p m c s args meth cX1_walk 6 RX1 (some .int) "walk") {r : Int32 × Hp} {rec7 : Hp × Int32 × Int32 → Option (Int32 × Hp)} {σ : Hp} {x0 : Nat} {x1 : Int32} {x2 : Int32} {x3 : Int32} {x4 : Nat} {y0 : Int32} (hr7 : ∀ (st : Hp × Int32 × Int32), rec7 st = some r → ∀ (H : Heap) (locs : List Loc) (ls : Array Slot), HV g st.1 H → FR g locs → lv_has ls 6 [(0, .ref x0), (1, .int x1), (2, .int st.2.1), (3, .int st.2.2)] → W p l e rm_X1_walk s m args below meth c H locs 0 0 (MQ below (Qi g r) args s 0 0 (frN g)) (F0 m 7 ls [])) {H : Heap} {locs : List Loc} {ls : Array Slot} (h : F_X1_walk_56 rec7 σ x0 x1 x2 x3 x4 y0 = some r) (hV : HV g σ H) (hF : FR g locs) (hl : lv_has ls 6 [(0, .ref x0), (1, .int x1), (2, .int x2), (3, .int x3), (4, .ref x4)]) : W p l e rm_X1_walk s m args below meth c H locs 0 0 (MQ below (Qi g r) args s 0 0 (frN g)) (F0 m 56 ls [.int y0]) := by
  unfold F_X1_walk_56 at h
  refine lv_istore (lv' := [(5, .int y0), (0, .ref x0), (1, .int x1), (2, .int x2), (3, .int x3), (4, .ref x4)]) X.1 X.2.1 dX1_walk_56 hl (by decide) rfl (fun ls hl => ?_)
  refine lv_aload X.1 X.2.1 dX1_walk_58 (lv_at hl 5 rfl) ?_
  refine lv_dup X.1 X.2.1 dX1_walk_60 rfl ?_
  refine r_gI X hV fl_X1_42_3 dX1_walk_61 h (fun v1 h => ?_)
  refine lv_iload X.1 X.2.1 dX1_walk_64 (lv_at hl 0 rfl) ?_
  refine lv_iadd X.1 X.2.1 dX1_walk_66 ?_
  refine r_pI X hV hF fp_X1_42_3 (fun q => by cases q) dX1_walk_67 h (fun s1 H locs hV hF h => ?_)
  refine lv_iload_n X.1 X.2.1 dX1_walk_70 rfl (lv_at hl 3 rfl) ?_
  refine lv_iload X.1 X.2.1 dX1_walk_71 (lv_at hl 0 rfl) ?_
  refine lv_iadd X.1 X.2.1 dX1_walk_73 ?_
  refine lv_istore_n (lv' := [(2, .int (x2 + y0)), (5, .int y0), (0, .ref x0), (1, .int x1), (3, .int x3), (4, .ref x4)]) X.1 X.2.1 dX1_walk_74 rfl hl (by decide) rfl (fun ls hl => ?_)
  refine lv_iinc (v := x3 + 1) (lv' := [(3, .int (x3 + 1)), (2, .int (x2 + y0)), (5, .int y0), (0, .ref x0), (1, .int x1), (4, .ref x4)]) X.1 X.2.1 dX1_walk_75 hl (k := 4) rfl rfl (by decide) rfl (fun ls hl => ?_)
  refine lv_goto (tgt := 7) X.1 X.2.1 dX1_walk_78 (by decide) ?_
  exact hr7 (s1, x2 + y0, x3 + 1) h _ _ _ hV hF (lv_sub hl [3, 4, 1, 0] rfl)
set_option maxHeartbeats 4000000 in
theorem w_X1_walk_7_b {p : Program} {l : Launch} {e : Env} {s : State} {m : MethodId} {args : Array Value} {below : List Frame} {meth : Method} {c : Code} {g : Gl} (X : FX g p m c s args meth cX1_walk 6 RX1 (some .int) "walk") {r : Int32 × Hp} {rec7 : Hp × Int32 × Int32 → Option (Int32 × Hp)} {x0 : Nat} {x1 : Int32} {σ : Hp} {x2 : Int32} {x3 : Int32} (hr7 : ∀ (st : Hp × Int32 × Int32), rec7 st = some r → ∀ (H : Heap) (locs : List Loc) (ls : Array Slot), HV g st.1 H → FR g locs → lv_has ls 6 [(0, .ref x0), (1, .int x1), (2, .int st.2.1), (3, .int st.2.2)] → W p l e rm_X1_walk s m args below meth c H locs 0 0 (MQ below (Qi g r) args s 0 0 (frN g)) (F0 m 7 ls [])) {H : Heap} {locs : List Loc} {ls : Array Slot} (h : B_X1_walk_7 x0 x1 rec7 σ x2 x3 = some r) (hV : HV g σ H) (hF : FR g locs) (hl : lv_has ls 6 [(0, .ref x0), (1, .int x1), (2, .int x2), (3, .int x3)]) : W p l e rm_X1_walk s m args below meth c H locs 0 0 (MQ below (Qi g r) args s 0 0 (frN g)) (F0 m 7 ls []) := by
  unfold B_X1_walk_7 at h
  refine lv_iload_n X.1 X.2.1 dX1_walk_7 rfl (lv_at hl 3 rfl) ?_
  refine lv_iload_n X.1 X.2.1 dX1_walk_8 rfl (lv_at hl 1 rfl) ?_
  refine lv_iconst (v := 1) X.1 X.2.1 dX1_walk_9 (by decide) ?_
  refine lv_iadd X.1 X.2.1 dX1_walk_10 ?_
  refine lv_bipush (v := 6) X.1 X.2.1 dX1_walk_11 (by decide) ?_
  refine lv_imul X.1 X.2.1 dX1_walk_13 ?_
  refine r_ge (tgt := 81) X.1 X.2.1 dX1_walk_14 (by decide) h (fun h => ?_) (fun h => ?_)
  · refine lv_iload_n X.1 X.2.1 dX1_walk_81 rfl (lv_at hl 2 rfl) ?_
    exact r_iret X hV hF h dX1_walk_82
  · refine lv_aload_n X.1 X.2.1 dX1_walk_17 rfl (lv_at hl 0 rfl) ?_
    refine r_gR X hV fl_X1_17_1 (by decide) dX1_walk_18 h (fun v1 h => ?_)
    refine lv_iload_n X.1 X.2.1 dX1_walk_21 rfl (lv_at hl 3 rfl) ?_
    refine r_aa X hV dX1_walk_22 (by decide) h (fun v2 h => ?_)
    refine lv_astore (lv' := [(4, .ref v2), (0, .ref x0), (1, .int x1), (2, .int x2), (3, .int x3)]) X.1 X.2.1 dX1_walk_23 hl (by decide) rfl (fun ls hl => ?_)
    refine lv_aload X.1 X.2.1 dX1_walk_25 (lv_at hl 0 rfl) ?_
    obtain ⟨v3, s1, hc, h⟩ := b2_inv h
    refine r_ci (va_runU (C := RX3) (x := ⟨"PalaceOfRooms$Corner", "isThere", "()Z"⟩) (As := []) (rest := []) (cfX X) (c_X2_isThere_3 l hc) (va_cwU (owner := RX2) 0 X.2.2.2.2.1 (lw_app (lw_in _ [436, 407, 409, 410, 51] (by decide +kernel) (by decide +kernel)) (lw_meth q411)) rfl rfl rfl rfl yd_X2_isThere ⟨Nat.le_of_ble_eq_true rfl, Nat.le_of_ble_eq_true rfl⟩) (preV X hV (F_X2_isThere_3_g hc) rfl) rfl rfl hl.1 rfl (lv_room (Nat.le_of_ble_eq_true rfl)) dX1_walk_27 ⟨(Nat.le_of_ble_eq_true rfl), (Nat.le_of_ble_eq_true rfl)⟩) hF (fun H locs hV hF => ?_)
    refine r_ifeq (tgt := 55) X.1 X.2.1 dX1_walk_30 (by decide) h (fun h => ?_) (fun h => ?_)
    · refine lv_iconst (v := 0) X.1 X.2.1 dX1_walk_55 (by decide) ?_
      exact w_X1_walk_56 X hr7 h hV hF (lv_sub hl [1, 2, 3, 4, 0] rfl)
    · refine lv_bipush (v := 100) X.1 X.2.1 dX1_walk_33 (by decide) ?_
      refine lv_aload X.1 X.2.1 dX1_walk_35 (lv_at hl 0 rfl) ?_
      refine r_gI X hV fl_X1_42_3 dX1_walk_37 h (fun v4 h => ?_)
      refine lv_isub X.1 X.2.1 dX1_walk_40 ?_
      refine lv_aload_n X.1 X.2.1 dX1_walk_41 rfl (lv_at hl 1 rfl) ?_
      refine r_gR X hV fl_X1_3_1 (by decide) dX1_walk_42 h (fun v5 h => ?_)
      refine r_gI X hV fl_X1_62_0 dX1_walk_45 h (fun v6 h => ?_)
      refine lv_imul X.1 X.2.1 dX1_walk_48 ?_
      refine lv_bipush (v := 100) X.1 X.2.1 dX1_walk_49 (by decide) ?_
      refine lv_idiv X.1 X.2.1 dX1_walk_51 (by decide) ?_
      refine lv_goto (tgt := 56) X.1 X.2.1 dX1_walk_52 (by decide) ?_
      exact w_X1_walk_56 X hr7 h hV hF (lv_sub hl [1, 2, 3, 4, 0] rfl)
set_option maxHeartbeats 4000000 in
theorem w_X1_walk_7 {p : Program} {l : Launch} {e : Env} {s : State} {m : MethodId} {args : Array Value} {below : List Frame} {meth : Method} {c : Code} {g : Gl} (X : FX g p m c s args meth cX1_walk 6 RX1 (some .int) "walk") {r : Int32 × Hp} {x0 : Nat} {x1 : Int32}  : ∀ (n : Nat) (st : Hp × Int32 × Int32), L_X1_walk_7 x0 x1 n st = some r → ∀ (H : Heap) (locs : List Loc) (ls : Array Slot), HV g st.1 H → FR g locs → lv_has ls 6 [(0, .ref x0), (1, .int x1), (2, .int st.2.1), (3, .int st.2.2)] → W p l e rm_X1_walk s m args below meth c H locs 0 0 (MQ below (Qi g r) args s 0 0 (frN g)) (F0 m 7 ls []) := by
  intro n
  induction n with
  | zero =>
    intro st h
    rw [L_X1_walk_7_0] at h
    cases h
  | succ n ih =>
    intro st h H locs ls hV hF hl
    rw [L_X1_walk_7_s] at h
    exact w_X1_walk_7_b X  ih h hV hF hl
set_option maxHeartbeats 4000000 in
theorem c_X1_walk (l : Launch) {g : Gl} {σ : Hp} {x0 : Nat} {x1 : Int32} {r : Int32 × Hp} (h : F_X1_walk σ x0 x1 = some r) : Met l yX1_walk (ws_ yX1_walk cX1_walk 6 (some .int)) rm_X1_walk (va_Pc [.ref x0, .int x1] (WV g σ)) (Qi g r) 0 0 (frN g) := by
  refine ct_of (by decide) (Nat.le_of_ble_eq_true rfl) ?_
  intro p e s m below meth c ls X hV hl
  have hF : FR g [] := FR_nil
  unfold F_X1_walk at h
  have hl : lv_has ls 6 [(0, .ref x0), (1, .int x1)] := hl
  have X : FX g p m c s _ meth cX1_walk 6 RX1 (some .int) "walk" := X
  obtain ⟨-, h⟩ := gd_inv h
  refine lv_iconst (v := 0) X.1 X.2.1 dX1_walk_0 (by decide) ?_
  refine lv_istore_n (lv' := [(2, .int 0), (0, .ref x0), (1, .int x1)]) X.1 X.2.1 dX1_walk_1 rfl hl (by decide) rfl (fun ls hl => ?_)
  refine lv_iload_n X.1 X.2.1 dX1_walk_2 rfl (lv_at hl 2 rfl) ?_
  refine lv_bipush (v := 6) X.1 X.2.1 dX1_walk_3 (by decide) ?_
  refine lv_imul X.1 X.2.1 dX1_walk_5 ?_
  refine lv_istore_n (lv' := [(3, .int (x1 * 6)), (2, .int 0), (0, .ref x0), (1, .int x1)]) X.1 X.2.1 dX1_walk_6 rfl hl (by decide) rfl (fun ls hl => ?_)
  exact w_X1_walk_7 X  FU (σ, 0, x1 * 6) h _ _ _ hV hF (lv_sub hl [2, 3, 1, 0] rfl)
/-! PalaceOfRooms.walk -/
theorem dX0_walk_0 : decode cX0_walk 0 = .ok (.iload_n 1, 1) := by decide +kernel
theorem dX0_walk_1 : decode cX0_walk 1 = .ok (.invokestatic 105, 3) := by decide +kernel
theorem dX0_walk_4 : decode cX0_walk 4 = .ok (.ifCond .ne 6, 3) := by decide +kernel
theorem dX0_walk_7 : decode cX0_walk 7 = .ok (.bipush (-2), 2) := by decide +kernel
theorem dX0_walk_9 : decode cX0_walk 9 = .ok (.ireturn, 1) := by decide +kernel
theorem dX0_walk_10 : decode cX0_walk 10 = .ok (.aload_n 0, 1) := by decide +kernel
theorem dX0_walk_11 : decode cX0_walk 11 = .ok (.getfield 50, 3) := by decide +kernel
theorem dX0_walk_14 : decode cX0_walk 14 = .ok (.iload_n 1, 1) := by decide +kernel
theorem dX0_walk_15 : decode cX0_walk 15 = .ok (.aload_n 0, 1) := by decide +kernel
theorem dX0_walk_16 : decode cX0_walk 16 = .ok (.getfield 153, 3) := by decide +kernel
theorem dX0_walk_19 : decode cX0_walk 19 = .ok (.iastore, 1) := by decide +kernel
theorem dX0_walk_20 : decode cX0_walk 20 = .ok (.aload_n 0, 1) := by decide +kernel
theorem dX0_walk_21 : decode cX0_walk 21 = .ok (.getfield 43, 3) := by decide +kernel
theorem dX0_walk_24 : decode cX0_walk 24 = .ok (.iload_n 1, 1) := by decide +kernel
theorem dX0_walk_25 : decode cX0_walk 25 = .ok (.invokevirtual 188, 3) := by decide +kernel
theorem dX0_walk_28 : decode cX0_walk 28 = .ok (.ireturn, 1) := by decide +kernel
theorem yd_X0_walk : yX0_walk.cls ≠ "java/lang/invoke/MethodHandle" ∧ yX0_walk.cls ≠ "java/lang/invoke/VarHandle" ∧ (parseMethodDescriptor yX0_walk.desc).map (fun d => d.parameters.length) = some 1 := by decide +kernel
theorem fl_X0_50_0 : FLk RX0 50 0 9 "[I" := ⟨RX0, TX0, 22, "PalaceOfRooms", rfl, by decide, (fun q => by have h1 := q.1; have h2 := q.2; omega), rfl, in_X0, Or.inl q260, Or.inl rfl⟩
abbrev rm_X0_walk : Room := { frames := 2, cells := 0, slots := 0, locals := 45 }
set_option maxHeartbeats 4000000 in
theorem c_X0_walk (l : Launch) {g : Gl} {σ : Hp} {x0 : Nat} {x1 : Int32} {r : Int32 × Hp} (h : F_X0_walk σ x0 x1 = some r) : Met l yX0_walk (ws_ yX0_walk cX0_walk 2 (some .int)) rm_X0_walk (va_Pc [.ref x0, .int x1] (WV g σ)) (Qi g r) 0 0 (frN g) := by
  refine ct_of (by decide) (Nat.le_of_ble_eq_true rfl) ?_
  intro p e s m below meth c ls X hV hl
  have hF : FR g [] := FR_nil
  unfold F_X0_walk at h
  have hl : lv_has ls 2 [(0, .ref x0), (1, .int x1)] := hl
  have X : FX g p m c s _ meth cX0_walk 2 RX0 (some .int) "walk" := X
  obtain ⟨-, h⟩ := gd_inv h
  refine lv_iload_n X.1 X.2.1 dX0_walk_0 rfl (lv_at hl 1 rfl) ?_
  obtain ⟨v1, s1, hc, h⟩ := b2_inv h
  refine r_ci (va_runS (As := [.int x1]) (rest := []) (cfX X) (c_X0_isRoom l hc) (va_cwS 1 X.2.2.2.2.1 (lw_S q327 q328 q49 q329) rfl rfl rfl yd_X0_isRoom ⟨Nat.le_of_ble_eq_true rfl, Nat.le_of_ble_eq_true rfl⟩) (preS X hV) rfl rfl hl.1 rfl (lv_room (Nat.le_of_ble_eq_true rfl)) dX0_walk_1 ⟨(Nat.le_of_ble_eq_true rfl), (Nat.le_of_ble_eq_true rfl)⟩) hF (fun H locs hV hF => ?_)
  refine r_ifne (tgt := 10) X.1 X.2.1 dX0_walk_4 (by decide) h (fun h => ?_) (fun h => ?_)
  · refine lv_aload_n X.1 X.2.1 dX0_walk_10 rfl (lv_at hl 0 rfl) ?_
    refine r_gR X hV fl_X0_50_0 (by decide) dX0_walk_11 h (fun v2 h => ?_)
    refine lv_iload_n X.1 X.2.1 dX0_walk_14 rfl (lv_at hl 1 rfl) ?_
    refine lv_aload_n X.1 X.2.1 dX0_walk_15 rfl (lv_at hl 0 rfl) ?_
    refine r_gI X hV fl_X0_153_0 dX0_walk_16 h (fun v3 h => ?_)
    refine r_is X hV hF dX0_walk_19 h (fun s2 H locs hV hF h => ?_)
    refine lv_aload_n X.1 X.2.1 dX0_walk_20 rfl (lv_at hl 0 rfl) ?_
    refine r_gR X hV fl_X0_43_0 (by decide) dX0_walk_21 h (fun v4 h => ?_)
    refine lv_iload_n X.1 X.2.1 dX0_walk_24 rfl (lv_at hl 1 rfl) ?_
    obtain ⟨v5, s3, hc, h⟩ := b2_inv h
    refine r_ci (va_runV (C := RX1) (As := [.int x1]) (rest := []) (cfX X) (c_X1_walk l hc) (cwV 1 X.2.2.2.2.1 (lw_V q465 q466 q467 q50 q468) rfl rfl rfl ⟨rfl, yd_X1_walk⟩ ⟨Nat.le_of_ble_eq_true rfl, Nat.le_of_ble_eq_true rfl⟩) (preV X hV (F_X1_walk_g hc) rfl) rfl rfl hl.1 rfl (lv_room (Nat.le_of_ble_eq_true rfl)) dX0_walk_25 ⟨(Nat.le_of_ble_eq_true rfl), (Nat.le_of_ble_eq_true rfl)⟩) hF (fun H locs hV hF => ?_)
    exact r_iret X hV hF h dX0_walk_28
  · refine lv_bipush (v := (-2)) X.1 X.2.1 dX0_walk_7 (by decide) ?_
    exact r_iret X hV hF h dX0_walk_9
/-! PalaceOfRooms.write -/
theorem dX0_write_0 : decode cX0_write 0 = .ok (.iload_n 3, 1) := by decide +kernel
theorem dX0_write_1 : decode cX0_write 1 = .ok (.i2l, 1) := by decide +kernel
theorem dX0_write_2 : decode cX0_write 2 = .ok (.lconst 1, 1) := by decide +kernel
theorem dX0_write_3 : decode cX0_write 3 = .ok (.ldc2_w 130, 3) := by decide +kernel
theorem dX0_write_6 : decode cX0_write 6 = .ok (.invokestatic 5, 3) := by decide +kernel
theorem dX0_write_9 : decode cX0_write 9 = .ok (.ifCond .ne 6, 3) := by decide +kernel
theorem dX0_write_12 : decode cX0_write 12 = .ok (.bipush (-3), 2) := by decide +kernel
theorem dX0_write_14 : decode cX0_write 14 = .ok (.ireturn, 1) := by decide +kernel
theorem dX0_write_15 : decode cX0_write 15 = .ok (.aload_n 0, 1) := by decide +kernel
theorem dX0_write_16 : decode cX0_write 16 = .ok (.getfield 191, 3) := by decide +kernel
theorem dX0_write_19 : decode cX0_write 19 = .ok (.iload_n 3, 1) := by decide +kernel
theorem dX0_write_20 : decode cX0_write 20 = .ok (.iadd, 1) := by decide +kernel
theorem dX0_write_21 : decode cX0_write 21 = .ok (.sipush 160, 3) := by decide +kernel
theorem dX0_write_24 : decode cX0_write 24 = .ok (.if_icmp .le 6, 3) := by decide +kernel
theorem dX0_write_27 : decode cX0_write 27 = .ok (.bipush (-5), 2) := by decide +kernel
theorem dX0_write_29 : decode cX0_write 29 = .ok (.ireturn, 1) := by decide +kernel
theorem dX0_write_30 : decode cX0_write 30 = .ok (.iconst 0, 1) := by decide +kernel
theorem dX0_write_31 : decode cX0_write 31 = .ok (.istore 4, 2) := by decide +kernel
theorem dX0_write_33 : decode cX0_write 33 = .ok (.iload 4, 2) := by decide +kernel
theorem dX0_write_35 : decode cX0_write 35 = .ok (.iload_n 3, 1) := by decide +kernel
theorem dX0_write_36 : decode cX0_write 36 = .ok (.if_icmp .ge 37, 3) := by decide +kernel
theorem dX0_write_39 : decode cX0_write 39 = .ok (.aload_n 0, 1) := by decide +kernel
theorem dX0_write_40 : decode cX0_write 40 = .ok (.getfield 59, 3) := by decide +kernel
theorem dX0_write_43 : decode cX0_write 43 = .ok (.aload_n 0, 1) := by decide +kernel
theorem dX0_write_44 : decode cX0_write 44 = .ok (.getfield 191, 3) := by decide +kernel
theorem dX0_write_47 : decode cX0_write 47 = .ok (.lload_n 1, 1) := by decide +kernel
theorem dX0_write_48 : decode cX0_write 48 = .ok (.bipush 8, 2) := by decide +kernel
theorem dX0_write_50 : decode cX0_write 50 = .ok (.iload 4, 2) := by decide +kernel
theorem dX0_write_52 : decode cX0_write 52 = .ok (.imul, 1) := by decide +kernel
theorem dX0_write_53 : decode cX0_write 53 = .ok (.lshr, 1) := by decide +kernel
theorem dX0_write_54 : decode cX0_write 54 = .ok (.l2i, 1) := by decide +kernel
theorem dX0_write_55 : decode cX0_write 55 = .ok (.i2b, 1) := by decide +kernel
theorem dX0_write_56 : decode cX0_write 56 = .ok (.bastore, 1) := by decide +kernel
theorem dX0_write_57 : decode cX0_write 57 = .ok (.aload_n 0, 1) := by decide +kernel
theorem dX0_write_58 : decode cX0_write 58 = .ok (.dup, 1) := by decide +kernel
theorem dX0_write_59 : decode cX0_write 59 = .ok (.getfield 191, 3) := by decide +kernel
theorem dX0_write_62 : decode cX0_write 62 = .ok (.iconst 1, 1) := by decide +kernel
theorem dX0_write_63 : decode cX0_write 63 = .ok (.iadd, 1) := by decide +kernel
theorem dX0_write_64 : decode cX0_write 64 = .ok (.putfield 191, 3) := by decide +kernel
theorem dX0_write_67 : decode cX0_write 67 = .ok (.iinc 4 1, 3) := by decide +kernel
theorem dX0_write_70 : decode cX0_write 70 = .ok (.goto (-37), 3) := by decide +kernel
theorem dX0_write_73 : decode cX0_write 73 = .ok (.aload_n 0, 1) := by decide +kernel
theorem dX0_write_74 : decode cX0_write 74 = .ok (.getfield 191, 3) := by decide +kernel
theorem dX0_write_77 : decode cX0_write 77 = .ok (.ireturn, 1) := by decide +kernel
theorem yd_X0_write : yX0_write.cls ≠ "java/lang/invoke/MethodHandle" ∧ yX0_write.cls ≠ "java/lang/invoke/VarHandle" ∧ (parseMethodDescriptor yX0_write.desc).map (fun d => d.parameters.length) = some 2 := by decide +kernel
theorem fl_X0_191_0 : FLk RX0 191 0 13 "I" := ⟨RX0, TX0, 22, "PalaceOfRooms", rfl, by decide, (fun q => by have h1 := q.1; have h2 := q.2; omega), rfl, in_X0, Or.inl q266, Or.inl rfl⟩
theorem fl_X0_59_0 : FLk RX0 59 0 12 "[B" := ⟨RX0, TX0, 22, "PalaceOfRooms", rfl, by decide, (fun q => by have h1 := q.1; have h2 := q.2; omega), rfl, in_X0, Or.inl q264, Or.inl rfl⟩
theorem fp_X0_191_0 : FPk RX0 191 0 13 "I" false := ⟨RX0, TX0, 22, "PalaceOfRooms", tyX0, rfl, by decide, (fun q => by have h1 := q.1; have h2 := q.2; omega), rfl, in_X0, tyX0_ok, (fun a ha b hb h => Or.inl (nmX0 a ha b hb h)), rfl, (fun q => by cases q), (Or.inl q266), Or.inl rfl⟩
abbrev rm_X0_write : Room := { frames := 1, cells := 0, slots := 0, locals := 25 }
set_option maxHeartbeats 4000000 in
theorem w_X0_write_33_b {p : Program} {l : Launch} {e : Env} {s : State} {m : MethodId} {args : Array Value} {below : List Frame} {meth : Method} {c : Code} {g : Gl} (X : FX g p m c s args meth cX0_write 5 RX0 (some .int) "write") {r : Int32 × Hp} {rec33 : Hp × Int32 → Option (Int32 × Hp)} {x0 : Nat} {x1 : Int64} {x3 : Int32} {σ : Hp} {x4 : Int32} (hr33 : ∀ (st : Hp × Int32), rec33 st = some r → ∀ (H : Heap) (locs : List Loc) (ls : Array Slot), HV g st.1 H → FR g locs → lv_has ls 5 [(0, .ref x0), (1, .long x1), (3, .int x3), (4, .int st.2)] → W p l e rm_X0_write s m args below meth c H locs 0 0 (MQ below (Qi g r) args s 0 0 (frN g)) (F0 m 33 ls [])) {H : Heap} {locs : List Loc} {ls : Array Slot} (h : B_X0_write_33 x0 x1 x3 rec33 σ x4 = some r) (hV : HV g σ H) (hF : FR g locs) (hl : lv_has ls 5 [(0, .ref x0), (1, .long x1), (3, .int x3), (4, .int x4)]) : W p l e rm_X0_write s m args below meth c H locs 0 0 (MQ below (Qi g r) args s 0 0 (frN g)) (F0 m 33 ls []) := by
  unfold B_X0_write_33 at h
  refine lv_iload X.1 X.2.1 dX0_write_33 (lv_at hl 3 rfl) ?_
  refine lv_iload_n X.1 X.2.1 dX0_write_35 rfl (lv_at hl 2 rfl) ?_
  refine r_ge (tgt := 73) X.1 X.2.1 dX0_write_36 (by decide) h (fun h => ?_) (fun h => ?_)
  · refine lv_aload_n X.1 X.2.1 dX0_write_73 rfl (lv_at hl 0 rfl) ?_
    refine r_gI X hV fl_X0_191_0 dX0_write_74 h (fun v1 h => ?_)
    exact r_iret X hV hF h dX0_write_77
  · refine lv_aload_n X.1 X.2.1 dX0_write_39 rfl (lv_at hl 0 rfl) ?_
    refine r_gR X hV fl_X0_59_0 (by decide) dX0_write_40 h (fun v2 h => ?_)
    refine lv_aload_n X.1 X.2.1 dX0_write_43 rfl (lv_at hl 0 rfl) ?_
    refine r_gI X hV fl_X0_191_0 dX0_write_44 h (fun v3 h => ?_)
    refine lv_lload_n X.1 X.2.1 dX0_write_47 rfl (lv_at hl 1 rfl) ?_
    refine lv_bipush (v := 8) X.1 X.2.1 dX0_write_48 (by decide) ?_
    refine lv_iload X.1 X.2.1 dX0_write_50 (lv_at hl 3 rfl) ?_
    refine lv_imul X.1 X.2.1 dX0_write_52 ?_
    refine lv_lshr (v := x1 >>> ((8 * x4 : Int32).toInt64 &&& 63)) X.1 X.2.1 dX0_write_53 rfl ?_
    refine lv_l2i (v := (x1 >>> ((8 * x4 : Int32).toInt64 &&& 63) : Int64).toInt32) X.1 X.2.1 dX0_write_54 rfl ?_
    refine lv_i2b (v := ((x1 >>> ((8 * x4 : Int32).toInt64 &&& 63) : Int64).toInt32 : Int32).toInt8.toInt32) X.1 X.2.1 dX0_write_55 rfl ?_
    refine r_bs X hV hF dX0_write_56 h (fun s1 H locs hV hF h => ?_)
    refine lv_aload_n X.1 X.2.1 dX0_write_57 rfl (lv_at hl 0 rfl) ?_
    refine lv_dup X.1 X.2.1 dX0_write_58 rfl ?_
    refine r_gI X hV fl_X0_191_0 dX0_write_59 h (fun v4 h => ?_)
    refine lv_iconst (v := 1) X.1 X.2.1 dX0_write_62 (by decide) ?_
    refine lv_iadd X.1 X.2.1 dX0_write_63 ?_
    refine r_pI X hV hF fp_X0_191_0 (fun q => by cases q) dX0_write_64 h (fun s2 H locs hV hF h => ?_)
    refine lv_iinc (v := x4 + 1) (lv' := [(4, .int (x4 + 1)), (0, .ref x0), (1, .long x1), (3, .int x3)]) X.1 X.2.1 dX0_write_67 hl (k := 3) rfl rfl (by decide) rfl (fun ls hl => ?_)
    refine lv_goto (tgt := 33) X.1 X.2.1 dX0_write_70 (by decide) ?_
    exact hr33 (s2, x4 + 1) h _ _ _ hV hF (lv_sub hl [1, 2, 3, 0] rfl)
set_option maxHeartbeats 4000000 in
theorem w_X0_write_33 {p : Program} {l : Launch} {e : Env} {s : State} {m : MethodId} {args : Array Value} {below : List Frame} {meth : Method} {c : Code} {g : Gl} (X : FX g p m c s args meth cX0_write 5 RX0 (some .int) "write") {r : Int32 × Hp} {x0 : Nat} {x1 : Int64} {x3 : Int32}  : ∀ (n : Nat) (st : Hp × Int32), L_X0_write_33 x0 x1 x3 n st = some r → ∀ (H : Heap) (locs : List Loc) (ls : Array Slot), HV g st.1 H → FR g locs → lv_has ls 5 [(0, .ref x0), (1, .long x1), (3, .int x3), (4, .int st.2)] → W p l e rm_X0_write s m args below meth c H locs 0 0 (MQ below (Qi g r) args s 0 0 (frN g)) (F0 m 33 ls []) := by
  intro n
  induction n with
  | zero =>
    intro st h
    rw [L_X0_write_33_0] at h
    cases h
  | succ n ih =>
    intro st h H locs ls hV hF hl
    rw [L_X0_write_33_s] at h
    exact w_X0_write_33_b X  ih h hV hF hl
set_option maxHeartbeats 4000000 in
theorem c_X0_write (l : Launch) {g : Gl} {σ : Hp} {x0 : Nat} {x1 : Int64} {x3 : Int32} {r : Int32 × Hp} (h : F_X0_write σ x0 x1 x3 = some r) : Met l yX0_write (ws_ yX0_write cX0_write 5 (some .int)) rm_X0_write (va_Pc [.ref x0, .long x1, .int x3] (WV g σ)) (Qi g r) 0 0 (frN g) := by
  refine ct_of (by decide) (Nat.le_of_ble_eq_true rfl) ?_
  intro p e s m below meth c ls X hV hl
  have hF : FR g [] := FR_nil
  unfold F_X0_write at h
  have hl : lv_has ls 5 [(0, .ref x0), (1, .long x1), (3, .int x3)] := hl
  have X : FX g p m c s _ meth cX0_write 5 RX0 (some .int) "write" := X
  obtain ⟨-, h⟩ := gd_inv h
  refine lv_iload_n X.1 X.2.1 dX0_write_0 rfl (lv_at hl 2 rfl) ?_
  refine lv_i2l (v := (x3 : Int32).toInt64) X.1 X.2.1 dX0_write_1 rfl ?_
  refine lv_lconst (v := 1) X.1 X.2.1 dX0_write_2 (by decide) ?_
  refine lv_ldc2 (v := 8) X.1 X.2.1 X.2.2.2.1 (X.2.2.2.2.1 _ q369) dX0_write_3 ?_
  obtain ⟨v1, s1, hc, h⟩ := b2_inv h
  refine r_ci (va_runS (As := [.long ((x3 : Int32).toInt64), .long 1, .long 8]) (rest := []) (cfX X) (c_X0_isIn l hc) (va_cwS 3 X.2.2.2.2.1 (lw_S q331 q332 q49 q333) rfl rfl rfl yd_X0_isIn ⟨Nat.le_of_ble_eq_true rfl, Nat.le_of_ble_eq_true rfl⟩) (preS X hV) rfl rfl hl.1 rfl (lv_room (Nat.le_of_ble_eq_true rfl)) dX0_write_6 ⟨(Nat.le_of_ble_eq_true rfl), (Nat.le_of_ble_eq_true rfl)⟩) hF (fun H locs hV hF => ?_)
  refine r_ifne (tgt := 15) X.1 X.2.1 dX0_write_9 (by decide) h (fun h => ?_) (fun h => ?_)
  · refine lv_aload_n X.1 X.2.1 dX0_write_15 rfl (lv_at hl 0 rfl) ?_
    refine r_gI X hV fl_X0_191_0 dX0_write_16 h (fun v2 h => ?_)
    refine lv_iload_n X.1 X.2.1 dX0_write_19 rfl (lv_at hl 2 rfl) ?_
    refine lv_iadd X.1 X.2.1 dX0_write_20 ?_
    refine lv_sipush (v := 160) X.1 X.2.1 dX0_write_21 (by decide) ?_
    refine r_le (tgt := 30) X.1 X.2.1 dX0_write_24 (by decide) h (fun h => ?_) (fun h => ?_)
    · refine lv_iconst (v := 0) X.1 X.2.1 dX0_write_30 (by decide) ?_
      refine lv_istore (lv' := [(4, .int 0), (0, .ref x0), (1, .long x1), (3, .int x3)]) X.1 X.2.1 dX0_write_31 hl (by decide) rfl (fun ls hl => ?_)
      exact w_X0_write_33 X  FU (s1, 0) h _ _ _ hV hF (lv_sub hl [1, 2, 3, 0] rfl)
    · refine lv_bipush (v := (-5)) X.1 X.2.1 dX0_write_27 (by decide) ?_
      exact r_iret X hV hF h dX0_write_29
  · refine lv_bipush (v := (-3)) X.1 X.2.1 dX0_write_12 (by decide) ?_
    exact r_iret X hV hF h dX0_write_14
