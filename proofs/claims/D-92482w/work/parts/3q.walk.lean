set_option maxRecDepth 100000
/-! PalaceOfRooms$Reader.number -/
theorem dX5_number_0 : decode cX5_number 0 = .ok (.aload_n 0, 1) := by decide +kernel
theorem dX5_number_1 : decode cX5_number 1 = .ok (.getfield 38, 3) := by decide +kernel
theorem dX5_number_4 : decode cX5_number 4 = .ok (.aload_n 0, 1) := by decide +kernel
theorem dX5_number_5 : decode cX5_number 5 = .ok (.getfield 3, 3) := by decide +kernel
theorem dX5_number_8 : decode cX5_number 8 = .ok (.getfield 35, 3) := by decide +kernel
theorem dX5_number_11 : decode cX5_number 11 = .ok (.if_icmp .ge 32, 3) := by decide +kernel
theorem dX5_number_14 : decode cX5_number 14 = .ok (.aload_n 0, 1) := by decide +kernel
theorem dX5_number_15 : decode cX5_number 15 = .ok (.aload_n 0, 1) := by decide +kernel
theorem dX5_number_16 : decode cX5_number 16 = .ok (.getfield 38, 3) := by decide +kernel
theorem dX5_number_19 : decode cX5_number 19 = .ok (.invokevirtual 41, 3) := by decide +kernel
theorem dX5_number_22 : decode cX5_number 22 = .ok (.iconst 2, 1) := by decide +kernel
theorem dX5_number_23 : decode cX5_number 23 = .ok (.if_icmp .ne 20, 3) := by decide +kernel
theorem dX5_number_26 : decode cX5_number 26 = .ok (.aload_n 0, 1) := by decide +kernel
theorem dX5_number_27 : decode cX5_number 27 = .ok (.getfield 45, 3) := by decide +kernel
theorem dX5_number_30 : decode cX5_number 30 = .ok (.aload_n 0, 1) := by decide +kernel
theorem dX5_number_31 : decode cX5_number 31 = .ok (.getfield 38, 3) := by decide +kernel
theorem dX5_number_34 : decode cX5_number 34 = .ok (.isub, 1) := by decide +kernel
theorem dX5_number_35 : decode cX5_number 35 = .ok (.iconst 2, 1) := by decide +kernel
theorem dX5_number_36 : decode cX5_number 36 = .ok (.if_icmp .gt 7, 3) := by decide +kernel
theorem dX5_number_39 : decode cX5_number 39 = .ok (.iconst 1, 1) := by decide +kernel
theorem dX5_number_40 : decode cX5_number 40 = .ok (.goto 4, 3) := by decide +kernel
theorem dX5_number_43 : decode cX5_number 43 = .ok (.iconst 0, 1) := by decide +kernel
theorem dX5_number_44 : decode cX5_number 44 = .ok (.istore_n 3, 1) := by decide +kernel
theorem dX5_number_45 : decode cX5_number 45 = .ok (.iconst 0, 1) := by decide +kernel
theorem dX5_number_46 : decode cX5_number 46 = .ok (.istore 4, 2) := by decide +kernel
theorem dX5_number_48 : decode cX5_number 48 = .ok (.aload_n 0, 1) := by decide +kernel
theorem dX5_number_49 : decode cX5_number 49 = .ok (.getfield 38, 3) := by decide +kernel
theorem dX5_number_52 : decode cX5_number 52 = .ok (.istore 5, 2) := by decide +kernel
theorem dX5_number_54 : decode cX5_number 54 = .ok (.iload_n 3, 1) := by decide +kernel
theorem dX5_number_55 : decode cX5_number 55 = .ok (.ifCond .eq 39, 3) := by decide +kernel
theorem dX5_number_58 : decode cX5_number 58 = .ok (.iload 5, 2) := by decide +kernel
theorem dX5_number_60 : decode cX5_number 60 = .ok (.aload_n 0, 1) := by decide +kernel
theorem dX5_number_61 : decode cX5_number 61 = .ok (.getfield 45, 3) := by decide +kernel
theorem dX5_number_64 : decode cX5_number 64 = .ok (.if_icmp .ge 30, 3) := by decide +kernel
theorem dX5_number_67 : decode cX5_number 67 = .ok (.bipush 10, 2) := by decide +kernel
theorem dX5_number_69 : decode cX5_number 69 = .ok (.iload 4, 2) := by decide +kernel
theorem dX5_number_71 : decode cX5_number 71 = .ok (.imul, 1) := by decide +kernel
theorem dX5_number_72 : decode cX5_number 72 = .ok (.aload_n 0, 1) := by decide +kernel
theorem dX5_number_73 : decode cX5_number 73 = .ok (.getfield 3, 3) := by decide +kernel
theorem dX5_number_76 : decode cX5_number 76 = .ok (.getfield 15, 3) := by decide +kernel
theorem dX5_number_79 : decode cX5_number 79 = .ok (.iload 5, 2) := by decide +kernel
theorem dX5_number_81 : decode cX5_number 81 = .ok (.baload, 1) := by decide +kernel
theorem dX5_number_82 : decode cX5_number 82 = .ok (.iadd, 1) := by decide +kernel
theorem dX5_number_83 : decode cX5_number 83 = .ok (.bipush 48, 2) := by decide +kernel
theorem dX5_number_85 : decode cX5_number 85 = .ok (.isub, 1) := by decide +kernel
theorem dX5_number_86 : decode cX5_number 86 = .ok (.istore 4, 2) := by decide +kernel
theorem dX5_number_88 : decode cX5_number 88 = .ok (.iinc 5 1, 3) := by decide +kernel
theorem dX5_number_91 : decode cX5_number 91 = .ok (.goto (-37), 3) := by decide +kernel
theorem dX5_number_94 : decode cX5_number 94 = .ok (.aload_n 0, 1) := by decide +kernel
theorem dX5_number_95 : decode cX5_number 95 = .ok (.iload_n 3, 1) := by decide +kernel
theorem dX5_number_96 : decode cX5_number 96 = .ok (.ifCond .eq 20, 3) := by decide +kernel
theorem dX5_number_99 : decode cX5_number 99 = .ok (.iload 4, 2) := by decide +kernel
theorem dX5_number_101 : decode cX5_number 101 = .ok (.i2l, 1) := by decide +kernel
theorem dX5_number_102 : decode cX5_number 102 = .ok (.iload_n 1, 1) := by decide +kernel
theorem dX5_number_103 : decode cX5_number 103 = .ok (.i2l, 1) := by decide +kernel
theorem dX5_number_104 : decode cX5_number 104 = .ok (.iload_n 2, 1) := by decide +kernel
theorem dX5_number_105 : decode cX5_number 105 = .ok (.i2l, 1) := by decide +kernel
theorem dX5_number_106 : decode cX5_number 106 = .ok (.invokestatic 23, 3) := by decide +kernel
theorem dX5_number_109 : decode cX5_number 109 = .ok (.ifCond .eq 7, 3) := by decide +kernel
theorem dX5_number_112 : decode cX5_number 112 = .ok (.iconst 1, 1) := by decide +kernel
theorem dX5_number_113 : decode cX5_number 113 = .ok (.goto 4, 3) := by decide +kernel
theorem dX5_number_116 : decode cX5_number 116 = .ok (.iconst 0, 1) := by decide +kernel
theorem dX5_number_117 : decode cX5_number 117 = .ok (.invokevirtual 69, 3) := by decide +kernel
theorem dX5_number_120 : decode cX5_number 120 = .ok (.aload_n 0, 1) := by decide +kernel
theorem dX5_number_121 : decode cX5_number 121 = .ok (.invokevirtual 61, 3) := by decide +kernel
theorem dX5_number_124 : decode cX5_number 124 = .ok (.iload 4, 2) := by decide +kernel
theorem dX5_number_126 : decode cX5_number 126 = .ok (.ireturn, 1) := by decide +kernel
theorem yd_X5_number : yX5_number.cls ≠ "java/lang/invoke/MethodHandle" ∧ yX5_number.cls ≠ "java/lang/invoke/VarHandle" ∧ (parseMethodDescriptor yX5_number.desc).map (fun d => d.parameters.length) = some 2 := by decide +kernel
abbrev rm_X5_number : Room := { frames := 5, cells := 1, slots := 7, locals := 110 }
set_option maxHeartbeats 4000000 in
theorem w_X5_number_94 {p : Program} {l : Launch} {e : Env} {s : State} {m : MethodId} {args : Array Value} {below : List Frame} {meth : Method} {c : Code} {g : Gl} (X : FX g p m c s args meth cX5_number 6 RX5 (some .int) "number") (hE : c.exceptionTable.isEmpty = true) {r : (Int32 ⊕ Nat) × Hp} {σ : Hp} {x0 : Nat} {x1 : Int32} {x2 : Int32} {x3 : Int32} {x4 : Int32}  {H : Heap} {locs : List Loc} {ls : Array Slot} (h : F_X5_number_94 σ x0 x1 x2 x3 x4 = some r) (hV : HV g σ H) (hF : FR g locs) (hl : lv_has ls 6 [(0, .ref x0), (1, .int x1), (2, .int x2), (3, .int x3), (4, .int x4)]) : W p l e rm_X5_number s m args below meth c H locs 0 0 (MQX below (QX g rI r) args s 1 7 (frN g)) (F0 m 94 ls []) := by
  unfold F_X5_number_94 at h
  refine lv_aload_n X.1 X.2.1 dX5_number_94 rfl (lv_at hl 0 rfl) ?_
  refine lv_iload_n X.1 X.2.1 dX5_number_95 rfl (lv_at hl 3 rfl) ?_
  refine r_ifeq (tgt := 116) X.1 X.2.1 dX5_number_96 (by decide) h (fun h => ?_) (fun h => ?_)
  · refine lv_iconst (v := 0) X.1 X.2.1 dX5_number_116 (by decide) ?_
    obtain ⟨v1, s1, hc, h⟩ := b2_inv h
    rcases v1 with v1 | v1
    case inr => exact r_thr (As := [.int 0]) (rest := []) X hE hV hF (cwV 1 X.2.2.2.2.1 (lw_V q565 q567 qs11 q54 q568) rfl rfl rfl ⟨rfl, yd_X5_need⟩ ⟨Nat.le_of_ble_eq_true rfl, Nat.le_of_ble_eq_true rfl⟩) (c_X5_need l hc) (preV X hV (F_X5_need_g hc) rfl) rfl hl.1 (Nat.le_of_ble_eq_true rfl) dX5_number_117 ⟨(Nat.le_of_ble_eq_true rfl), (Nat.le_of_ble_eq_true rfl)⟩ (Nat.le_of_ble_eq_true rfl) (Nat.le_of_ble_eq_true rfl) (tx_r h)
    have h := tx_l h
    refine r_cv (va_runV (C := RX5) (As := [.int 0]) (rest := []) (cfX X) (c_X5_need l hc).retV (cwV 1 X.2.2.2.2.1 (lw_V q565 q567 qs11 q54 q568) rfl rfl rfl ⟨rfl, yd_X5_need⟩ ⟨Nat.le_of_ble_eq_true rfl, Nat.le_of_ble_eq_true rfl⟩) (preV X hV (F_X5_need_g hc) rfl) rfl rfl hl.1 rfl (lv_room (Nat.le_of_ble_eq_true rfl)) dX5_number_117 ⟨(Nat.le_of_ble_eq_true rfl), (Nat.le_of_ble_eq_true rfl)⟩) hF (fun H locs hV hF => ?_)
    refine lv_aload_n X.1 X.2.1 dX5_number_120 rfl (lv_at hl 0 rfl) ?_
    obtain ⟨s2, hc, h⟩ := b1_inv h
    refine r_cv (va_runV (C := RX5) (As := []) (rest := []) (cfX X) (c_X5_token l hc) (cwV 0 X.2.2.2.2.1 (lw_V q487 q489 qs5 q54 q490) rfl rfl rfl ⟨rfl, yd_X5_token⟩ ⟨Nat.le_of_ble_eq_true rfl, Nat.le_of_ble_eq_true rfl⟩) (preV X hV (F_X5_token_g hc) rfl) rfl rfl hl.1 rfl (lv_room (Nat.le_of_ble_eq_true rfl)) dX5_number_121 ⟨(Nat.le_of_ble_eq_true rfl), (Nat.le_of_ble_eq_true rfl)⟩) hF (fun H locs hV hF => ?_)
    refine lv_iload X.1 X.2.1 dX5_number_124 (lv_at hl 4 rfl) ?_
    exact r_iretX X hV hF h dX5_number_126
  · refine lv_iload X.1 X.2.1 dX5_number_99 (lv_at hl 4 rfl) ?_
    refine lv_i2l (v := (x4 : Int32).toInt64) X.1 X.2.1 dX5_number_101 rfl ?_
    refine lv_iload_n X.1 X.2.1 dX5_number_102 rfl (lv_at hl 1 rfl) ?_
    refine lv_i2l (v := (x1 : Int32).toInt64) X.1 X.2.1 dX5_number_103 rfl ?_
    refine lv_iload_n X.1 X.2.1 dX5_number_104 rfl (lv_at hl 2 rfl) ?_
    refine lv_i2l (v := (x2 : Int32).toInt64) X.1 X.2.1 dX5_number_105 rfl ?_
    obtain ⟨v3, s3, hc, h⟩ := b2_inv h
    refine r_ci (va_runSN (As := [.long ((x4 : Int32).toInt64), .long ((x1 : Int32).toInt64), .long ((x2 : Int32).toInt64)]) (rest := [.ref x0]) (cfX X) (c_X0_isIn l hc) ⟨va_cnB 3 X.2.2.2.2.1 (lw_meth q333) rfl rfl rfl (X.2.2.2.2.2.1.2.2.2.1 _ (List.mem_of_getElem? (i := 11) rfl)) (X.2.2.2.2.1 _ q49) yd_X0_isIn ⟨Nat.le_of_ble_eq_true rfl, Nat.le_of_ble_eq_true rfl⟩, X.2.2.2.2.1 _ q332, trivial⟩ (preS X hV) rfl rfl hl.1 rfl (lv_room (Nat.le_of_ble_eq_true rfl)) dX5_number_106 ⟨(Nat.le_of_ble_eq_true rfl), (Nat.le_of_ble_eq_true rfl)⟩) hF (fun H locs hV hF => ?_)
    refine r_ifeq (tgt := 116) X.1 X.2.1 dX5_number_109 (by decide) h (fun h => ?_) (fun h => ?_)
    · refine lv_iconst (v := 0) X.1 X.2.1 dX5_number_116 (by decide) ?_
      obtain ⟨v4, s4, hc, h⟩ := b2_inv h
      rcases v4 with v4 | v4
      case inr => exact r_thr (As := [.int 0]) (rest := []) X hE hV hF (cwV 1 X.2.2.2.2.1 (lw_V q565 q567 qs11 q54 q568) rfl rfl rfl ⟨rfl, yd_X5_need⟩ ⟨Nat.le_of_ble_eq_true rfl, Nat.le_of_ble_eq_true rfl⟩) (c_X5_need l hc) (preV X hV (F_X5_need_g hc) rfl) rfl hl.1 (Nat.le_of_ble_eq_true rfl) dX5_number_117 ⟨(Nat.le_of_ble_eq_true rfl), (Nat.le_of_ble_eq_true rfl)⟩ (Nat.le_of_ble_eq_true rfl) (Nat.le_of_ble_eq_true rfl) (tx_r h)
      have h := tx_l h
      refine r_cv (va_runV (C := RX5) (As := [.int 0]) (rest := []) (cfX X) (c_X5_need l hc).retV (cwV 1 X.2.2.2.2.1 (lw_V q565 q567 qs11 q54 q568) rfl rfl rfl ⟨rfl, yd_X5_need⟩ ⟨Nat.le_of_ble_eq_true rfl, Nat.le_of_ble_eq_true rfl⟩) (preV X hV (F_X5_need_g hc) rfl) rfl rfl hl.1 rfl (lv_room (Nat.le_of_ble_eq_true rfl)) dX5_number_117 ⟨(Nat.le_of_ble_eq_true rfl), (Nat.le_of_ble_eq_true rfl)⟩) hF (fun H locs hV hF => ?_)
      refine lv_aload_n X.1 X.2.1 dX5_number_120 rfl (lv_at hl 0 rfl) ?_
      obtain ⟨s5, hc, h⟩ := b1_inv h
      refine r_cv (va_runV (C := RX5) (As := []) (rest := []) (cfX X) (c_X5_token l hc) (cwV 0 X.2.2.2.2.1 (lw_V q487 q489 qs5 q54 q490) rfl rfl rfl ⟨rfl, yd_X5_token⟩ ⟨Nat.le_of_ble_eq_true rfl, Nat.le_of_ble_eq_true rfl⟩) (preV X hV (F_X5_token_g hc) rfl) rfl rfl hl.1 rfl (lv_room (Nat.le_of_ble_eq_true rfl)) dX5_number_121 ⟨(Nat.le_of_ble_eq_true rfl), (Nat.le_of_ble_eq_true rfl)⟩) hF (fun H locs hV hF => ?_)
      refine lv_iload X.1 X.2.1 dX5_number_124 (lv_at hl 4 rfl) ?_
      exact r_iretX X hV hF h dX5_number_126
    · refine lv_iconst (v := 1) X.1 X.2.1 dX5_number_112 (by decide) ?_
      refine lv_goto (tgt := 117) X.1 X.2.1 dX5_number_113 (by decide) ?_
      obtain ⟨v6, s6, hc, h⟩ := b2_inv h
      rcases v6 with v6 | v6
      case inr => exact r_thr (As := [.int 1]) (rest := []) X hE hV hF (cwV 1 X.2.2.2.2.1 (lw_V q565 q567 qs11 q54 q568) rfl rfl rfl ⟨rfl, yd_X5_need⟩ ⟨Nat.le_of_ble_eq_true rfl, Nat.le_of_ble_eq_true rfl⟩) (c_X5_need l hc) (preV X hV (F_X5_need_g hc) rfl) rfl hl.1 (Nat.le_of_ble_eq_true rfl) dX5_number_117 ⟨(Nat.le_of_ble_eq_true rfl), (Nat.le_of_ble_eq_true rfl)⟩ (Nat.le_of_ble_eq_true rfl) (Nat.le_of_ble_eq_true rfl) (tx_r h)
      have h := tx_l h
      refine r_cv (va_runV (C := RX5) (As := [.int 1]) (rest := []) (cfX X) (c_X5_need l hc).retV (cwV 1 X.2.2.2.2.1 (lw_V q565 q567 qs11 q54 q568) rfl rfl rfl ⟨rfl, yd_X5_need⟩ ⟨Nat.le_of_ble_eq_true rfl, Nat.le_of_ble_eq_true rfl⟩) (preV X hV (F_X5_need_g hc) rfl) rfl rfl hl.1 rfl (lv_room (Nat.le_of_ble_eq_true rfl)) dX5_number_117 ⟨(Nat.le_of_ble_eq_true rfl), (Nat.le_of_ble_eq_true rfl)⟩) hF (fun H locs hV hF => ?_)
      refine lv_aload_n X.1 X.2.1 dX5_number_120 rfl (lv_at hl 0 rfl) ?_
      obtain ⟨s7, hc, h⟩ := b1_inv h
      refine r_cv (va_runV (C := RX5) (As := []) (rest := []) (cfX X) (c_X5_token l hc) (cwV 0 X.2.2.2.2.1 (lw_V q487 q489 qs5 q54 q490) rfl rfl rfl ⟨rfl, yd_X5_token⟩ ⟨Nat.le_of_ble_eq_true rfl, Nat.le_of_ble_eq_true rfl⟩) (preV X hV (F_X5_token_g hc) rfl) rfl rfl hl.1 rfl (lv_room (Nat.le_of_ble_eq_true rfl)) dX5_number_121 ⟨(Nat.le_of_ble_eq_true rfl), (Nat.le_of_ble_eq_true rfl)⟩) hF (fun H locs hV hF => ?_)
      refine lv_iload X.1 X.2.1 dX5_number_124 (lv_at hl 4 rfl) ?_
      exact r_iretX X hV hF h dX5_number_126
set_option maxHeartbeats 4000000 in
theorem w_X5_number_54_b {p : Program} {l : Launch} {e : Env} {s : State} {m : MethodId} {args : Array Value} {below : List Frame} {meth : Method} {c : Code} {g : Gl} (X : FX g p m c s args meth cX5_number 6 RX5 (some .int) "number") (hE : c.exceptionTable.isEmpty = true) {r : (Int32 ⊕ Nat) × Hp} {rec54 : Int32 × Int32 → Option ((Int32 ⊕ Nat) × Hp)} {σ : Hp} {x0 : Nat} {x1 : Int32} {x2 : Int32} {x3 : Int32} {x4 : Int32} {x5 : Int32} (hr54 : ∀ (st : Int32 × Int32), rec54 st = some r → ∀ (H : Heap) (locs : List Loc) (ls : Array Slot), HV g σ H → FR g locs → lv_has ls 6 [(0, .ref x0), (1, .int x1), (2, .int x2), (3, .int x3), (4, .int st.1), (5, .int st.2)] → W p l e rm_X5_number s m args below meth c H locs 0 0 (MQX below (QX g rI r) args s 1 7 (frN g)) (F0 m 54 ls [])) {H : Heap} {locs : List Loc} {ls : Array Slot} (h : B_X5_number_54 σ x0 x1 x2 x3 rec54 x4 x5 = some r) (hV : HV g σ H) (hF : FR g locs) (hl : lv_has ls 6 [(0, .ref x0), (1, .int x1), (2, .int x2), (3, .int x3), (4, .int x4), (5, .int x5)]) : W p l e rm_X5_number s m args below meth c H locs 0 0 (MQX below (QX g rI r) args s 1 7 (frN g)) (F0 m 54 ls []) := by
  unfold B_X5_number_54 at h
  refine lv_iload_n X.1 X.2.1 dX5_number_54 rfl (lv_at hl 3 rfl) ?_
  refine r_ifeq (tgt := 94) X.1 X.2.1 dX5_number_55 (by decide) h (fun h => ?_) (fun h => ?_)
  · exact w_X5_number_94 X hE  h hV hF (lv_sub hl [0, 1, 2, 3, 4] rfl)
  · refine lv_iload X.1 X.2.1 dX5_number_58 (lv_at hl 5 rfl) ?_
    refine lv_aload_n X.1 X.2.1 dX5_number_60 rfl (lv_at hl 0 rfl) ?_
    refine r_gI X hV fl_X5_45_5 dX5_number_61 h (fun v1 h => ?_)
    refine r_ge (tgt := 94) X.1 X.2.1 dX5_number_64 (by decide) h (fun h => ?_) (fun h => ?_)
    · exact w_X5_number_94 X hE  h hV hF (lv_sub hl [0, 1, 2, 3, 4] rfl)
    · refine lv_bipush (v := 10) X.1 X.2.1 dX5_number_67 (by decide) ?_
      refine lv_iload X.1 X.2.1 dX5_number_69 (lv_at hl 4 rfl) ?_
      refine lv_imul X.1 X.2.1 dX5_number_71 ?_
      refine lv_aload_n X.1 X.2.1 dX5_number_72 rfl (lv_at hl 0 rfl) ?_
      refine r_gR X hV fl_X5_3_5 (by decide) dX5_number_73 h (fun v2 h => ?_)
      refine r_gR X hV fl_X5_15_0 (by decide) dX5_number_76 h (fun v3 h => ?_)
      refine lv_iload X.1 X.2.1 dX5_number_79 (lv_at hl 5 rfl) ?_
      refine r_ba X hV dX5_number_81 h (fun v4 h => ?_)
      refine lv_iadd X.1 X.2.1 dX5_number_82 ?_
      refine lv_bipush (v := 48) X.1 X.2.1 dX5_number_83 (by decide) ?_
      refine lv_isub X.1 X.2.1 dX5_number_85 ?_
      refine lv_istore (lv' := [(4, .int (((10 * x4) + v4) - 48)), (0, .ref x0), (1, .int x1), (2, .int x2), (3, .int x3), (5, .int x5)]) X.1 X.2.1 dX5_number_86 hl (by decide) rfl (fun ls hl => ?_)
      refine lv_iinc (v := x5 + 1) (lv' := [(5, .int (x5 + 1)), (4, .int (((10 * x4) + v4) - 48)), (0, .ref x0), (1, .int x1), (2, .int x2), (3, .int x3)]) X.1 X.2.1 dX5_number_88 hl (k := 5) rfl rfl (by decide) rfl (fun ls hl => ?_)
      refine lv_goto (tgt := 54) X.1 X.2.1 dX5_number_91 (by decide) ?_
      exact hr54 (((10 * x4) + v4) - 48, x5 + 1) h _ _ _ hV hF (lv_sub hl [2, 3, 4, 5, 1, 0] rfl)
set_option maxHeartbeats 4000000 in
theorem w_X5_number_54 {p : Program} {l : Launch} {e : Env} {s : State} {m : MethodId} {args : Array Value} {below : List Frame} {meth : Method} {c : Code} {g : Gl} (X : FX g p m c s args meth cX5_number 6 RX5 (some .int) "number") (hE : c.exceptionTable.isEmpty = true) {r : (Int32 ⊕ Nat) × Hp} {σ : Hp} {x0 : Nat} {x1 : Int32} {x2 : Int32} {x3 : Int32}  : ∀ (n : Nat) (st : Int32 × Int32), L_X5_number_54 σ x0 x1 x2 x3 n st = some r → ∀ (H : Heap) (locs : List Loc) (ls : Array Slot), HV g σ H → FR g locs → lv_has ls 6 [(0, .ref x0), (1, .int x1), (2, .int x2), (3, .int x3), (4, .int st.1), (5, .int st.2)] → W p l e rm_X5_number s m args below meth c H locs 0 0 (MQX below (QX g rI r) args s 1 7 (frN g)) (F0 m 54 ls []) := by
  intro n
  induction n with
  | zero =>
    intro st h
    rw [L_X5_number_54_0] at h
    cases h
  | succ n ih =>
    intro st h H locs ls hV hF hl
    rw [L_X5_number_54_s] at h
    exact w_X5_number_54_b X hE  ih h hV hF hl
set_option maxHeartbeats 4000000 in
theorem c_X5_number (l : Launch) {g : Gl} {σ : Hp} {x0 : Nat} {x1 : Int32} {x2 : Int32} {r : (Int32 ⊕ Nat) × Hp} (h : F_X5_number σ x0 x1 x2 = some r) : MetX l yX5_number (ws_ yX5_number cX5_number 6 (some .int)) rm_X5_number (va_Pc [.ref x0, .int x1, .int x2] (WV g σ)) (QX g rI r) 1 7 (frN g) := by
  refine ctX_of (by decide) (Nat.le_of_ble_eq_true rfl) ?_
  intro p e s m below meth c ls X hE hV hl
  have hF : FR g [] := FR_nil
  unfold F_X5_number at h
  have hl : lv_has ls 6 [(0, .ref x0), (1, .int x1), (2, .int x2)] := hl
  have X : FX g p m c s _ meth cX5_number 6 RX5 (some .int) "number" := X
  obtain ⟨-, h⟩ := gd_inv h
  refine lv_aload_n X.1 X.2.1 dX5_number_0 rfl (lv_at hl 0 rfl) ?_
  refine r_gI X hV fl_X5_38_5 dX5_number_1 h (fun v1 h => ?_)
  refine lv_aload_n X.1 X.2.1 dX5_number_4 rfl (lv_at hl 0 rfl) ?_
  refine r_gR X hV fl_X5_3_5 (by decide) dX5_number_5 h (fun v2 h => ?_)
  refine r_gI X hV fl_X5_35_0 dX5_number_8 h (fun v3 h => ?_)
  refine r_ge (tgt := 43) X.1 X.2.1 dX5_number_11 (by decide) h (fun h => ?_) (fun h => ?_)
  · refine lv_iconst (v := 0) X.1 X.2.1 dX5_number_43 (by decide) ?_
    refine lv_istore_n (lv' := [(3, .int 0), (0, .ref x0), (1, .int x1), (2, .int x2)]) X.1 X.2.1 dX5_number_44 rfl hl (by decide) rfl (fun ls hl => ?_)
    refine lv_iconst (v := 0) X.1 X.2.1 dX5_number_45 (by decide) ?_
    refine lv_istore (lv' := [(4, .int 0), (3, .int 0), (0, .ref x0), (1, .int x1), (2, .int x2)]) X.1 X.2.1 dX5_number_46 hl (by decide) rfl (fun ls hl => ?_)
    refine lv_aload_n X.1 X.2.1 dX5_number_48 rfl (lv_at hl 2 rfl) ?_
    refine r_gI X hV fl_X5_38_5 dX5_number_49 h (fun v4 h => ?_)
    refine lv_istore (lv' := [(5, .int v4), (4, .int 0), (3, .int 0), (0, .ref x0), (1, .int x1), (2, .int x2)]) X.1 X.2.1 dX5_number_52 hl (by decide) rfl (fun ls hl => ?_)
    exact w_X5_number_54 X hE  FU (0, v4) h _ _ _ hV hF (lv_sub hl [3, 4, 5, 2, 1, 0] rfl)
  · refine lv_aload_n X.1 X.2.1 dX5_number_14 rfl (lv_at hl 0 rfl) ?_
    refine lv_aload_n X.1 X.2.1 dX5_number_15 rfl (lv_at hl 0 rfl) ?_
    refine r_gI X hV fl_X5_38_5 dX5_number_16 h (fun v5 h => ?_)
    obtain ⟨v6, s1, hc, h⟩ := b2_inv h
    refine r_ci (va_runV (C := RX5) (As := [.int v5]) (rest := []) (cfX X) (c_X5_kindAt l hc) (cwV 1 X.2.2.2.2.1 (lw_V q491 q493 qs6 q54 q494) rfl rfl rfl ⟨rfl, yd_X5_kindAt⟩ ⟨Nat.le_of_ble_eq_true rfl, Nat.le_of_ble_eq_true rfl⟩) (preV X hV (F_X5_kindAt_g hc) rfl) rfl rfl hl.1 rfl (lv_room (Nat.le_of_ble_eq_true rfl)) dX5_number_19 ⟨(Nat.le_of_ble_eq_true rfl), (Nat.le_of_ble_eq_true rfl)⟩) hF (fun H locs hV hF => ?_)
    refine lv_iconst (v := 2) X.1 X.2.1 dX5_number_22 (by decide) ?_
    refine r_ne (tgt := 43) X.1 X.2.1 dX5_number_23 (by decide) h (fun h => ?_) (fun h => ?_)
    · refine lv_iconst (v := 0) X.1 X.2.1 dX5_number_43 (by decide) ?_
      refine lv_istore_n (lv' := [(3, .int 0), (0, .ref x0), (1, .int x1), (2, .int x2)]) X.1 X.2.1 dX5_number_44 rfl hl (by decide) rfl (fun ls hl => ?_)
      refine lv_iconst (v := 0) X.1 X.2.1 dX5_number_45 (by decide) ?_
      refine lv_istore (lv' := [(4, .int 0), (3, .int 0), (0, .ref x0), (1, .int x1), (2, .int x2)]) X.1 X.2.1 dX5_number_46 hl (by decide) rfl (fun ls hl => ?_)
      refine lv_aload_n X.1 X.2.1 dX5_number_48 rfl (lv_at hl 2 rfl) ?_
      refine r_gI X hV fl_X5_38_5 dX5_number_49 h (fun v7 h => ?_)
      refine lv_istore (lv' := [(5, .int v7), (4, .int 0), (3, .int 0), (0, .ref x0), (1, .int x1), (2, .int x2)]) X.1 X.2.1 dX5_number_52 hl (by decide) rfl (fun ls hl => ?_)
      exact w_X5_number_54 X hE  FU (0, v7) h _ _ _ hV hF (lv_sub hl [3, 4, 5, 2, 1, 0] rfl)
    · refine lv_aload_n X.1 X.2.1 dX5_number_26 rfl (lv_at hl 0 rfl) ?_
      refine r_gI X hV fl_X5_45_5 dX5_number_27 h (fun v8 h => ?_)
      refine lv_aload_n X.1 X.2.1 dX5_number_30 rfl (lv_at hl 0 rfl) ?_
      refine r_gI X hV fl_X5_38_5 dX5_number_31 h (fun v9 h => ?_)
      refine lv_isub X.1 X.2.1 dX5_number_34 ?_
      refine lv_iconst (v := 2) X.1 X.2.1 dX5_number_35 (by decide) ?_
      refine r_gt (tgt := 43) X.1 X.2.1 dX5_number_36 (by decide) h (fun h => ?_) (fun h => ?_)
      · refine lv_iconst (v := 0) X.1 X.2.1 dX5_number_43 (by decide) ?_
        refine lv_istore_n (lv' := [(3, .int 0), (0, .ref x0), (1, .int x1), (2, .int x2)]) X.1 X.2.1 dX5_number_44 rfl hl (by decide) rfl (fun ls hl => ?_)
        refine lv_iconst (v := 0) X.1 X.2.1 dX5_number_45 (by decide) ?_
        refine lv_istore (lv' := [(4, .int 0), (3, .int 0), (0, .ref x0), (1, .int x1), (2, .int x2)]) X.1 X.2.1 dX5_number_46 hl (by decide) rfl (fun ls hl => ?_)
        refine lv_aload_n X.1 X.2.1 dX5_number_48 rfl (lv_at hl 2 rfl) ?_
        refine r_gI X hV fl_X5_38_5 dX5_number_49 h (fun v10 h => ?_)
        refine lv_istore (lv' := [(5, .int v10), (4, .int 0), (3, .int 0), (0, .ref x0), (1, .int x1), (2, .int x2)]) X.1 X.2.1 dX5_number_52 hl (by decide) rfl (fun ls hl => ?_)
        exact w_X5_number_54 X hE  FU (0, v10) h _ _ _ hV hF (lv_sub hl [3, 4, 5, 2, 1, 0] rfl)
      · refine lv_iconst (v := 1) X.1 X.2.1 dX5_number_39 (by decide) ?_
        refine lv_goto (tgt := 44) X.1 X.2.1 dX5_number_40 (by decide) ?_
        refine lv_istore_n (lv' := [(3, .int 1), (0, .ref x0), (1, .int x1), (2, .int x2)]) X.1 X.2.1 dX5_number_44 rfl hl (by decide) rfl (fun ls hl => ?_)
        refine lv_iconst (v := 0) X.1 X.2.1 dX5_number_45 (by decide) ?_
        refine lv_istore (lv' := [(4, .int 0), (3, .int 1), (0, .ref x0), (1, .int x1), (2, .int x2)]) X.1 X.2.1 dX5_number_46 hl (by decide) rfl (fun ls hl => ?_)
        refine lv_aload_n X.1 X.2.1 dX5_number_48 rfl (lv_at hl 2 rfl) ?_
        refine r_gI X hV fl_X5_38_5 dX5_number_49 h (fun v11 h => ?_)
        refine lv_istore (lv' := [(5, .int v11), (4, .int 0), (3, .int 1), (0, .ref x0), (1, .int x1), (2, .int x2)]) X.1 X.2.1 dX5_number_52 hl (by decide) rfl (fun ls hl => ?_)
        exact w_X5_number_54 X hE  FU (0, v11) h _ _ _ hV hF (lv_sub hl [3, 4, 5, 2, 1, 0] rfl)
/-! PalaceOfRooms$Line.<init> for classes {0: 13} -/
theorem dX12_init_0 : decode cX12_init 0 = .ok (.aload_n 0, 1) := by decide +kernel
theorem dX12_init_1 : decode cX12_init 1 = .ok (.invokespecial 3, 3) := by decide +kernel
theorem dX12_init_4 : decode cX12_init 4 = .ok (.return_, 1) := by decide +kernel
theorem yd_X12_init : yX12_init.cls ≠ "java/lang/invoke/MethodHandle" ∧ yX12_init.cls ≠ "java/lang/invoke/VarHandle" ∧ (parseMethodDescriptor yX12_init.desc).map (fun d => d.parameters.length) = some 0 := by decide +kernel
abbrev rm_X12_init_13 : Room := { frames := 1, cells := 0, slots := 0, locals := 20 }
set_option maxHeartbeats 4000000 in
theorem c_X12_init_13 (l : Launch) {g : Gl} {σ : Hp} {x0 : Nat} {r : Hp} (h : F_X12_init_13 σ x0 = some r) : Met l yX12_init (ws_ yX12_init cX12_init 1 none) rm_X12_init_13 (va_Pc [.ref x0] (WV g σ)) (Qv g r) 0 0 (frN g) := by
  refine ct_of (by decide) (Nat.le_of_ble_eq_true rfl) ?_
  intro p e s m below meth c ls X hV hl
  have hF : FR g [] := FR_nil
  unfold F_X12_init_13 at h
  have hl : lv_has ls 1 [(0, .ref x0)] := hl
  have X : FX g p m c s _ meth cX12_init 1 RX12 none "<init>" := X
  refine lv_aload_n X.1 X.2.1 dX12_init_0 rfl (lv_at hl 0 rfl) ?_
  refine W.objInit X.1 X.2.1 X.2.2.2.1 (X.2.2.2.2.1 _ q641) (X.2.2.2.2.1 _ q83) (X.2.2.2.2.1 _ q84) rfl (by rw [X.2.2.1]; exact hl.1) rfl dX12_init_1 (Nat.le_of_ble_eq_true rfl) (Nat.le_of_ble_eq_true rfl) ?_
  refine W.eq (g2 := F0 m 4 ls []) rfl ?_
  exact r_vret X hV hF h dX12_init_4
/-! PalaceOfRooms$RoomLine.<init> -/
theorem dX13_init_0 : decode cX13_init 0 = .ok (.aload_n 0, 1) := by decide +kernel
theorem dX13_init_1 : decode cX13_init 1 = .ok (.invokespecial 1, 3) := by decide +kernel
theorem dX13_init_4 : decode cX13_init 4 = .ok (.aload_n 0, 1) := by decide +kernel
theorem dX13_init_5 : decode cX13_init 5 = .ok (.iload_n 1, 1) := by decide +kernel
theorem dX13_init_6 : decode cX13_init 6 = .ok (.putfield 7, 3) := by decide +kernel
theorem dX13_init_9 : decode cX13_init 9 = .ok (.aload_n 0, 1) := by decide +kernel
theorem dX13_init_10 : decode cX13_init 10 = .ok (.iload_n 2, 1) := by decide +kernel
theorem dX13_init_11 : decode cX13_init 11 = .ok (.putfield 13, 3) := by decide +kernel
theorem dX13_init_14 : decode cX13_init 14 = .ok (.return_, 1) := by decide +kernel
theorem yd_X13_init : yX13_init.cls ≠ "java/lang/invoke/MethodHandle" ∧ yX13_init.cls ≠ "java/lang/invoke/VarHandle" ∧ (parseMethodDescriptor yX13_init.desc).map (fun d => d.parameters.length) = some 2 := by decide +kernel
theorem fp_X13_7_13 : FPk RX13 7 13 0 "I" true := ⟨RX13, TX13, 2, "PalaceOfRooms$RoomLine", tyX13, rfl, by decide, (fun q => by have h1 := q.1; have h2 := q.2; omega), rfl, in_X13, tyX13_ok, (fun a ha b hb h => Or.inl (nmX13 a ha b hb h)), rfl, fun _ => rfl, (Or.inl q642), Or.inl rfl⟩
theorem fp_X13_13_13 : FPk RX13 13 13 1 "I" true := ⟨RX13, TX13, 2, "PalaceOfRooms$RoomLine", tyX13, rfl, by decide, (fun q => by have h1 := q.1; have h2 := q.2; omega), rfl, in_X13, tyX13_ok, (fun a ha b hb h => Or.inl (nmX13 a ha b hb h)), rfl, fun _ => rfl, (Or.inl q643), Or.inl rfl⟩
abbrev rm_X13_init : Room := { frames := 2, cells := 0, slots := 0, locals := 40 }
set_option maxHeartbeats 4000000 in
theorem c_X13_init (l : Launch) {g : Gl} {σ : Hp} {x0 : Nat} {x1 : Int32} {x2 : Int32} {r : Hp} (h : F_X13_init σ x0 x1 x2 = some r) : Met l yX13_init (ws_ yX13_init cX13_init 3 none) rm_X13_init (va_Pc [.ref x0, .int x1, .int x2] (WV g σ)) (Qv g r) 0 0 (frN g) := by
  refine ct_of (by decide) (Nat.le_of_ble_eq_true rfl) ?_
  intro p e s m below meth c ls X hV hl
  have hF : FR g [] := FR_nil
  unfold F_X13_init at h
  have hl : lv_has ls 3 [(0, .ref x0), (1, .int x1), (2, .int x2)] := hl
  have X : FX g p m c s _ meth cX13_init 3 RX13 none "<init>" := X
  refine lv_aload_n X.1 X.2.1 dX13_init_0 rfl (lv_at hl 0 rfl) ?_
  obtain ⟨s1, hc, h⟩ := b1_inv h
  refine r_cv (va_runIN (As := []) (rest := []) (cfX X) (c_X12_init_13 l hc) ⟨va_cnB 0 X.2.2.2.2.1 (lw_meth q640) rfl rfl rfl (X.2.2.2.2.2.1.2.2.2.1 _ (List.mem_of_getElem? (i := 12) rfl)) (X.2.2.2.2.1 _ q69) yd_X12_init ⟨Nat.le_of_ble_eq_true rfl, Nat.le_of_ble_eq_true rfl⟩, rfl, X.2.2.2.2.1 _ q639⟩ (preS X hV) rfl rfl hl.1 rfl (lv_room (Nat.le_of_ble_eq_true rfl)) dX13_init_1 ⟨(Nat.le_of_ble_eq_true rfl), (Nat.le_of_ble_eq_true rfl)⟩) hF (fun H locs hV hF => ?_)
  refine lv_aload_n X.1 X.2.1 dX13_init_4 rfl (lv_at hl 0 rfl) ?_
  refine lv_iload_n X.1 X.2.1 dX13_init_5 rfl (lv_at hl 1 rfl) ?_
  refine r_pI X hV hF fp_X13_7_13 (fun _ => rfl) dX13_init_6 h (fun s2 H locs hV hF h => ?_)
  refine lv_aload_n X.1 X.2.1 dX13_init_9 rfl (lv_at hl 0 rfl) ?_
  refine lv_iload_n X.1 X.2.1 dX13_init_10 rfl (lv_at hl 2 rfl) ?_
  refine r_pI X hV hF fp_X13_13_13 (fun _ => rfl) dX13_init_11 h (fun s3 H locs hV hF h => ?_)
  exact r_vret X hV hF h dX13_init_14
/-! PalaceOfRooms$Line.<init> for classes {0: 14} -/
abbrev rm_X12_init_14 : Room := { frames := 1, cells := 0, slots := 0, locals := 20 }
set_option maxHeartbeats 4000000 in
theorem c_X12_init_14 (l : Launch) {g : Gl} {σ : Hp} {x0 : Nat} {r : Hp} (h : F_X12_init_14 σ x0 = some r) : Met l yX12_init (ws_ yX12_init cX12_init 1 none) rm_X12_init_14 (va_Pc [.ref x0] (WV g σ)) (Qv g r) 0 0 (frN g) := by
  refine ct_of (by decide) (Nat.le_of_ble_eq_true rfl) ?_
  intro p e s m below meth c ls X hV hl
  have hF : FR g [] := FR_nil
  unfold F_X12_init_14 at h
  have hl : lv_has ls 1 [(0, .ref x0)] := hl
  have X : FX g p m c s _ meth cX12_init 1 RX12 none "<init>" := X
  refine lv_aload_n X.1 X.2.1 dX12_init_0 rfl (lv_at hl 0 rfl) ?_
  refine W.objInit X.1 X.2.1 X.2.2.2.1 (X.2.2.2.2.1 _ q641) (X.2.2.2.2.1 _ q83) (X.2.2.2.2.1 _ q84) rfl (by rw [X.2.2.1]; exact hl.1) rfl dX12_init_1 (Nat.le_of_ble_eq_true rfl) (Nat.le_of_ble_eq_true rfl) ?_
  refine W.eq (g2 := F0 m 4 ls []) rfl ?_
  exact r_vret X hV hF h dX12_init_4
/-! PalaceOfRooms$Again.<init> -/
theorem dX14_init_0 : decode cX14_init 0 = .ok (.aload_n 0, 1) := by decide +kernel
theorem dX14_init_1 : decode cX14_init 1 = .ok (.invokespecial 1, 3) := by decide +kernel
theorem dX14_init_4 : decode cX14_init 4 = .ok (.aload_n 0, 1) := by decide +kernel
theorem dX14_init_5 : decode cX14_init 5 = .ok (.iload_n 1, 1) := by decide +kernel
theorem dX14_init_6 : decode cX14_init 6 = .ok (.putfield 7, 3) := by decide +kernel
theorem dX14_init_9 : decode cX14_init 9 = .ok (.return_, 1) := by decide +kernel
theorem yd_X14_init : yX14_init.cls ≠ "java/lang/invoke/MethodHandle" ∧ yX14_init.cls ≠ "java/lang/invoke/VarHandle" ∧ (parseMethodDescriptor yX14_init.desc).map (fun d => d.parameters.length) = some 1 := by decide +kernel
theorem fp_X14_7_14 : FPk RX14 7 14 0 "I" true := ⟨RX14, TX14, 1, "PalaceOfRooms$Again", tyX14, rfl, by decide, (fun q => by have h1 := q.1; have h2 := q.2; omega), rfl, in_X14, tyX14_ok, (fun a ha b hb h => Or.inl (nmX14 a ha b hb h)), rfl, fun _ => rfl, (Or.inl q656), Or.inl rfl⟩
abbrev rm_X14_init : Room := { frames := 2, cells := 0, slots := 0, locals := 40 }
set_option maxHeartbeats 4000000 in
theorem c_X14_init (l : Launch) {g : Gl} {σ : Hp} {x0 : Nat} {x1 : Int32} {r : Hp} (h : F_X14_init σ x0 x1 = some r) : Met l yX14_init (ws_ yX14_init cX14_init 2 none) rm_X14_init (va_Pc [.ref x0, .int x1] (WV g σ)) (Qv g r) 0 0 (frN g) := by
  refine ct_of (by decide) (Nat.le_of_ble_eq_true rfl) ?_
  intro p e s m below meth c ls X hV hl
  have hF : FR g [] := FR_nil
  unfold F_X14_init at h
  have hl : lv_has ls 2 [(0, .ref x0), (1, .int x1)] := hl
  have X : FX g p m c s _ meth cX14_init 2 RX14 none "<init>" := X
  refine lv_aload_n X.1 X.2.1 dX14_init_0 rfl (lv_at hl 0 rfl) ?_
  obtain ⟨s1, hc, h⟩ := b1_inv h
  refine r_cv (va_runIN (As := []) (rest := []) (cfX X) (c_X12_init_14 l hc) ⟨va_cnB 0 X.2.2.2.2.1 (lw_meth q640) rfl rfl rfl (X.2.2.2.2.2.1.2.2.2.1 _ (List.mem_of_getElem? (i := 13) rfl)) (X.2.2.2.2.1 _ q69) yd_X12_init ⟨Nat.le_of_ble_eq_true rfl, Nat.le_of_ble_eq_true rfl⟩, rfl, X.2.2.2.2.1 _ q639⟩ (preS X hV) rfl rfl hl.1 rfl (lv_room (Nat.le_of_ble_eq_true rfl)) dX14_init_1 ⟨(Nat.le_of_ble_eq_true rfl), (Nat.le_of_ble_eq_true rfl)⟩) hF (fun H locs hV hF => ?_)
  refine lv_aload_n X.1 X.2.1 dX14_init_4 rfl (lv_at hl 0 rfl) ?_
  refine lv_iload_n X.1 X.2.1 dX14_init_5 rfl (lv_at hl 1 rfl) ?_
  refine r_pI X hV hF fp_X14_7_14 (fun _ => rfl) dX14_init_6 h (fun s2 H locs hV hF h => ?_)
  exact r_vret X hV hF h dX14_init_9
/-! PalaceOfRooms$Line.<init> for classes {0: 15} -/
abbrev rm_X12_init_15 : Room := { frames := 1, cells := 0, slots := 0, locals := 20 }
set_option maxHeartbeats 4000000 in
theorem c_X12_init_15 (l : Launch) {g : Gl} {σ : Hp} {x0 : Nat} {r : Hp} (h : F_X12_init_15 σ x0 = some r) : Met l yX12_init (ws_ yX12_init cX12_init 1 none) rm_X12_init_15 (va_Pc [.ref x0] (WV g σ)) (Qv g r) 0 0 (frN g) := by
  refine ct_of (by decide) (Nat.le_of_ble_eq_true rfl) ?_
  intro p e s m below meth c ls X hV hl
  have hF : FR g [] := FR_nil
  unfold F_X12_init_15 at h
  have hl : lv_has ls 1 [(0, .ref x0)] := hl
  have X : FX g p m c s _ meth cX12_init 1 RX12 none "<init>" := X
  refine lv_aload_n X.1 X.2.1 dX12_init_0 rfl (lv_at hl 0 rfl) ?_
  refine W.objInit X.1 X.2.1 X.2.2.2.1 (X.2.2.2.2.1 _ q641) (X.2.2.2.2.1 _ q83) (X.2.2.2.2.1 _ q84) rfl (by rw [X.2.2.1]; exact hl.1) rfl dX12_init_1 (Nat.le_of_ble_eq_true rfl) (Nat.le_of_ble_eq_true rfl) ?_
  refine W.eq (g2 := F0 m 4 ls []) rfl ?_
  exact r_vret X hV hF h dX12_init_4
/-! PalaceOfRooms$Apart.<init> -/
theorem dX15_init_0 : decode cX15_init 0 = .ok (.aload_n 0, 1) := by decide +kernel
theorem dX15_init_1 : decode cX15_init 1 = .ok (.invokespecial 1, 3) := by decide +kernel
theorem dX15_init_4 : decode cX15_init 4 = .ok (.aload_n 0, 1) := by decide +kernel
theorem dX15_init_5 : decode cX15_init 5 = .ok (.iload_n 1, 1) := by decide +kernel
theorem dX15_init_6 : decode cX15_init 6 = .ok (.putfield 7, 3) := by decide +kernel
theorem dX15_init_9 : decode cX15_init 9 = .ok (.return_, 1) := by decide +kernel
theorem yd_X15_init : yX15_init.cls ≠ "java/lang/invoke/MethodHandle" ∧ yX15_init.cls ≠ "java/lang/invoke/VarHandle" ∧ (parseMethodDescriptor yX15_init.desc).map (fun d => d.parameters.length) = some 1 := by decide +kernel
theorem fp_X15_7_15 : FPk RX15 7 15 0 "I" true := ⟨RX15, TX15, 1, "PalaceOfRooms$Apart", tyX15, rfl, by decide, (fun q => by have h1 := q.1; have h2 := q.2; omega), rfl, in_X15, tyX15_ok, (fun a ha b hb h => Or.inl (nmX15 a ha b hb h)), rfl, fun _ => rfl, (Or.inl q667), Or.inl rfl⟩
abbrev rm_X15_init : Room := { frames := 2, cells := 0, slots := 0, locals := 40 }
set_option maxHeartbeats 4000000 in
theorem c_X15_init (l : Launch) {g : Gl} {σ : Hp} {x0 : Nat} {x1 : Int32} {r : Hp} (h : F_X15_init σ x0 x1 = some r) : Met l yX15_init (ws_ yX15_init cX15_init 2 none) rm_X15_init (va_Pc [.ref x0, .int x1] (WV g σ)) (Qv g r) 0 0 (frN g) := by
  refine ct_of (by decide) (Nat.le_of_ble_eq_true rfl) ?_
  intro p e s m below meth c ls X hV hl
  have hF : FR g [] := FR_nil
  unfold F_X15_init at h
  have hl : lv_has ls 2 [(0, .ref x0), (1, .int x1)] := hl
  have X : FX g p m c s _ meth cX15_init 2 RX15 none "<init>" := X
  refine lv_aload_n X.1 X.2.1 dX15_init_0 rfl (lv_at hl 0 rfl) ?_
  obtain ⟨s1, hc, h⟩ := b1_inv h
  refine r_cv (va_runIN (As := []) (rest := []) (cfX X) (c_X12_init_15 l hc) ⟨va_cnB 0 X.2.2.2.2.1 (lw_meth q640) rfl rfl rfl (X.2.2.2.2.2.1.2.2.2.1 _ (List.mem_of_getElem? (i := 14) rfl)) (X.2.2.2.2.1 _ q69) yd_X12_init ⟨Nat.le_of_ble_eq_true rfl, Nat.le_of_ble_eq_true rfl⟩, rfl, X.2.2.2.2.1 _ q639⟩ (preS X hV) rfl rfl hl.1 rfl (lv_room (Nat.le_of_ble_eq_true rfl)) dX15_init_1 ⟨(Nat.le_of_ble_eq_true rfl), (Nat.le_of_ble_eq_true rfl)⟩) hF (fun H locs hV hF => ?_)
  refine lv_aload_n X.1 X.2.1 dX15_init_4 rfl (lv_at hl 0 rfl) ?_
  refine lv_iload_n X.1 X.2.1 dX15_init_5 rfl (lv_at hl 1 rfl) ?_
  refine r_pI X hV hF fp_X15_7_15 (fun _ => rfl) dX15_init_6 h (fun s2 H locs hV hF h => ?_)
  exact r_vret X hV hF h dX15_init_9
/-! PalaceOfRooms$Line.<init> for classes {0: 16} -/
abbrev rm_X12_init_16 : Room := { frames := 1, cells := 0, slots := 0, locals := 20 }
set_option maxHeartbeats 4000000 in
theorem c_X12_init_16 (l : Launch) {g : Gl} {σ : Hp} {x0 : Nat} {r : Hp} (h : F_X12_init_16 σ x0 = some r) : Met l yX12_init (ws_ yX12_init cX12_init 1 none) rm_X12_init_16 (va_Pc [.ref x0] (WV g σ)) (Qv g r) 0 0 (frN g) := by
  refine ct_of (by decide) (Nat.le_of_ble_eq_true rfl) ?_
  intro p e s m below meth c ls X hV hl
  have hF : FR g [] := FR_nil
  unfold F_X12_init_16 at h
  have hl : lv_has ls 1 [(0, .ref x0)] := hl
  have X : FX g p m c s _ meth cX12_init 1 RX12 none "<init>" := X
  refine lv_aload_n X.1 X.2.1 dX12_init_0 rfl (lv_at hl 0 rfl) ?_
  refine W.objInit X.1 X.2.1 X.2.2.2.1 (X.2.2.2.2.1 _ q641) (X.2.2.2.2.1 _ q83) (X.2.2.2.2.1 _ q84) rfl (by rw [X.2.2.1]; exact hl.1) rfl dX12_init_1 (Nat.le_of_ble_eq_true rfl) (Nat.le_of_ble_eq_true rfl) ?_
  refine W.eq (g2 := F0 m 4 ls []) rfl ?_
  exact r_vret X hV hF h dX12_init_4
/-! PalaceOfRooms$Every.<init> -/
theorem dX16_init_0 : decode cX16_init 0 = .ok (.aload_n 0, 1) := by decide +kernel
theorem dX16_init_1 : decode cX16_init 1 = .ok (.invokespecial 1, 3) := by decide +kernel
theorem dX16_init_4 : decode cX16_init 4 = .ok (.aload_n 0, 1) := by decide +kernel
theorem dX16_init_5 : decode cX16_init 5 = .ok (.iload_n 1, 1) := by decide +kernel
theorem dX16_init_6 : decode cX16_init 6 = .ok (.putfield 7, 3) := by decide +kernel
theorem dX16_init_9 : decode cX16_init 9 = .ok (.aload_n 0, 1) := by decide +kernel
theorem dX16_init_10 : decode cX16_init 10 = .ok (.iload_n 2, 1) := by decide +kernel
theorem dX16_init_11 : decode cX16_init 11 = .ok (.putfield 13, 3) := by decide +kernel
theorem dX16_init_14 : decode cX16_init 14 = .ok (.return_, 1) := by decide +kernel
theorem yd_X16_init : yX16_init.cls ≠ "java/lang/invoke/MethodHandle" ∧ yX16_init.cls ≠ "java/lang/invoke/VarHandle" ∧ (parseMethodDescriptor yX16_init.desc).map (fun d => d.parameters.length) = some 2 := by decide +kernel
theorem fp_X16_7_16 : FPk RX16 7 16 0 "I" true := ⟨RX16, TX16, 2, "PalaceOfRooms$Every", tyX16, rfl, by decide, (fun q => by have h1 := q.1; have h2 := q.2; omega), rfl, in_X16, tyX16_ok, (fun a ha b hb h => Or.inl (nmX16 a ha b hb h)), rfl, fun _ => rfl, (Or.inl q679), Or.inl rfl⟩
theorem fp_X16_13_16 : FPk RX16 13 16 1 "I" true := ⟨RX16, TX16, 2, "PalaceOfRooms$Every", tyX16, rfl, by decide, (fun q => by have h1 := q.1; have h2 := q.2; omega), rfl, in_X16, tyX16_ok, (fun a ha b hb h => Or.inl (nmX16 a ha b hb h)), rfl, fun _ => rfl, (Or.inl q680), Or.inl rfl⟩
abbrev rm_X16_init : Room := { frames := 2, cells := 0, slots := 0, locals := 40 }
set_option maxHeartbeats 4000000 in
theorem c_X16_init (l : Launch) {g : Gl} {σ : Hp} {x0 : Nat} {x1 : Int32} {x2 : Int32} {r : Hp} (h : F_X16_init σ x0 x1 x2 = some r) : Met l yX16_init (ws_ yX16_init cX16_init 3 none) rm_X16_init (va_Pc [.ref x0, .int x1, .int x2] (WV g σ)) (Qv g r) 0 0 (frN g) := by
  refine ct_of (by decide) (Nat.le_of_ble_eq_true rfl) ?_
  intro p e s m below meth c ls X hV hl
  have hF : FR g [] := FR_nil
  unfold F_X16_init at h
  have hl : lv_has ls 3 [(0, .ref x0), (1, .int x1), (2, .int x2)] := hl
  have X : FX g p m c s _ meth cX16_init 3 RX16 none "<init>" := X
  refine lv_aload_n X.1 X.2.1 dX16_init_0 rfl (lv_at hl 0 rfl) ?_
  obtain ⟨s1, hc, h⟩ := b1_inv h
  refine r_cv (va_runIN (As := []) (rest := []) (cfX X) (c_X12_init_16 l hc) ⟨va_cnB 0 X.2.2.2.2.1 (lw_meth q640) rfl rfl rfl (X.2.2.2.2.2.1.2.2.2.1 _ (List.mem_of_getElem? (i := 15) rfl)) (X.2.2.2.2.1 _ q69) yd_X12_init ⟨Nat.le_of_ble_eq_true rfl, Nat.le_of_ble_eq_true rfl⟩, rfl, X.2.2.2.2.1 _ q639⟩ (preS X hV) rfl rfl hl.1 rfl (lv_room (Nat.le_of_ble_eq_true rfl)) dX16_init_1 ⟨(Nat.le_of_ble_eq_true rfl), (Nat.le_of_ble_eq_true rfl)⟩) hF (fun H locs hV hF => ?_)
  refine lv_aload_n X.1 X.2.1 dX16_init_4 rfl (lv_at hl 0 rfl) ?_
  refine lv_iload_n X.1 X.2.1 dX16_init_5 rfl (lv_at hl 1 rfl) ?_
  refine r_pI X hV hF fp_X16_7_16 (fun _ => rfl) dX16_init_6 h (fun s2 H locs hV hF h => ?_)
  refine lv_aload_n X.1 X.2.1 dX16_init_9 rfl (lv_at hl 0 rfl) ?_
  refine lv_iload_n X.1 X.2.1 dX16_init_10 rfl (lv_at hl 2 rfl) ?_
  refine r_pI X hV hF fp_X16_13_16 (fun _ => rfl) dX16_init_11 h (fun s3 H locs hV hF h => ?_)
  exact r_vret X hV hF h dX16_init_14
/-! PalaceOfRooms$Reader.line -/
theorem dX5_line_0 : decode cX5_line 0 = .ok (.aload_n 0, 1) := by decide +kernel
theorem dX5_line_1 : decode cX5_line 1 = .ok (.ldc 73, 2) := by decide +kernel
theorem dX5_line_3 : decode cX5_line 3 = .ok (.invokevirtual 75, 3) := by decide +kernel
theorem dX5_line_6 : decode cX5_line 6 = .ok (.ifCond .eq 27, 3) := by decide +kernel
theorem dX5_line_9 : decode cX5_line 9 = .ok (.aload_n 0, 1) := by decide +kernel
theorem dX5_line_10 : decode cX5_line 10 = .ok (.iconst 0, 1) := by decide +kernel
theorem dX5_line_11 : decode cX5_line 11 = .ok (.bipush 7, 2) := by decide +kernel
theorem dX5_line_13 : decode cX5_line 13 = .ok (.invokevirtual 78, 3) := by decide +kernel
theorem dX5_line_16 : decode cX5_line 16 = .ok (.istore_n 1, 1) := by decide +kernel
theorem dX5_line_17 : decode cX5_line 17 = .ok (.new 82, 3) := by decide +kernel
theorem dX5_line_20 : decode cX5_line 20 = .ok (.dup, 1) := by decide +kernel
theorem dX5_line_21 : decode cX5_line 21 = .ok (.iload_n 1, 1) := by decide +kernel
theorem dX5_line_22 : decode cX5_line 22 = .ok (.aload_n 0, 1) := by decide +kernel
theorem dX5_line_23 : decode cX5_line 23 = .ok (.iconst 0, 1) := by decide +kernel
theorem dX5_line_24 : decode cX5_line 24 = .ok (.bipush 8, 2) := by decide +kernel
theorem dX5_line_26 : decode cX5_line 26 = .ok (.invokevirtual 78, 3) := by decide +kernel
theorem dX5_line_29 : decode cX5_line 29 = .ok (.invokespecial 84, 3) := by decide +kernel
theorem dX5_line_32 : decode cX5_line 32 = .ok (.areturn, 1) := by decide +kernel
theorem dX5_line_33 : decode cX5_line 33 = .ok (.aload_n 0, 1) := by decide +kernel
theorem dX5_line_34 : decode cX5_line 34 = .ok (.ldc 87, 2) := by decide +kernel
theorem dX5_line_36 : decode cX5_line 36 = .ok (.invokevirtual 75, 3) := by decide +kernel
theorem dX5_line_39 : decode cX5_line 39 = .ok (.ifCond .eq 18, 3) := by decide +kernel
theorem dX5_line_42 : decode cX5_line 42 = .ok (.new 89, 3) := by decide +kernel
theorem dX5_line_45 : decode cX5_line 45 = .ok (.dup, 1) := by decide +kernel
theorem dX5_line_46 : decode cX5_line 46 = .ok (.aload_n 0, 1) := by decide +kernel
theorem dX5_line_47 : decode cX5_line 47 = .ok (.iconst 1, 1) := by decide +kernel
theorem dX5_line_48 : decode cX5_line 48 = .ok (.bipush 99, 2) := by decide +kernel
theorem dX5_line_50 : decode cX5_line 50 = .ok (.invokevirtual 78, 3) := by decide +kernel
theorem dX5_line_53 : decode cX5_line 53 = .ok (.invokespecial 91, 3) := by decide +kernel
theorem dX5_line_56 : decode cX5_line 56 = .ok (.areturn, 1) := by decide +kernel
theorem dX5_line_57 : decode cX5_line 57 = .ok (.aload_n 0, 1) := by decide +kernel
theorem dX5_line_58 : decode cX5_line 58 = .ok (.ldc 92, 2) := by decide +kernel
theorem dX5_line_60 : decode cX5_line 60 = .ok (.invokevirtual 75, 3) := by decide +kernel
theorem dX5_line_63 : decode cX5_line 63 = .ok (.ifCond .eq 18, 3) := by decide +kernel
theorem dX5_line_66 : decode cX5_line 66 = .ok (.new 94, 3) := by decide +kernel
theorem dX5_line_69 : decode cX5_line 69 = .ok (.dup, 1) := by decide +kernel
theorem dX5_line_70 : decode cX5_line 70 = .ok (.aload_n 0, 1) := by decide +kernel
theorem dX5_line_71 : decode cX5_line 71 = .ok (.iconst 0, 1) := by decide +kernel
theorem dX5_line_72 : decode cX5_line 72 = .ok (.bipush 8, 2) := by decide +kernel
theorem dX5_line_74 : decode cX5_line 74 = .ok (.invokevirtual 78, 3) := by decide +kernel
theorem dX5_line_77 : decode cX5_line 77 = .ok (.invokespecial 96, 3) := by decide +kernel
theorem dX5_line_80 : decode cX5_line 80 = .ok (.areturn, 1) := by decide +kernel
theorem dX5_line_81 : decode cX5_line 81 = .ok (.aload_n 0, 1) := by decide +kernel
theorem dX5_line_82 : decode cX5_line 82 = .ok (.aload_n 0, 1) := by decide +kernel
theorem dX5_line_83 : decode cX5_line 83 = .ok (.ldc 97, 2) := by decide +kernel
theorem dX5_line_85 : decode cX5_line 85 = .ok (.invokevirtual 75, 3) := by decide +kernel
theorem dX5_line_88 : decode cX5_line 88 = .ok (.invokevirtual 69, 3) := by decide +kernel
theorem dX5_line_91 : decode cX5_line 91 = .ok (.aload_n 0, 1) := by decide +kernel
theorem dX5_line_92 : decode cX5_line 92 = .ok (.iconst 0, 1) := by decide +kernel
theorem dX5_line_93 : decode cX5_line 93 = .ok (.bipush 7, 2) := by decide +kernel
theorem dX5_line_95 : decode cX5_line 95 = .ok (.invokevirtual 78, 3) := by decide +kernel
theorem dX5_line_98 : decode cX5_line 98 = .ok (.istore_n 1, 1) := by decide +kernel
theorem dX5_line_99 : decode cX5_line 99 = .ok (.aload_n 0, 1) := by decide +kernel
theorem dX5_line_100 : decode cX5_line 100 = .ok (.aload_n 0, 1) := by decide +kernel
theorem dX5_line_101 : decode cX5_line 101 = .ok (.ldc 99, 2) := by decide +kernel
theorem dX5_line_103 : decode cX5_line 103 = .ok (.invokevirtual 75, 3) := by decide +kernel
theorem dX5_line_106 : decode cX5_line 106 = .ok (.invokevirtual 69, 3) := by decide +kernel
theorem dX5_line_109 : decode cX5_line 109 = .ok (.new 101, 3) := by decide +kernel
theorem dX5_line_112 : decode cX5_line 112 = .ok (.dup, 1) := by decide +kernel
theorem dX5_line_113 : decode cX5_line 113 = .ok (.iload_n 1, 1) := by decide +kernel
theorem dX5_line_114 : decode cX5_line 114 = .ok (.aload_n 0, 1) := by decide +kernel
theorem dX5_line_115 : decode cX5_line 115 = .ok (.iconst 1, 1) := by decide +kernel
theorem dX5_line_116 : decode cX5_line 116 = .ok (.bipush 99, 2) := by decide +kernel
theorem dX5_line_118 : decode cX5_line 118 = .ok (.invokevirtual 78, 3) := by decide +kernel
theorem dX5_line_121 : decode cX5_line 121 = .ok (.invokespecial 103, 3) := by decide +kernel
theorem dX5_line_124 : decode cX5_line 124 = .ok (.areturn, 1) := by decide +kernel
theorem yd_X5_line : yX5_line.cls ≠ "java/lang/invoke/MethodHandle" ∧ yX5_line.cls ≠ "java/lang/invoke/VarHandle" ∧ (parseMethodDescriptor yX5_line.desc).map (fun d => d.parameters.length) = some 0 := by decide +kernel
theorem nw_X5_101 : NWk RX5 101 16 2 := ⟨RX16, TX16, 2, tyX16, rfl, in_X16, tyX16_ok, by decide +kernel, q673, q674, q73⟩
theorem nw_X5_94 : NWk RX5 94 15 1 := ⟨RX15, TX15, 1, tyX15, rfl, in_X15, tyX15_ok, by decide +kernel, q661, q662, q72⟩
theorem nw_X5_89 : NWk RX5 89 14 1 := ⟨RX14, TX14, 1, tyX14, rfl, in_X14, tyX14_ok, by decide +kernel, q650, q651, q71⟩
theorem nw_X5_82 : NWk RX5 82 13 2 := ⟨RX13, TX13, 2, tyX13, rfl, in_X13, tyX13_ok, by decide +kernel, q633, q634, q70⟩
abbrev rm_X5_line : Room := { frames := 6, cells := 5, slots := 30, locals := 135 }
set_option maxHeartbeats 4000000 in
theorem c_X5_line (l : Launch) {g : Gl} {σ : Hp} {x0 : Nat} {r : (Nat ⊕ Nat) × Hp} (h : F_X5_line σ x0 = some r) : MetX l yX5_line (ws_ yX5_line cX5_line 2 (some (.object "PalaceOfRooms$Line"))) rm_X5_line (va_Pc [.ref x0] (WV g σ)) (QX g rN r) 5 30 (frN g) := by
  refine ctX_of (by decide) (Nat.le_of_ble_eq_true rfl) ?_
  intro p e s m below meth c ls X hE hV hl
  have hF : FR g [] := FR_nil
  unfold F_X5_line at h
  have hl : lv_has ls 2 [(0, .ref x0)] := hl
  have X : FX g p m c s _ meth cX5_line 2 RX5 (some (.object "PalaceOfRooms$Line")) "line" := X
  obtain ⟨-, h⟩ := gd_inv h
  refine lv_aload_n X.1 X.2.1 dX5_line_0 rfl (lv_at hl 0 rfl) ?_
  refine va_ldcS (tx := "room") X.1 X.2.1 X.2.2.2.1 (X.2.2.2.2.2.1.2.2.2.2.2.2.2.1.2.1 _ (List.mem_of_getElem? (i := 0) rfl)) dX5_line_1 ?_
  obtain ⟨v1, s1, hc, h⟩ := b2_inv h
  refine r_ci (va_runV (C := RX5) (As := [.ref (g.2.2.2.2.1 0)]) (rest := []) (cfX X) (c_X5_skips l hc) (cwV 1 X.2.2.2.2.1 (lw_V q505 q507 qs8 q54 q508) rfl rfl rfl ⟨rfl, yd_X5_skips⟩ ⟨Nat.le_of_ble_eq_true rfl, Nat.le_of_ble_eq_true rfl⟩) (preV X hV (F_X5_skips_g hc) rfl) rfl rfl hl.1 rfl (lv_room (Nat.le_of_ble_eq_true rfl)) dX5_line_3 ⟨(Nat.le_of_ble_eq_true rfl), (Nat.le_of_ble_eq_true rfl)⟩) hF (fun H locs hV hF => ?_)
  refine r_ifeq (tgt := 33) X.1 X.2.1 dX5_line_6 (by decide) h (fun h => ?_) (fun h => ?_)
  · refine lv_aload_n X.1 X.2.1 dX5_line_33 rfl (lv_at hl 0 rfl) ?_
    refine va_ldcS (tx := "again") X.1 X.2.1 X.2.2.2.1 (X.2.2.2.2.2.1.2.2.2.2.2.2.2.1.2.1 _ (List.mem_of_getElem? (i := 1) rfl)) dX5_line_34 ?_
    obtain ⟨v2, s2, hc, h⟩ := b2_inv h
    refine r_ci (va_runV (C := RX5) (As := [.ref (g.2.2.2.2.1 1)]) (rest := []) (cfX X) (c_X5_skips l hc) (cwV 1 X.2.2.2.2.1 (lw_V q505 q507 qs8 q54 q508) rfl rfl rfl ⟨rfl, yd_X5_skips⟩ ⟨Nat.le_of_ble_eq_true rfl, Nat.le_of_ble_eq_true rfl⟩) (preV X hV (F_X5_skips_g hc) rfl) rfl rfl hl.1 rfl (lv_room (Nat.le_of_ble_eq_true rfl)) dX5_line_36 ⟨(Nat.le_of_ble_eq_true rfl), (Nat.le_of_ble_eq_true rfl)⟩) hF (fun H locs hV hF => ?_)
    refine r_ifeq (tgt := 57) X.1 X.2.1 dX5_line_39 (by decide) h (fun h => ?_) (fun h => ?_)
    · refine lv_aload_n X.1 X.2.1 dX5_line_57 rfl (lv_at hl 0 rfl) ?_
      refine va_ldcS (tx := "apart") X.1 X.2.1 X.2.2.2.1 (X.2.2.2.2.2.1.2.2.2.2.2.2.2.1.2.1 _ (List.mem_of_getElem? (i := 2) rfl)) dX5_line_58 ?_
      obtain ⟨v3, s3, hc, h⟩ := b2_inv h
      refine r_ci (va_runV (C := RX5) (As := [.ref (g.2.2.2.2.1 2)]) (rest := []) (cfX X) (c_X5_skips l hc) (cwV 1 X.2.2.2.2.1 (lw_V q505 q507 qs8 q54 q508) rfl rfl rfl ⟨rfl, yd_X5_skips⟩ ⟨Nat.le_of_ble_eq_true rfl, Nat.le_of_ble_eq_true rfl⟩) (preV X hV (F_X5_skips_g hc) rfl) rfl rfl hl.1 rfl (lv_room (Nat.le_of_ble_eq_true rfl)) dX5_line_60 ⟨(Nat.le_of_ble_eq_true rfl), (Nat.le_of_ble_eq_true rfl)⟩) hF (fun H locs hV hF => ?_)
      refine r_ifeq (tgt := 81) X.1 X.2.1 dX5_line_63 (by decide) h (fun h => ?_) (fun h => ?_)
      · refine lv_aload_n X.1 X.2.1 dX5_line_81 rfl (lv_at hl 0 rfl) ?_
        refine lv_aload_n X.1 X.2.1 dX5_line_82 rfl (lv_at hl 0 rfl) ?_
        refine va_ldcS (tx := "walk") X.1 X.2.1 X.2.2.2.1 (X.2.2.2.2.2.1.2.2.2.2.2.2.2.1.2.1 _ (List.mem_of_getElem? (i := 3) rfl)) dX5_line_83 ?_
        obtain ⟨v4, s4, hc, h⟩ := b2_inv h
        refine r_ci (va_runV (C := RX5) (As := [.ref (g.2.2.2.2.1 3)]) (rest := [.ref x0]) (cfX X) (c_X5_skips l hc) (cwV 1 X.2.2.2.2.1 (lw_V q505 q507 qs8 q54 q508) rfl rfl rfl ⟨rfl, yd_X5_skips⟩ ⟨Nat.le_of_ble_eq_true rfl, Nat.le_of_ble_eq_true rfl⟩) (preV X hV (F_X5_skips_g hc) rfl) rfl rfl hl.1 rfl (lv_room (Nat.le_of_ble_eq_true rfl)) dX5_line_85 ⟨(Nat.le_of_ble_eq_true rfl), (Nat.le_of_ble_eq_true rfl)⟩) hF (fun H locs hV hF => ?_)
        obtain ⟨v5, s5, hc, h⟩ := b2_inv h
        rcases v5 with v5 | v5
        case inr => exact r_thr (As := [.int v4]) (rest := []) X hE hV hF (cwV 1 X.2.2.2.2.1 (lw_V q565 q567 qs11 q54 q568) rfl rfl rfl ⟨rfl, yd_X5_need⟩ ⟨Nat.le_of_ble_eq_true rfl, Nat.le_of_ble_eq_true rfl⟩) (c_X5_need l hc) (preV X hV (F_X5_need_g hc) rfl) rfl hl.1 (Nat.le_of_ble_eq_true rfl) dX5_line_88 ⟨(Nat.le_of_ble_eq_true rfl), (Nat.le_of_ble_eq_true rfl)⟩ (Nat.le_of_ble_eq_true rfl) (Nat.le_of_ble_eq_true rfl) (tx_r h)
        have h := tx_l h
        refine r_cv (va_runV (C := RX5) (As := [.int v4]) (rest := []) (cfX X) (c_X5_need l hc).retV (cwV 1 X.2.2.2.2.1 (lw_V q565 q567 qs11 q54 q568) rfl rfl rfl ⟨rfl, yd_X5_need⟩ ⟨Nat.le_of_ble_eq_true rfl, Nat.le_of_ble_eq_true rfl⟩) (preV X hV (F_X5_need_g hc) rfl) rfl rfl hl.1 rfl (lv_room (Nat.le_of_ble_eq_true rfl)) dX5_line_88 ⟨(Nat.le_of_ble_eq_true rfl), (Nat.le_of_ble_eq_true rfl)⟩) hF (fun H locs hV hF => ?_)
        refine lv_aload_n X.1 X.2.1 dX5_line_91 rfl (lv_at hl 0 rfl) ?_
        refine lv_iconst (v := 0) X.1 X.2.1 dX5_line_92 (by decide) ?_
        refine lv_bipush (v := 7) X.1 X.2.1 dX5_line_93 (by decide) ?_
        obtain ⟨v6, s6, hc, h⟩ := b2_inv h
        rcases v6 with v6 | v6
        case inr => exact r_thr (As := [.int 0, .int 7]) (rest := []) X hE hV hF (cwV 2 X.2.2.2.2.1 (lw_V q561 q563 qs10 q54 q564) rfl rfl rfl ⟨rfl, yd_X5_number⟩ ⟨Nat.le_of_ble_eq_true rfl, Nat.le_of_ble_eq_true rfl⟩) (c_X5_number l hc) (preV X hV (F_X5_number_g hc) rfl) rfl hl.1 (Nat.le_of_ble_eq_true rfl) dX5_line_95 ⟨(Nat.le_of_ble_eq_true rfl), (Nat.le_of_ble_eq_true rfl)⟩ (Nat.le_of_ble_eq_true rfl) (Nat.le_of_ble_eq_true rfl) (tx_r h)
        have h := tx_l h
        refine r_ci (va_runV (C := RX5) (As := [.int 0, .int 7]) (rest := []) (cfX X) (c_X5_number l hc).retI (cwV 2 X.2.2.2.2.1 (lw_V q561 q563 qs10 q54 q564) rfl rfl rfl ⟨rfl, yd_X5_number⟩ ⟨Nat.le_of_ble_eq_true rfl, Nat.le_of_ble_eq_true rfl⟩) (preV X hV (F_X5_number_g hc) rfl) rfl rfl hl.1 rfl (lv_room (Nat.le_of_ble_eq_true rfl)) dX5_line_95 ⟨(Nat.le_of_ble_eq_true rfl), (Nat.le_of_ble_eq_true rfl)⟩) hF (fun H locs hV hF => ?_)
        refine lv_istore_n (lv' := [(1, .int v6), (0, .ref x0)]) X.1 X.2.1 dX5_line_98 rfl hl (by decide) rfl (fun ls hl => ?_)
        refine lv_aload_n X.1 X.2.1 dX5_line_99 rfl (lv_at hl 1 rfl) ?_
        refine lv_aload_n X.1 X.2.1 dX5_line_100 rfl (lv_at hl 1 rfl) ?_
        refine va_ldcS (tx := "every") X.1 X.2.1 X.2.2.2.1 (X.2.2.2.2.2.1.2.2.2.2.2.2.2.1.2.1 _ (List.mem_of_getElem? (i := 4) rfl)) dX5_line_101 ?_
        obtain ⟨v7, s7, hc, h⟩ := b2_inv h
        refine r_ci (va_runV (C := RX5) (As := [.ref (g.2.2.2.2.1 4)]) (rest := [.ref x0]) (cfX X) (c_X5_skips l hc) (cwV 1 X.2.2.2.2.1 (lw_V q505 q507 qs8 q54 q508) rfl rfl rfl ⟨rfl, yd_X5_skips⟩ ⟨Nat.le_of_ble_eq_true rfl, Nat.le_of_ble_eq_true rfl⟩) (preV X hV (F_X5_skips_g hc) rfl) rfl rfl hl.1 rfl (lv_room (Nat.le_of_ble_eq_true rfl)) dX5_line_103 ⟨(Nat.le_of_ble_eq_true rfl), (Nat.le_of_ble_eq_true rfl)⟩) hF (fun H locs hV hF => ?_)
        obtain ⟨v8, s8, hc, h⟩ := b2_inv h
        rcases v8 with v8 | v8
        case inr => exact r_thr (As := [.int v7]) (rest := []) X hE hV hF (cwV 1 X.2.2.2.2.1 (lw_V q565 q567 qs11 q54 q568) rfl rfl rfl ⟨rfl, yd_X5_need⟩ ⟨Nat.le_of_ble_eq_true rfl, Nat.le_of_ble_eq_true rfl⟩) (c_X5_need l hc) (preV X hV (F_X5_need_g hc) rfl) rfl hl.1 (Nat.le_of_ble_eq_true rfl) dX5_line_106 ⟨(Nat.le_of_ble_eq_true rfl), (Nat.le_of_ble_eq_true rfl)⟩ (Nat.le_of_ble_eq_true rfl) (Nat.le_of_ble_eq_true rfl) (tx_r h)
        have h := tx_l h
        refine r_cv (va_runV (C := RX5) (As := [.int v7]) (rest := []) (cfX X) (c_X5_need l hc).retV (cwV 1 X.2.2.2.2.1 (lw_V q565 q567 qs11 q54 q568) rfl rfl rfl ⟨rfl, yd_X5_need⟩ ⟨Nat.le_of_ble_eq_true rfl, Nat.le_of_ble_eq_true rfl⟩) (preV X hV (F_X5_need_g hc) rfl) rfl rfl hl.1 rfl (lv_room (Nat.le_of_ble_eq_true rfl)) dX5_line_106 ⟨(Nat.le_of_ble_eq_true rfl), (Nat.le_of_ble_eq_true rfl)⟩) hF (fun H locs hV hF => ?_)
        refine r_new X hV nw_X5_101 (Nat.le_of_ble_eq_true rfl) (Nat.le_of_ble_eq_true rfl) dX5_line_109 (fun H hV => ?_)
        refine lv_dup X.1 X.2.1 dX5_line_112 rfl ?_
        refine lv_iload_n X.1 X.2.1 dX5_line_113 rfl (lv_at hl 0 rfl) ?_
        refine lv_aload_n X.1 X.2.1 dX5_line_114 rfl (lv_at hl 1 rfl) ?_
        refine lv_iconst (v := 1) X.1 X.2.1 dX5_line_115 (by decide) ?_
        refine lv_bipush (v := 99) X.1 X.2.1 dX5_line_116 (by decide) ?_
        obtain ⟨v9, s9, hc, h⟩ := b2_inv h
        rcases v9 with v9 | v9
        case inr => exact r_thr (As := [.int 1, .int 99]) (rest := [.int v6, .ref (hZ s8), .ref (hZ s8)]) X hE hV hF (cwV 2 X.2.2.2.2.1 (lw_V q561 q563 qs10 q54 q564) rfl rfl rfl ⟨rfl, yd_X5_number⟩ ⟨Nat.le_of_ble_eq_true rfl, Nat.le_of_ble_eq_true rfl⟩) (c_X5_number l hc) (preV X hV (F_X5_number_g hc) rfl) rfl hl.1 (Nat.le_of_ble_eq_true rfl) dX5_line_118 ⟨(Nat.le_of_ble_eq_true rfl), (Nat.le_of_ble_eq_true rfl)⟩ (Nat.le_of_ble_eq_true rfl) (Nat.le_of_ble_eq_true rfl) (tx_r h)
        have h := tx_l h
        refine r_ci (va_runV (C := RX5) (As := [.int 1, .int 99]) (rest := [.int v6, .ref (hZ s8), .ref (hZ s8)]) (cfX X) (c_X5_number l hc).retI (cwV 2 X.2.2.2.2.1 (lw_V q561 q563 qs10 q54 q564) rfl rfl rfl ⟨rfl, yd_X5_number⟩ ⟨Nat.le_of_ble_eq_true rfl, Nat.le_of_ble_eq_true rfl⟩) (preV X hV (F_X5_number_g hc) rfl) rfl rfl hl.1 rfl (lv_room (Nat.le_of_ble_eq_true rfl)) dX5_line_118 ⟨(Nat.le_of_ble_eq_true rfl), (Nat.le_of_ble_eq_true rfl)⟩) hF (fun H locs hV hF => ?_)
        obtain ⟨s10, hc, h⟩ := b1_inv h
        refine r_cv (va_runI (As := [.int v6, .int v9]) (rest := [.ref (hZ s8)]) (cfX X) (c_X16_init l hc) (cwI 2 X.2.2.2.2.1 (lw_meth q677) rfl rfl rfl (X.2.2.2.2.1 _ q73) (X.2.2.2.2.1 _ q675) (X.2.2.2.2.1 _ q676) rfl yd_X16_init ⟨Nat.le_of_ble_eq_true rfl, Nat.le_of_ble_eq_true rfl⟩) (preS X hV) rfl rfl hl.1 rfl (lv_room (Nat.le_of_ble_eq_true rfl)) dX5_line_121 ⟨(Nat.le_of_ble_eq_true rfl), (Nat.le_of_ble_eq_true rfl)⟩) hF (fun H locs hV hF => ?_)
        exact r_aretX X hV hF h dX5_line_124
      · refine r_new X hV nw_X5_94 (Nat.le_of_ble_eq_true rfl) (Nat.le_of_ble_eq_true rfl) dX5_line_66 (fun H hV => ?_)
        refine lv_dup X.1 X.2.1 dX5_line_69 rfl ?_
        refine lv_aload_n X.1 X.2.1 dX5_line_70 rfl (lv_at hl 0 rfl) ?_
        refine lv_iconst (v := 0) X.1 X.2.1 dX5_line_71 (by decide) ?_
        refine lv_bipush (v := 8) X.1 X.2.1 dX5_line_72 (by decide) ?_
        obtain ⟨v11, s11, hc, h⟩ := b2_inv h
        rcases v11 with v11 | v11
        case inr => exact r_thr (As := [.int 0, .int 8]) (rest := [.ref (hZ s3), .ref (hZ s3)]) X hE hV hF (cwV 2 X.2.2.2.2.1 (lw_V q561 q563 qs10 q54 q564) rfl rfl rfl ⟨rfl, yd_X5_number⟩ ⟨Nat.le_of_ble_eq_true rfl, Nat.le_of_ble_eq_true rfl⟩) (c_X5_number l hc) (preV X hV (F_X5_number_g hc) rfl) rfl hl.1 (Nat.le_of_ble_eq_true rfl) dX5_line_74 ⟨(Nat.le_of_ble_eq_true rfl), (Nat.le_of_ble_eq_true rfl)⟩ (Nat.le_of_ble_eq_true rfl) (Nat.le_of_ble_eq_true rfl) (tx_r h)
        have h := tx_l h
        refine r_ci (va_runV (C := RX5) (As := [.int 0, .int 8]) (rest := [.ref (hZ s3), .ref (hZ s3)]) (cfX X) (c_X5_number l hc).retI (cwV 2 X.2.2.2.2.1 (lw_V q561 q563 qs10 q54 q564) rfl rfl rfl ⟨rfl, yd_X5_number⟩ ⟨Nat.le_of_ble_eq_true rfl, Nat.le_of_ble_eq_true rfl⟩) (preV X hV (F_X5_number_g hc) rfl) rfl rfl hl.1 rfl (lv_room (Nat.le_of_ble_eq_true rfl)) dX5_line_74 ⟨(Nat.le_of_ble_eq_true rfl), (Nat.le_of_ble_eq_true rfl)⟩) hF (fun H locs hV hF => ?_)
        obtain ⟨s12, hc, h⟩ := b1_inv h
        refine r_cv (va_runI (As := [.int v11]) (rest := [.ref (hZ s3)]) (cfX X) (c_X15_init l hc) (cwI 1 X.2.2.2.2.1 (lw_meth q665) rfl rfl rfl (X.2.2.2.2.1 _ q72) (X.2.2.2.2.1 _ q663) (X.2.2.2.2.1 _ q664) rfl yd_X15_init ⟨Nat.le_of_ble_eq_true rfl, Nat.le_of_ble_eq_true rfl⟩) (preS X hV) rfl rfl hl.1 rfl (lv_room (Nat.le_of_ble_eq_true rfl)) dX5_line_77 ⟨(Nat.le_of_ble_eq_true rfl), (Nat.le_of_ble_eq_true rfl)⟩) hF (fun H locs hV hF => ?_)
        refine W.widen (k := 5) (n := 30) (Nat.le_of_ble_eq_true rfl) (Nat.le_of_ble_eq_true rfl) ?_
        exact r_aretX X hV hF h dX5_line_80
    · refine r_new X hV nw_X5_89 (Nat.le_of_ble_eq_true rfl) (Nat.le_of_ble_eq_true rfl) dX5_line_42 (fun H hV => ?_)
      refine lv_dup X.1 X.2.1 dX5_line_45 rfl ?_
      refine lv_aload_n X.1 X.2.1 dX5_line_46 rfl (lv_at hl 0 rfl) ?_
      refine lv_iconst (v := 1) X.1 X.2.1 dX5_line_47 (by decide) ?_
      refine lv_bipush (v := 99) X.1 X.2.1 dX5_line_48 (by decide) ?_
      obtain ⟨v13, s13, hc, h⟩ := b2_inv h
      rcases v13 with v13 | v13
      case inr => exact r_thr (As := [.int 1, .int 99]) (rest := [.ref (hZ s2), .ref (hZ s2)]) X hE hV hF (cwV 2 X.2.2.2.2.1 (lw_V q561 q563 qs10 q54 q564) rfl rfl rfl ⟨rfl, yd_X5_number⟩ ⟨Nat.le_of_ble_eq_true rfl, Nat.le_of_ble_eq_true rfl⟩) (c_X5_number l hc) (preV X hV (F_X5_number_g hc) rfl) rfl hl.1 (Nat.le_of_ble_eq_true rfl) dX5_line_50 ⟨(Nat.le_of_ble_eq_true rfl), (Nat.le_of_ble_eq_true rfl)⟩ (Nat.le_of_ble_eq_true rfl) (Nat.le_of_ble_eq_true rfl) (tx_r h)
      have h := tx_l h
      refine r_ci (va_runV (C := RX5) (As := [.int 1, .int 99]) (rest := [.ref (hZ s2), .ref (hZ s2)]) (cfX X) (c_X5_number l hc).retI (cwV 2 X.2.2.2.2.1 (lw_V q561 q563 qs10 q54 q564) rfl rfl rfl ⟨rfl, yd_X5_number⟩ ⟨Nat.le_of_ble_eq_true rfl, Nat.le_of_ble_eq_true rfl⟩) (preV X hV (F_X5_number_g hc) rfl) rfl rfl hl.1 rfl (lv_room (Nat.le_of_ble_eq_true rfl)) dX5_line_50 ⟨(Nat.le_of_ble_eq_true rfl), (Nat.le_of_ble_eq_true rfl)⟩) hF (fun H locs hV hF => ?_)
      obtain ⟨s14, hc, h⟩ := b1_inv h
      refine r_cv (va_runI (As := [.int v13]) (rest := [.ref (hZ s2)]) (cfX X) (c_X14_init l hc) (cwI 1 X.2.2.2.2.1 (lw_meth q654) rfl rfl rfl (X.2.2.2.2.1 _ q71) (X.2.2.2.2.1 _ q652) (X.2.2.2.2.1 _ q653) rfl yd_X14_init ⟨Nat.le_of_ble_eq_true rfl, Nat.le_of_ble_eq_true rfl⟩) (preS X hV) rfl rfl hl.1 rfl (lv_room (Nat.le_of_ble_eq_true rfl)) dX5_line_53 ⟨(Nat.le_of_ble_eq_true rfl), (Nat.le_of_ble_eq_true rfl)⟩) hF (fun H locs hV hF => ?_)
      refine W.widen (k := 5) (n := 30) (Nat.le_of_ble_eq_true rfl) (Nat.le_of_ble_eq_true rfl) ?_
      exact r_aretX X hV hF h dX5_line_56
  · refine lv_aload_n X.1 X.2.1 dX5_line_9 rfl (lv_at hl 0 rfl) ?_
    refine lv_iconst (v := 0) X.1 X.2.1 dX5_line_10 (by decide) ?_
    refine lv_bipush (v := 7) X.1 X.2.1 dX5_line_11 (by decide) ?_
    obtain ⟨v15, s15, hc, h⟩ := b2_inv h
    rcases v15 with v15 | v15
    case inr => exact r_thr (As := [.int 0, .int 7]) (rest := []) X hE hV hF (cwV 2 X.2.2.2.2.1 (lw_V q561 q563 qs10 q54 q564) rfl rfl rfl ⟨rfl, yd_X5_number⟩ ⟨Nat.le_of_ble_eq_true rfl, Nat.le_of_ble_eq_true rfl⟩) (c_X5_number l hc) (preV X hV (F_X5_number_g hc) rfl) rfl hl.1 (Nat.le_of_ble_eq_true rfl) dX5_line_13 ⟨(Nat.le_of_ble_eq_true rfl), (Nat.le_of_ble_eq_true rfl)⟩ (Nat.le_of_ble_eq_true rfl) (Nat.le_of_ble_eq_true rfl) (tx_r h)
    have h := tx_l h
    refine r_ci (va_runV (C := RX5) (As := [.int 0, .int 7]) (rest := []) (cfX X) (c_X5_number l hc).retI (cwV 2 X.2.2.2.2.1 (lw_V q561 q563 qs10 q54 q564) rfl rfl rfl ⟨rfl, yd_X5_number⟩ ⟨Nat.le_of_ble_eq_true rfl, Nat.le_of_ble_eq_true rfl⟩) (preV X hV (F_X5_number_g hc) rfl) rfl rfl hl.1 rfl (lv_room (Nat.le_of_ble_eq_true rfl)) dX5_line_13 ⟨(Nat.le_of_ble_eq_true rfl), (Nat.le_of_ble_eq_true rfl)⟩) hF (fun H locs hV hF => ?_)
    refine lv_istore_n (lv' := [(1, .int v15), (0, .ref x0)]) X.1 X.2.1 dX5_line_16 rfl hl (by decide) rfl (fun ls hl => ?_)
    refine r_new X hV nw_X5_82 (Nat.le_of_ble_eq_true rfl) (Nat.le_of_ble_eq_true rfl) dX5_line_17 (fun H hV => ?_)
    refine lv_dup X.1 X.2.1 dX5_line_20 rfl ?_
    refine lv_iload_n X.1 X.2.1 dX5_line_21 rfl (lv_at hl 0 rfl) ?_
    refine lv_aload_n X.1 X.2.1 dX5_line_22 rfl (lv_at hl 1 rfl) ?_
    refine lv_iconst (v := 0) X.1 X.2.1 dX5_line_23 (by decide) ?_
    refine lv_bipush (v := 8) X.1 X.2.1 dX5_line_24 (by decide) ?_
    obtain ⟨v16, s16, hc, h⟩ := b2_inv h
    rcases v16 with v16 | v16
    case inr => exact r_thr (As := [.int 0, .int 8]) (rest := [.int v15, .ref (hZ s15), .ref (hZ s15)]) X hE hV hF (cwV 2 X.2.2.2.2.1 (lw_V q561 q563 qs10 q54 q564) rfl rfl rfl ⟨rfl, yd_X5_number⟩ ⟨Nat.le_of_ble_eq_true rfl, Nat.le_of_ble_eq_true rfl⟩) (c_X5_number l hc) (preV X hV (F_X5_number_g hc) rfl) rfl hl.1 (Nat.le_of_ble_eq_true rfl) dX5_line_26 ⟨(Nat.le_of_ble_eq_true rfl), (Nat.le_of_ble_eq_true rfl)⟩ (Nat.le_of_ble_eq_true rfl) (Nat.le_of_ble_eq_true rfl) (tx_r h)
    have h := tx_l h
    refine r_ci (va_runV (C := RX5) (As := [.int 0, .int 8]) (rest := [.int v15, .ref (hZ s15), .ref (hZ s15)]) (cfX X) (c_X5_number l hc).retI (cwV 2 X.2.2.2.2.1 (lw_V q561 q563 qs10 q54 q564) rfl rfl rfl ⟨rfl, yd_X5_number⟩ ⟨Nat.le_of_ble_eq_true rfl, Nat.le_of_ble_eq_true rfl⟩) (preV X hV (F_X5_number_g hc) rfl) rfl rfl hl.1 rfl (lv_room (Nat.le_of_ble_eq_true rfl)) dX5_line_26 ⟨(Nat.le_of_ble_eq_true rfl), (Nat.le_of_ble_eq_true rfl)⟩) hF (fun H locs hV hF => ?_)
    obtain ⟨s17, hc, h⟩ := b1_inv h
    refine r_cv (va_runI (As := [.int v15, .int v16]) (rest := [.ref (hZ s15)]) (cfX X) (c_X13_init l hc) (cwI 2 X.2.2.2.2.1 (lw_meth q637) rfl rfl rfl (X.2.2.2.2.1 _ q70) (X.2.2.2.2.1 _ q635) (X.2.2.2.2.1 _ q636) rfl yd_X13_init ⟨Nat.le_of_ble_eq_true rfl, Nat.le_of_ble_eq_true rfl⟩) (preS X hV) rfl rfl hl.1 rfl (lv_room (Nat.le_of_ble_eq_true rfl)) dX5_line_29 ⟨(Nat.le_of_ble_eq_true rfl), (Nat.le_of_ble_eq_true rfl)⟩) hF (fun H locs hV hF => ?_)
    refine W.widen (k := 5) (n := 30) (Nat.le_of_ble_eq_true rfl) (Nat.le_of_ble_eq_true rfl) ?_
    exact r_aretX X hV hF h dX5_line_32
/-! PalaceOfRooms$Reader.read -/
theorem dX5_read_0 : decode cX5_read 0 = .ok (.aload_n 0, 1) := by decide +kernel
theorem dX5_read_1 : decode cX5_read 1 = .ok (.bipush 10, 2) := by decide +kernel
theorem dX5_read_3 : decode cX5_read 3 = .ok (.anewarray 104, 3) := by decide +kernel
theorem dX5_read_6 : decode cX5_read 6 = .ok (.putfield 106, 3) := by decide +kernel
theorem dX5_read_9 : decode cX5_read 9 = .ok (.aload_n 0, 1) := by decide +kernel
theorem dX5_read_10 : decode cX5_read 10 = .ok (.iconst 0, 1) := by decide +kernel
theorem dX5_read_11 : decode cX5_read 11 = .ok (.putfield 31, 3) := by decide +kernel
theorem dX5_read_14 : decode cX5_read 14 = .ok (.aload_n 0, 1) := by decide +kernel
theorem dX5_read_15 : decode cX5_read 15 = .ok (.iconst 0, 1) := by decide +kernel
theorem dX5_read_16 : decode cX5_read 16 = .ok (.putfield 110, 3) := by decide +kernel
theorem dX5_read_19 : decode cX5_read 19 = .ok (.aload_n 0, 1) := by decide +kernel
theorem dX5_read_20 : decode cX5_read 20 = .ok (.invokevirtual 61, 3) := by decide +kernel
theorem dX5_read_23 : decode cX5_read 23 = .ok (.aload_n 0, 1) := by decide +kernel
theorem dX5_read_24 : decode cX5_read 24 = .ok (.getfield 106, 3) := by decide +kernel
theorem dX5_read_27 : decode cX5_read 27 = .ok (.aload_n 0, 1) := by decide +kernel
theorem dX5_read_28 : decode cX5_read 28 = .ok (.getfield 110, 3) := by decide +kernel
theorem dX5_read_31 : decode cX5_read 31 = .ok (.aload_n 0, 1) := by decide +kernel
theorem dX5_read_32 : decode cX5_read 32 = .ok (.invokevirtual 113, 3) := by decide +kernel
theorem dX5_read_35 : decode cX5_read 35 = .ok (.aastore, 1) := by decide +kernel
theorem dX5_read_36 : decode cX5_read 36 = .ok (.aload_n 0, 1) := by decide +kernel
theorem dX5_read_37 : decode cX5_read 37 = .ok (.dup, 1) := by decide +kernel
theorem dX5_read_38 : decode cX5_read 38 = .ok (.getfield 110, 3) := by decide +kernel
theorem dX5_read_41 : decode cX5_read 41 = .ok (.iconst 1, 1) := by decide +kernel
theorem dX5_read_42 : decode cX5_read 42 = .ok (.iadd, 1) := by decide +kernel
theorem dX5_read_43 : decode cX5_read 43 = .ok (.putfield 110, 3) := by decide +kernel
theorem dX5_read_46 : decode cX5_read 46 = .ok (.aload_n 0, 1) := by decide +kernel
theorem dX5_read_47 : decode cX5_read 47 = .ok (.getfield 38, 3) := by decide +kernel
theorem dX5_read_50 : decode cX5_read 50 = .ok (.aload_n 0, 1) := by decide +kernel
theorem dX5_read_51 : decode cX5_read 51 = .ok (.getfield 3, 3) := by decide +kernel
theorem dX5_read_54 : decode cX5_read 54 = .ok (.getfield 35, 3) := by decide +kernel
theorem dX5_read_57 : decode cX5_read 57 = .ok (.if_icmp .ge 60, 3) := by decide +kernel
theorem dX5_read_60 : decode cX5_read 60 = .ok (.aload_n 0, 1) := by decide +kernel
theorem dX5_read_61 : decode cX5_read 61 = .ok (.aload_n 0, 1) := by decide +kernel
theorem dX5_read_62 : decode cX5_read 62 = .ok (.ldc 117, 2) := by decide +kernel
theorem dX5_read_64 : decode cX5_read 64 = .ok (.invokevirtual 57, 3) := by decide +kernel
theorem dX5_read_67 : decode cX5_read 67 = .ok (.ifCond .eq 16, 3) := by decide +kernel
theorem dX5_read_70 : decode cX5_read 70 = .ok (.aload_n 0, 1) := by decide +kernel
theorem dX5_read_71 : decode cX5_read 71 = .ok (.getfield 110, 3) := by decide +kernel
theorem dX5_read_74 : decode cX5_read 74 = .ok (.bipush 10, 2) := by decide +kernel
theorem dX5_read_76 : decode cX5_read 76 = .ok (.if_icmp .ge 7, 3) := by decide +kernel
theorem dX5_read_79 : decode cX5_read 79 = .ok (.iconst 1, 1) := by decide +kernel
theorem dX5_read_80 : decode cX5_read 80 = .ok (.goto 4, 3) := by decide +kernel
theorem dX5_read_83 : decode cX5_read 83 = .ok (.iconst 0, 1) := by decide +kernel
theorem dX5_read_84 : decode cX5_read 84 = .ok (.invokevirtual 69, 3) := by decide +kernel
theorem dX5_read_87 : decode cX5_read 87 = .ok (.aload_n 0, 1) := by decide +kernel
theorem dX5_read_88 : decode cX5_read 88 = .ok (.invokevirtual 61, 3) := by decide +kernel
theorem dX5_read_91 : decode cX5_read 91 = .ok (.aload_n 0, 1) := by decide +kernel
theorem dX5_read_92 : decode cX5_read 92 = .ok (.getfield 106, 3) := by decide +kernel
theorem dX5_read_95 : decode cX5_read 95 = .ok (.aload_n 0, 1) := by decide +kernel
theorem dX5_read_96 : decode cX5_read 96 = .ok (.getfield 110, 3) := by decide +kernel
theorem dX5_read_99 : decode cX5_read 99 = .ok (.aload_n 0, 1) := by decide +kernel
theorem dX5_read_100 : decode cX5_read 100 = .ok (.invokevirtual 113, 3) := by decide +kernel
theorem dX5_read_103 : decode cX5_read 103 = .ok (.aastore, 1) := by decide +kernel
theorem dX5_read_104 : decode cX5_read 104 = .ok (.aload_n 0, 1) := by decide +kernel
theorem dX5_read_105 : decode cX5_read 105 = .ok (.dup, 1) := by decide +kernel
theorem dX5_read_106 : decode cX5_read 106 = .ok (.getfield 110, 3) := by decide +kernel
theorem dX5_read_109 : decode cX5_read 109 = .ok (.iconst 1, 1) := by decide +kernel
theorem dX5_read_110 : decode cX5_read 110 = .ok (.iadd, 1) := by decide +kernel
theorem dX5_read_111 : decode cX5_read 111 = .ok (.putfield 110, 3) := by decide +kernel
theorem dX5_read_114 : decode cX5_read 114 = .ok (.goto (-68), 3) := by decide +kernel
theorem dX5_read_117 : decode cX5_read 117 = .ok (.return_, 1) := by decide +kernel
theorem yd_X5_read : yX5_read.cls ≠ "java/lang/invoke/MethodHandle" ∧ yX5_read.cls ≠ "java/lang/invoke/VarHandle" ∧ (parseMethodDescriptor yX5_read.desc).map (fun d => d.parameters.length) = some 0 := by decide +kernel
theorem fl_X5_106_5 : FLk RX5 106 5 0 "[LPalaceOfRooms$Line;" := ⟨RX5, TX5, 6, "PalaceOfRooms$Reader", rfl, by decide, (fun q => by have h1 := q.1; have h2 := q.2; omega), rfl, in_X5, Or.inl q160, Or.inl rfl⟩
theorem fl_X5_110_5 : FLk RX5 110 5 1 "I" := ⟨RX5, TX5, 6, "PalaceOfRooms$Reader", rfl, by decide, (fun q => by have h1 := q.1; have h2 := q.2; omega), rfl, in_X5, Or.inl q162, Or.inl rfl⟩
theorem fp_X5_110_5 : FPk RX5 110 5 1 "I" false := ⟨RX5, TX5, 6, "PalaceOfRooms$Reader", tyX5, rfl, by decide, (fun q => by have h1 := q.1; have h2 := q.2; omega), rfl, in_X5, tyX5_ok, (fun a ha b hb h => Or.inl (nmX5 a ha b hb h)), rfl, (fun q => by cases q), (Or.inl q162), Or.inl rfl⟩
theorem fp_X5_106_5 : FPk RX5 106 5 0 "[LPalaceOfRooms$Line;" false := ⟨RX5, TX5, 6, "PalaceOfRooms$Reader", tyX5, rfl, by decide, (fun q => by have h1 := q.1; have h2 := q.2; omega), rfl, in_X5, tyX5_ok, (fun a ha b hb h => Or.inl (nmX5 a ha b hb h)), rfl, (fun q => by cases q), (Or.inl q160), Or.inl rfl⟩
abbrev rm_X5_read : Room := { frames := 7, cells := 72, slots := 447, locals := 156 }
set_option maxHeartbeats 4000000 in
theorem w_X5_read_46_b {p : Program} {l : Launch} {e : Env} {s : State} {m : MethodId} {args : Array Value} {below : List Frame} {meth : Method} {c : Code} {g : Gl} {k : Nat} (hk : k < 11) (X : FX g p m c s args meth cX5_read 1 RX5 none "read") (hE : c.exceptionTable.isEmpty = true) {r : (Unit ⊕ Nat) × Hp} {rec46 : Hp → Option ((Unit ⊕ Nat) × Hp)} {x0 : Nat} {σ : Hp} (hr46 : ∀ (st : Hp), rec46 st = some r → ∀ (H : Heap) (locs : List Loc) (ls : Array Slot), HV g st H → FR g locs → lv_has ls 1 [(0, .ref x0)] → W p l e rm_X5_read s m args below meth c H locs (6 + 6 * (k + 1)) (40 + 37 * (k + 1)) (MQX below (QX g rV r) args s 72 447 (frN g)) (F0 m 46 ls [])) {H : Heap} {locs : List Loc} {ls : Array Slot} (h : B_X5_read_46 x0 rec46 σ = some r) (hV : HV g σ H) (hF : FR g locs) (hl : lv_has ls 1 [(0, .ref x0)]) : W p l e rm_X5_read s m args below meth c H locs (6 + 6 * k) (40 + 37 * k) (MQX below (QX g rV r) args s 72 447 (frN g)) (F0 m 46 ls []) := by
  unfold B_X5_read_46 at h
  refine lv_aload_n X.1 X.2.1 dX5_read_46 rfl (lv_at hl 0 rfl) ?_
  refine r_gI X hV fl_X5_38_5 dX5_read_47 h (fun v1 h => ?_)
  refine lv_aload_n X.1 X.2.1 dX5_read_50 rfl (lv_at hl 0 rfl) ?_
  refine r_gR X hV fl_X5_3_5 (by decide) dX5_read_51 h (fun v2 h => ?_)
  refine r_gI X hV fl_X5_35_0 dX5_read_54 h (fun v3 h => ?_)
  refine r_ge (tgt := 117) X.1 X.2.1 dX5_read_57 (by decide) h (fun h => ?_) (fun h => ?_)
  · refine W.widen (k := 72) (n := 447) (by omega) (by omega) ?_
    exact r_vretX X hV hF h dX5_read_117
  · refine lv_aload_n X.1 X.2.1 dX5_read_60 rfl (lv_at hl 0 rfl) ?_
    refine lv_aload_n X.1 X.2.1 dX5_read_61 rfl (lv_at hl 0 rfl) ?_
    refine va_ldcS (tx := ";") X.1 X.2.1 X.2.2.2.1 (X.2.2.2.2.2.1.2.2.2.2.2.2.2.1.2.1 _ (List.mem_of_getElem? (i := 5) rfl)) dX5_read_62 ?_
    obtain ⟨v4, s1, hc, h⟩ := b2_inv h
    refine r_ci (va_runV (C := RX5) (As := [.ref (g.2.2.2.2.1 5)]) (rest := [.ref x0]) (cfX X) (c_X5_isWord l hc) (cwV 1 X.2.2.2.2.1 (lw_V q509 q511 qs9 q54 q512) rfl rfl rfl ⟨rfl, yd_X5_isWord⟩ ⟨Nat.le_of_ble_eq_true rfl, Nat.le_of_ble_eq_true rfl⟩) (preV X hV (F_X5_isWord_g hc) rfl) rfl rfl hl.1 rfl (lv_room (Nat.le_of_ble_eq_true rfl)) dX5_read_64 ⟨(by simp only [rm_X5_read]; omega), (by simp only [rm_X5_read]; omega)⟩) hF (fun H locs hV hF => ?_)
    refine r_ifeq (tgt := 83) X.1 X.2.1 dX5_read_67 (by decide) h (fun h => ?_) (fun h => ?_)
    · refine lv_iconst (v := 0) X.1 X.2.1 dX5_read_83 (by decide) ?_
      obtain ⟨v5, s2, hc, h⟩ := b2_inv h
      rcases v5 with v5 | v5
      case inr => exact r_thr (As := [.int 0]) (rest := []) X hE hV hF (cwV 1 X.2.2.2.2.1 (lw_V q565 q567 qs11 q54 q568) rfl rfl rfl ⟨rfl, yd_X5_need⟩ ⟨Nat.le_of_ble_eq_true rfl, Nat.le_of_ble_eq_true rfl⟩) (c_X5_need l hc) (preV X hV (F_X5_need_g hc) rfl) rfl hl.1 (Nat.le_of_ble_eq_true rfl) dX5_read_84 ⟨(by simp only [rm_X5_read]; omega), (by simp only [rm_X5_read]; omega)⟩ (by simp only [rm_X5_need]; omega) (by simp only [rm_X5_need]; omega) (tx_r h)
      have h := tx_l h
      refine r_cv (va_runV (C := RX5) (As := [.int 0]) (rest := []) (cfX X) (c_X5_need l hc).retV (cwV 1 X.2.2.2.2.1 (lw_V q565 q567 qs11 q54 q568) rfl rfl rfl ⟨rfl, yd_X5_need⟩ ⟨Nat.le_of_ble_eq_true rfl, Nat.le_of_ble_eq_true rfl⟩) (preV X hV (F_X5_need_g hc) rfl) rfl rfl hl.1 rfl (lv_room (Nat.le_of_ble_eq_true rfl)) dX5_read_84 ⟨(by simp only [rm_X5_read]; omega), (by simp only [rm_X5_read]; omega)⟩) hF (fun H locs hV hF => ?_)
      refine lv_aload_n X.1 X.2.1 dX5_read_87 rfl (lv_at hl 0 rfl) ?_
      obtain ⟨s3, hc, h⟩ := b1_inv h
      refine r_cv (va_runV (C := RX5) (As := []) (rest := []) (cfX X) (c_X5_token l hc) (cwV 0 X.2.2.2.2.1 (lw_V q487 q489 qs5 q54 q490) rfl rfl rfl ⟨rfl, yd_X5_token⟩ ⟨Nat.le_of_ble_eq_true rfl, Nat.le_of_ble_eq_true rfl⟩) (preV X hV (F_X5_token_g hc) rfl) rfl rfl hl.1 rfl (lv_room (Nat.le_of_ble_eq_true rfl)) dX5_read_88 ⟨(by simp only [rm_X5_read]; omega), (by simp only [rm_X5_read]; omega)⟩) hF (fun H locs hV hF => ?_)
      refine lv_aload_n X.1 X.2.1 dX5_read_91 rfl (lv_at hl 0 rfl) ?_
      refine r_gR X hV fl_X5_106_5 (by decide) dX5_read_92 h (fun v7 h => ?_)
      refine lv_aload_n X.1 X.2.1 dX5_read_95 rfl (lv_at hl 0 rfl) ?_
      refine r_gI X hV fl_X5_110_5 dX5_read_96 h (fun v8 h => ?_)
      refine lv_aload_n X.1 X.2.1 dX5_read_99 rfl (lv_at hl 0 rfl) ?_
      obtain ⟨v9, s4, hc, h⟩ := b2_inv h
      rcases v9 with v9 | v9
      case inr => exact r_thr (As := []) (rest := [.int v8, .ref v7]) X hE hV hF (cwV 0 X.2.2.2.2.1 (lw_V q500 q502 qs7 q54 q503) rfl rfl rfl ⟨rfl, yd_X5_line⟩ ⟨Nat.le_of_ble_eq_true rfl, Nat.le_of_ble_eq_true rfl⟩) (c_X5_line l hc) (preV X hV (F_X5_line_g hc) rfl) rfl hl.1 (Nat.le_of_ble_eq_true rfl) dX5_read_100 ⟨(by simp only [rm_X5_read]; omega), (by simp only [rm_X5_read]; omega)⟩ (by simp only [rm_X5_line]; omega) (by simp only [rm_X5_line]; omega) (tx_r h)
      have h := tx_l h
      refine r_cn (va_runV (C := RX5) (As := []) (rest := [.int v8, .ref v7]) (cfX X) (c_X5_line l hc).retN (cwV 0 X.2.2.2.2.1 (lw_V q500 q502 qs7 q54 q503) rfl rfl rfl ⟨rfl, yd_X5_line⟩ ⟨Nat.le_of_ble_eq_true rfl, Nat.le_of_ble_eq_true rfl⟩) (preV X hV (F_X5_line_g hc) rfl) rfl rfl hl.1 rfl (lv_room (Nat.le_of_ble_eq_true rfl)) dX5_read_100 ⟨(by simp only [rm_X5_read]; omega), (by simp only [rm_X5_read]; omega)⟩) hF (fun H locs hV hF => ?_)
      refine r_astL X hV hF dX5_read_103 h (fun s5 H locs hV hF h => ?_)
      refine lv_aload_n X.1 X.2.1 dX5_read_104 rfl (lv_at hl 0 rfl) ?_
      refine lv_dup X.1 X.2.1 dX5_read_105 rfl ?_
      refine r_gI X hV fl_X5_110_5 dX5_read_106 h (fun v10 h => ?_)
      refine lv_iconst (v := 1) X.1 X.2.1 dX5_read_109 (by decide) ?_
      refine lv_iadd X.1 X.2.1 dX5_read_110 ?_
      refine r_pI X hV hF fp_X5_110_5 (fun q => by cases q) dX5_read_111 h (fun s6 H locs hV hF h => ?_)
      refine lv_goto (tgt := 46) X.1 X.2.1 dX5_read_114 (by decide) ?_
      refine W.widen (k := 6 + 6 * (k + 1)) (n := 40 + 37 * (k + 1)) (by omega) (by omega) ?_
      exact hr46 s6 h _ _ _ hV hF (lv_sub hl [0] rfl)
    · refine lv_aload_n X.1 X.2.1 dX5_read_70 rfl (lv_at hl 0 rfl) ?_
      refine r_gI X hV fl_X5_110_5 dX5_read_71 h (fun v11 h => ?_)
      refine lv_bipush (v := 10) X.1 X.2.1 dX5_read_74 (by decide) ?_
      refine r_ge (tgt := 83) X.1 X.2.1 dX5_read_76 (by decide) h (fun h => ?_) (fun h => ?_)
      · refine lv_iconst (v := 0) X.1 X.2.1 dX5_read_83 (by decide) ?_
        obtain ⟨v12, s7, hc, h⟩ := b2_inv h
        rcases v12 with v12 | v12
        case inr => exact r_thr (As := [.int 0]) (rest := []) X hE hV hF (cwV 1 X.2.2.2.2.1 (lw_V q565 q567 qs11 q54 q568) rfl rfl rfl ⟨rfl, yd_X5_need⟩ ⟨Nat.le_of_ble_eq_true rfl, Nat.le_of_ble_eq_true rfl⟩) (c_X5_need l hc) (preV X hV (F_X5_need_g hc) rfl) rfl hl.1 (Nat.le_of_ble_eq_true rfl) dX5_read_84 ⟨(by simp only [rm_X5_read]; omega), (by simp only [rm_X5_read]; omega)⟩ (by simp only [rm_X5_need]; omega) (by simp only [rm_X5_need]; omega) (tx_r h)
        have h := tx_l h
        refine r_cv (va_runV (C := RX5) (As := [.int 0]) (rest := []) (cfX X) (c_X5_need l hc).retV (cwV 1 X.2.2.2.2.1 (lw_V q565 q567 qs11 q54 q568) rfl rfl rfl ⟨rfl, yd_X5_need⟩ ⟨Nat.le_of_ble_eq_true rfl, Nat.le_of_ble_eq_true rfl⟩) (preV X hV (F_X5_need_g hc) rfl) rfl rfl hl.1 rfl (lv_room (Nat.le_of_ble_eq_true rfl)) dX5_read_84 ⟨(by simp only [rm_X5_read]; omega), (by simp only [rm_X5_read]; omega)⟩) hF (fun H locs hV hF => ?_)
        refine lv_aload_n X.1 X.2.1 dX5_read_87 rfl (lv_at hl 0 rfl) ?_
        obtain ⟨s8, hc, h⟩ := b1_inv h
        refine r_cv (va_runV (C := RX5) (As := []) (rest := []) (cfX X) (c_X5_token l hc) (cwV 0 X.2.2.2.2.1 (lw_V q487 q489 qs5 q54 q490) rfl rfl rfl ⟨rfl, yd_X5_token⟩ ⟨Nat.le_of_ble_eq_true rfl, Nat.le_of_ble_eq_true rfl⟩) (preV X hV (F_X5_token_g hc) rfl) rfl rfl hl.1 rfl (lv_room (Nat.le_of_ble_eq_true rfl)) dX5_read_88 ⟨(by simp only [rm_X5_read]; omega), (by simp only [rm_X5_read]; omega)⟩) hF (fun H locs hV hF => ?_)
        refine lv_aload_n X.1 X.2.1 dX5_read_91 rfl (lv_at hl 0 rfl) ?_
        refine r_gR X hV fl_X5_106_5 (by decide) dX5_read_92 h (fun v14 h => ?_)
        refine lv_aload_n X.1 X.2.1 dX5_read_95 rfl (lv_at hl 0 rfl) ?_
        refine r_gI X hV fl_X5_110_5 dX5_read_96 h (fun v15 h => ?_)
        refine lv_aload_n X.1 X.2.1 dX5_read_99 rfl (lv_at hl 0 rfl) ?_
        obtain ⟨v16, s9, hc, h⟩ := b2_inv h
        rcases v16 with v16 | v16
        case inr => exact r_thr (As := []) (rest := [.int v15, .ref v14]) X hE hV hF (cwV 0 X.2.2.2.2.1 (lw_V q500 q502 qs7 q54 q503) rfl rfl rfl ⟨rfl, yd_X5_line⟩ ⟨Nat.le_of_ble_eq_true rfl, Nat.le_of_ble_eq_true rfl⟩) (c_X5_line l hc) (preV X hV (F_X5_line_g hc) rfl) rfl hl.1 (Nat.le_of_ble_eq_true rfl) dX5_read_100 ⟨(by simp only [rm_X5_read]; omega), (by simp only [rm_X5_read]; omega)⟩ (by simp only [rm_X5_line]; omega) (by simp only [rm_X5_line]; omega) (tx_r h)
        have h := tx_l h
        refine r_cn (va_runV (C := RX5) (As := []) (rest := [.int v15, .ref v14]) (cfX X) (c_X5_line l hc).retN (cwV 0 X.2.2.2.2.1 (lw_V q500 q502 qs7 q54 q503) rfl rfl rfl ⟨rfl, yd_X5_line⟩ ⟨Nat.le_of_ble_eq_true rfl, Nat.le_of_ble_eq_true rfl⟩) (preV X hV (F_X5_line_g hc) rfl) rfl rfl hl.1 rfl (lv_room (Nat.le_of_ble_eq_true rfl)) dX5_read_100 ⟨(by simp only [rm_X5_read]; omega), (by simp only [rm_X5_read]; omega)⟩) hF (fun H locs hV hF => ?_)
        refine r_astL X hV hF dX5_read_103 h (fun s10 H locs hV hF h => ?_)
        refine lv_aload_n X.1 X.2.1 dX5_read_104 rfl (lv_at hl 0 rfl) ?_
        refine lv_dup X.1 X.2.1 dX5_read_105 rfl ?_
        refine r_gI X hV fl_X5_110_5 dX5_read_106 h (fun v17 h => ?_)
        refine lv_iconst (v := 1) X.1 X.2.1 dX5_read_109 (by decide) ?_
        refine lv_iadd X.1 X.2.1 dX5_read_110 ?_
        refine r_pI X hV hF fp_X5_110_5 (fun q => by cases q) dX5_read_111 h (fun s11 H locs hV hF h => ?_)
        refine lv_goto (tgt := 46) X.1 X.2.1 dX5_read_114 (by decide) ?_
        refine W.widen (k := 6 + 6 * (k + 1)) (n := 40 + 37 * (k + 1)) (by omega) (by omega) ?_
        exact hr46 s11 h _ _ _ hV hF (lv_sub hl [0] rfl)
      · refine lv_iconst (v := 1) X.1 X.2.1 dX5_read_79 (by decide) ?_
        refine lv_goto (tgt := 84) X.1 X.2.1 dX5_read_80 (by decide) ?_
        obtain ⟨v18, s12, hc, h⟩ := b2_inv h
        rcases v18 with v18 | v18
        case inr => exact r_thr (As := [.int 1]) (rest := []) X hE hV hF (cwV 1 X.2.2.2.2.1 (lw_V q565 q567 qs11 q54 q568) rfl rfl rfl ⟨rfl, yd_X5_need⟩ ⟨Nat.le_of_ble_eq_true rfl, Nat.le_of_ble_eq_true rfl⟩) (c_X5_need l hc) (preV X hV (F_X5_need_g hc) rfl) rfl hl.1 (Nat.le_of_ble_eq_true rfl) dX5_read_84 ⟨(by simp only [rm_X5_read]; omega), (by simp only [rm_X5_read]; omega)⟩ (by simp only [rm_X5_need]; omega) (by simp only [rm_X5_need]; omega) (tx_r h)
        have h := tx_l h
        refine r_cv (va_runV (C := RX5) (As := [.int 1]) (rest := []) (cfX X) (c_X5_need l hc).retV (cwV 1 X.2.2.2.2.1 (lw_V q565 q567 qs11 q54 q568) rfl rfl rfl ⟨rfl, yd_X5_need⟩ ⟨Nat.le_of_ble_eq_true rfl, Nat.le_of_ble_eq_true rfl⟩) (preV X hV (F_X5_need_g hc) rfl) rfl rfl hl.1 rfl (lv_room (Nat.le_of_ble_eq_true rfl)) dX5_read_84 ⟨(by simp only [rm_X5_read]; omega), (by simp only [rm_X5_read]; omega)⟩) hF (fun H locs hV hF => ?_)
        refine lv_aload_n X.1 X.2.1 dX5_read_87 rfl (lv_at hl 0 rfl) ?_
        obtain ⟨s13, hc, h⟩ := b1_inv h
        refine r_cv (va_runV (C := RX5) (As := []) (rest := []) (cfX X) (c_X5_token l hc) (cwV 0 X.2.2.2.2.1 (lw_V q487 q489 qs5 q54 q490) rfl rfl rfl ⟨rfl, yd_X5_token⟩ ⟨Nat.le_of_ble_eq_true rfl, Nat.le_of_ble_eq_true rfl⟩) (preV X hV (F_X5_token_g hc) rfl) rfl rfl hl.1 rfl (lv_room (Nat.le_of_ble_eq_true rfl)) dX5_read_88 ⟨(by simp only [rm_X5_read]; omega), (by simp only [rm_X5_read]; omega)⟩) hF (fun H locs hV hF => ?_)
        refine lv_aload_n X.1 X.2.1 dX5_read_91 rfl (lv_at hl 0 rfl) ?_
        refine r_gR X hV fl_X5_106_5 (by decide) dX5_read_92 h (fun v20 h => ?_)
        refine lv_aload_n X.1 X.2.1 dX5_read_95 rfl (lv_at hl 0 rfl) ?_
        refine r_gI X hV fl_X5_110_5 dX5_read_96 h (fun v21 h => ?_)
        refine lv_aload_n X.1 X.2.1 dX5_read_99 rfl (lv_at hl 0 rfl) ?_
        obtain ⟨v22, s14, hc, h⟩ := b2_inv h
        rcases v22 with v22 | v22
        case inr => exact r_thr (As := []) (rest := [.int v21, .ref v20]) X hE hV hF (cwV 0 X.2.2.2.2.1 (lw_V q500 q502 qs7 q54 q503) rfl rfl rfl ⟨rfl, yd_X5_line⟩ ⟨Nat.le_of_ble_eq_true rfl, Nat.le_of_ble_eq_true rfl⟩) (c_X5_line l hc) (preV X hV (F_X5_line_g hc) rfl) rfl hl.1 (Nat.le_of_ble_eq_true rfl) dX5_read_100 ⟨(by simp only [rm_X5_read]; omega), (by simp only [rm_X5_read]; omega)⟩ (by simp only [rm_X5_line]; omega) (by simp only [rm_X5_line]; omega) (tx_r h)
        have h := tx_l h
        refine r_cn (va_runV (C := RX5) (As := []) (rest := [.int v21, .ref v20]) (cfX X) (c_X5_line l hc).retN (cwV 0 X.2.2.2.2.1 (lw_V q500 q502 qs7 q54 q503) rfl rfl rfl ⟨rfl, yd_X5_line⟩ ⟨Nat.le_of_ble_eq_true rfl, Nat.le_of_ble_eq_true rfl⟩) (preV X hV (F_X5_line_g hc) rfl) rfl rfl hl.1 rfl (lv_room (Nat.le_of_ble_eq_true rfl)) dX5_read_100 ⟨(by simp only [rm_X5_read]; omega), (by simp only [rm_X5_read]; omega)⟩) hF (fun H locs hV hF => ?_)
        refine r_astL X hV hF dX5_read_103 h (fun s15 H locs hV hF h => ?_)
        refine lv_aload_n X.1 X.2.1 dX5_read_104 rfl (lv_at hl 0 rfl) ?_
        refine lv_dup X.1 X.2.1 dX5_read_105 rfl ?_
        refine r_gI X hV fl_X5_110_5 dX5_read_106 h (fun v23 h => ?_)
        refine lv_iconst (v := 1) X.1 X.2.1 dX5_read_109 (by decide) ?_
        refine lv_iadd X.1 X.2.1 dX5_read_110 ?_
        refine r_pI X hV hF fp_X5_110_5 (fun q => by cases q) dX5_read_111 h (fun s16 H locs hV hF h => ?_)
        refine lv_goto (tgt := 46) X.1 X.2.1 dX5_read_114 (by decide) ?_
        refine W.widen (k := 6 + 6 * (k + 1)) (n := 40 + 37 * (k + 1)) (by omega) (by omega) ?_
        exact hr46 s16 h _ _ _ hV hF (lv_sub hl [0] rfl)
set_option maxHeartbeats 4000000 in
theorem w_X5_read_46 {p : Program} {l : Launch} {e : Env} {s : State} {m : MethodId} {args : Array Value} {below : List Frame} {meth : Method} {c : Code} {g : Gl} (X : FX g p m c s args meth cX5_read 1 RX5 none "read") (hE : c.exceptionTable.isEmpty = true) {r : (Unit ⊕ Nat) × Hp} {x0 : Nat}  : ∀ (n : Nat) (st : Hp), L_X5_read_46 x0 n st = some r → n ≤ 11 → ∀ (H : Heap) (locs : List Loc) (ls : Array Slot), HV g st H → FR g locs → lv_has ls 1 [(0, .ref x0)] → W p l e rm_X5_read s m args below meth c H locs (6 + 6 * (11 - n)) (40 + 37 * (11 - n)) (MQX below (QX g rV r) args s 72 447 (frN g)) (F0 m 46 ls []) := by
  intro n
  induction n with
  | zero =>
    intro st h
    rw [L_X5_read_46_0] at h
    cases h
  | succ n ih =>
    intro st h hn H locs ls hV hF hl
    rw [L_X5_read_46_s] at h
    have e1 : 11 - (n + 1) + 1 = 11 - n := by omega
    refine w_X5_read_46_b (k := 11 - (n + 1)) (by omega) X hE ?_ h hV hF hl
    rw [e1]
    exact fun st h => ih st h (by omega)
set_option maxHeartbeats 4000000 in
theorem c_X5_read (l : Launch) {g : Gl} {σ : Hp} {x0 : Nat} {r : (Unit ⊕ Nat) × Hp} (h : F_X5_read σ x0 = some r) : MetX l yX5_read (ws_ yX5_read cX5_read 1 none) rm_X5_read (va_Pc [.ref x0] (WV g σ)) (QX g rV r) 72 447 (frN g) := by
  refine ctX_of (by decide) (Nat.le_of_ble_eq_true rfl) ?_
  intro p e s m below meth c ls X hE hV hl
  have hF : FR g [] := FR_nil
  unfold F_X5_read at h
  have hl : lv_has ls 1 [(0, .ref x0)] := hl
  have X : FX g p m c s _ meth cX5_read 1 RX5 none "read" := X
  obtain ⟨-, h⟩ := gd_inv h
  refine lv_aload_n X.1 X.2.1 dX5_read_0 rfl (lv_at hl 0 rfl) ?_
  refine lv_bipush (v := 10) X.1 X.2.1 dX5_read_1 (by decide) ?_
  refine r_anew (t := 4) (N := 10) (C := "PalaceOfRooms$Line") X hV (by decide) (by decide) rfl (List.mem_of_getElem? (i := 1) rfl) q486 (by decide) (by decide) (by decide) (Nat.le_of_ble_eq_true rfl) (Nat.le_of_ble_eq_true rfl) dX5_read_3 (fun H hV => ?_)
  refine r_pR X hV hF fp_X5_106_5 (fun q => by cases q) (by decide) (ty := (.array (.object "PalaceOfRooms$Line"))) (by decide +kernel) dX5_read_6 rfl rfl h (fun s1 H locs hV hF h => ?_)
  refine lv_aload_n X.1 X.2.1 dX5_read_9 rfl (lv_at hl 0 rfl) ?_
  refine lv_iconst (v := 0) X.1 X.2.1 dX5_read_10 (by decide) ?_
  refine r_pI X hV hF fp_X5_31_5 (fun q => by cases q) dX5_read_11 h (fun s2 H locs hV hF h => ?_)
  refine lv_aload_n X.1 X.2.1 dX5_read_14 rfl (lv_at hl 0 rfl) ?_
  refine lv_iconst (v := 0) X.1 X.2.1 dX5_read_15 (by decide) ?_
  refine r_pI X hV hF fp_X5_110_5 (fun q => by cases q) dX5_read_16 h (fun s3 H locs hV hF h => ?_)
  refine lv_aload_n X.1 X.2.1 dX5_read_19 rfl (lv_at hl 0 rfl) ?_
  obtain ⟨s4, hc, h⟩ := b1_inv h
  refine r_cv (va_runV (C := RX5) (As := []) (rest := []) (cfX X) (c_X5_token l hc) (cwV 0 X.2.2.2.2.1 (lw_V q487 q489 qs5 q54 q490) rfl rfl rfl ⟨rfl, yd_X5_token⟩ ⟨Nat.le_of_ble_eq_true rfl, Nat.le_of_ble_eq_true rfl⟩) (preV X hV (F_X5_token_g hc) rfl) rfl rfl hl.1 rfl (lv_room (Nat.le_of_ble_eq_true rfl)) dX5_read_20 ⟨(Nat.le_of_ble_eq_true rfl), (Nat.le_of_ble_eq_true rfl)⟩) hF (fun H locs hV hF => ?_)
  refine lv_aload_n X.1 X.2.1 dX5_read_23 rfl (lv_at hl 0 rfl) ?_
  refine r_gR X hV fl_X5_106_5 (by decide) dX5_read_24 h (fun v2 h => ?_)
  refine lv_aload_n X.1 X.2.1 dX5_read_27 rfl (lv_at hl 0 rfl) ?_
  refine r_gI X hV fl_X5_110_5 dX5_read_28 h (fun v3 h => ?_)
  refine lv_aload_n X.1 X.2.1 dX5_read_31 rfl (lv_at hl 0 rfl) ?_
  obtain ⟨v4, s5, hc, h⟩ := b2_inv h
  rcases v4 with v4 | v4
  case inr => exact r_thr (As := []) (rest := [.int v3, .ref v2]) X hE hV hF (cwV 0 X.2.2.2.2.1 (lw_V q500 q502 qs7 q54 q503) rfl rfl rfl ⟨rfl, yd_X5_line⟩ ⟨Nat.le_of_ble_eq_true rfl, Nat.le_of_ble_eq_true rfl⟩) (c_X5_line l hc) (preV X hV (F_X5_line_g hc) rfl) rfl hl.1 (Nat.le_of_ble_eq_true rfl) dX5_read_32 ⟨(Nat.le_of_ble_eq_true rfl), (Nat.le_of_ble_eq_true rfl)⟩ (Nat.le_of_ble_eq_true rfl) (Nat.le_of_ble_eq_true rfl) (tx_r h)
  have h := tx_l h
  refine r_cn (va_runV (C := RX5) (As := []) (rest := [.int v3, .ref v2]) (cfX X) (c_X5_line l hc).retN (cwV 0 X.2.2.2.2.1 (lw_V q500 q502 qs7 q54 q503) rfl rfl rfl ⟨rfl, yd_X5_line⟩ ⟨Nat.le_of_ble_eq_true rfl, Nat.le_of_ble_eq_true rfl⟩) (preV X hV (F_X5_line_g hc) rfl) rfl rfl hl.1 rfl (lv_room (Nat.le_of_ble_eq_true rfl)) dX5_read_32 ⟨(Nat.le_of_ble_eq_true rfl), (Nat.le_of_ble_eq_true rfl)⟩) hF (fun H locs hV hF => ?_)
  refine r_astL X hV hF dX5_read_35 h (fun s6 H locs hV hF h => ?_)
  refine lv_aload_n X.1 X.2.1 dX5_read_36 rfl (lv_at hl 0 rfl) ?_
  refine lv_dup X.1 X.2.1 dX5_read_37 rfl ?_
  refine r_gI X hV fl_X5_110_5 dX5_read_38 h (fun v5 h => ?_)
  refine lv_iconst (v := 1) X.1 X.2.1 dX5_read_41 (by decide) ?_
  refine lv_iadd X.1 X.2.1 dX5_read_42 ?_
  refine r_pI X hV hF fp_X5_110_5 (fun q => by cases q) dX5_read_43 h (fun s7 H locs hV hF h => ?_)
  exact w_X5_read_46 X hE  11 s7 h (Nat.le_refl _) _ _ _ hV hF (lv_sub hl [0] rfl)
/-! PalaceOfRooms.fault -/
theorem dX0_fault_0 : decode cX0_fault 0 = .ok (.aload_n 0, 1) := by decide +kernel
theorem dX0_fault_1 : decode cX0_fault 1 = .ok (.getfield 66, 3) := by decide +kernel
theorem dX0_fault_4 : decode cX0_fault 4 = .ok (.invokevirtual 194, 3) := by decide +kernel
theorem dX0_fault_7 : decode cX0_fault 7 = .ok (.iconst (-1), 1) := by decide +kernel
theorem dX0_fault_8 : decode cX0_fault 8 = .ok (.ireturn, 1) := by decide +kernel
theorem dX0_fault_9 : decode cX0_fault 9 = .ok (.astore_n 1, 1) := by decide +kernel
theorem dX0_fault_10 : decode cX0_fault 10 = .ok (.aload_n 1, 1) := by decide +kernel
theorem dX0_fault_11 : decode cX0_fault 11 = .ok (.getfield 199, 3) := by decide +kernel
theorem dX0_fault_14 : decode cX0_fault 14 = .ok (.ireturn, 1) := by decide +kernel
theorem yd_X0_fault : yX0_fault.cls ≠ "java/lang/invoke/MethodHandle" ∧ yX0_fault.cls ≠ "java/lang/invoke/VarHandle" ∧ (parseMethodDescriptor yX0_fault.desc).map (fun d => d.parameters.length) = some 0 := by decide +kernel
theorem fl_X0_66_0 : FLk RX0 66 0 14 "LPalaceOfRooms$Reader;" := ⟨RX0, TX0, 22, "PalaceOfRooms", rfl, by decide, (fun q => by have h1 := q.1; have h2 := q.2; omega), rfl, in_X0, Or.inl q267, Or.inl rfl⟩
theorem fl_X0_199_11 : FLk RX0 199 11 6 "I" := ⟨RX11, TX11, 7, "PalaceOfRooms$Fault", rfl, by decide, (fun q => by have h1 := q.1; have h2 := q.2; omega), rfl, in_X11, Or.inr (List.mem_of_getElem? (i := 18) rfl), Or.inl rfl⟩
abbrev rm_X0_fault : Room := { frames := 8, cells := 72, slots := 447, locals := 176 }
set_option maxHeartbeats 4000000 in
theorem c_X0_fault (l : Launch) {g : Gl} {σ : Hp} {x0 : Nat} {r : Int32 × Hp} (h : F_X0_fault σ x0 = some r) : Met l yX0_fault (wsW_ yX0_fault cX0_fault 2 (some .int) [(0, 8, 9, 197)]) rm_X0_fault (va_Pc [.ref x0] (WV g σ)) (Qi g r) 72 447 (frN g) := by
  refine ctW_of (by decide) (Nat.le_of_ble_eq_true rfl) ?_
  intro p e s m below meth c ls X hTab hV hl
  have hF : FR g [] := FR_nil
  unfold F_X0_fault at h
  have hl : lv_has ls 2 [(0, .ref x0)] := hl
  have X : FX g p m c s _ meth cX0_fault 2 RX0 (some .int) "fault" := X
  obtain ⟨-, h⟩ := gd_inv h
  obtain ⟨en, hen, h1, h2, h3, h4⟩ : ∃ en, c.exceptionTable.toList = [en] ∧ en.startPc = 0 ∧ en.endPc = 8 ∧ en.handlerPc = 9 ∧ en.catchType = 197 := by
    cases hx : c.exceptionTable.toList with
    | nil => rw [hx] at hTab; cases hTab
    | cons en t =>
      cases t with
      | nil => rw [hx] at hTab; simp at hTab; exact ⟨en, rfl, hTab.1, hTab.2.1, hTab.2.2.1, hTab.2.2.2⟩
      | cons b t => rw [hx] at hTab; simp at hTab
  refine lv_aload_n X.1 X.2.1 dX0_fault_0 rfl (lv_at hl 0 rfl) ?_
  refine r_gR X hV fl_X0_66_0 (by decide) dX0_fault_1 h (fun v1 h => ?_)
  obtain ⟨v2, s1, hc, h⟩ := b2_inv h
  rcases v2 with v2 | v2
  · have h := tx_l h
    refine r_cv (va_runV (C := RX5) (As := []) (rest := []) (cfX X) (c_X5_read l hc).retV (cwV 0 X.2.2.2.2.1 (lw_V q482 q483 q484 q54 q485) rfl rfl rfl ⟨rfl, yd_X5_read⟩ ⟨Nat.le_of_ble_eq_true rfl, Nat.le_of_ble_eq_true rfl⟩) (preV X hV (F_X5_read_g hc) rfl) rfl rfl hl.1 rfl (lv_room (Nat.le_of_ble_eq_true rfl)) dX0_fault_4 ⟨Nat.le_of_ble_eq_true rfl, Nat.le_of_ble_eq_true rfl⟩) hF (fun H locs hV hF => ?_)
    refine lv_iconst (v := (-1)) X.1 X.2.1 dX0_fault_7 (by decide) ?_
    refine W.widen (k := 72) (n := 447) (Nat.le_of_ble_eq_true rfl) (Nat.le_of_ble_eq_true rfl) ?_
    exact r_iret X hV hF h dX0_fault_8
  · have h := tx_r h
    obtain ⟨hg, h⟩ := gd_inv h
    refine r_catch (As := []) (rest := []) (ci := 11) X hF (cwV 0 X.2.2.2.2.1 (lw_V q482 q483 q484 q54 q485) rfl rfl rfl ⟨rfl, yd_X5_read⟩ ⟨Nat.le_of_ble_eq_true rfl, Nat.le_of_ble_eq_true rfl⟩) (c_X5_read l hc) (preV X hV (F_X5_read_g hc) rfl) rfl hl.1 (Nat.le_of_ble_eq_true rfl) dX0_fault_4 ⟨Nat.le_of_ble_eq_true rfl, Nat.le_of_ble_eq_true rfl⟩ hen (by unfold covers; rw [h1, h2]; rfl) (by rw [h4]; decide) (by rw [h4]; exact q481) hg rfl rfl (fun H locs hV hF => ?_)
    rw [h3]
    refine lv_astore_n (lv' := [(1, .ref v2), (0, .ref x0)]) X.1 X.2.1 dX0_fault_9 rfl hl (by decide) rfl (fun ls hl => ?_)
    refine lv_aload_n X.1 X.2.1 dX0_fault_10 rfl (lv_at hl 0 rfl) ?_
    refine r_gI X hV fl_X0_199_11 dX0_fault_11 h (fun v3 h => ?_)
    refine W.widen (k := 72) (n := 447) (Nat.le_of_ble_eq_true rfl) (Nat.le_of_ble_eq_true rfl) ?_
    exact r_iret X hV hF h dX0_fault_14
