set_option maxRecDepth 100000
/-! PalaceOfRooms.plan -/
theorem dX0_plan_0 : decode cX0_plan 0 = .ok (.iload_n 1, 1) := by decide +kernel
theorem dX0_plan_1 : decode cX0_plan 1 = .ok (.iload_n 2, 1) := by decide +kernel
theorem dX0_plan_2 : decode cX0_plan 2 = .ok (.invokestatic 283, 3) := by decide +kernel
theorem dX0_plan_5 : decode cX0_plan 5 = .ok (.ifCond .eq 18, 3) := by decide +kernel
theorem dX0_plan_8 : decode cX0_plan 8 = .ok (.iload_n 3, 1) := by decide +kernel
theorem dX0_plan_9 : decode cX0_plan 9 = .ok (.i2l, 1) := by decide +kernel
theorem dX0_plan_10 : decode cX0_plan 10 = .ok (.ldc2_w 287, 3) := by decide +kernel
theorem dX0_plan_13 : decode cX0_plan 13 = .ok (.iload_n 1, 1) := by decide +kernel
theorem dX0_plan_14 : decode cX0_plan 14 = .ok (.iconst 1, 1) := by decide +kernel
theorem dX0_plan_15 : decode cX0_plan 15 = .ok (.isub, 1) := by decide +kernel
theorem dX0_plan_16 : decode cX0_plan 16 = .ok (.i2l, 1) := by decide +kernel
theorem dX0_plan_17 : decode cX0_plan 17 = .ok (.invokestatic 5, 3) := by decide +kernel
theorem dX0_plan_20 : decode cX0_plan 20 = .ok (.ifCond .ne 6, 3) := by decide +kernel
theorem dX0_plan_23 : decode cX0_plan 23 = .ok (.bipush (-3), 2) := by decide +kernel
theorem dX0_plan_25 : decode cX0_plan 25 = .ok (.ireturn, 1) := by decide +kernel
theorem dX0_plan_26 : decode cX0_plan 26 = .ok (.aload_n 0, 1) := by decide +kernel
theorem dX0_plan_27 : decode cX0_plan 27 = .ok (.invokevirtual 289, 3) := by decide +kernel
theorem dX0_plan_30 : decode cX0_plan 30 = .ok (.iconst 1, 1) := by decide +kernel
theorem dX0_plan_31 : decode cX0_plan 31 = .ok (.istore 4, 2) := by decide +kernel
theorem dX0_plan_33 : decode cX0_plan 33 = .ok (.iconst 0, 1) := by decide +kernel
theorem dX0_plan_34 : decode cX0_plan 34 = .ok (.istore 5, 2) := by decide +kernel
theorem dX0_plan_36 : decode cX0_plan 36 = .ok (.iload 5, 2) := by decide +kernel
theorem dX0_plan_38 : decode cX0_plan 38 = .ok (.iload_n 1, 1) := by decide +kernel
theorem dX0_plan_39 : decode cX0_plan 39 = .ok (.if_icmp .ge 16, 3) := by decide +kernel
theorem dX0_plan_42 : decode cX0_plan 42 = .ok (.iload 4, 2) := by decide +kernel
theorem dX0_plan_44 : decode cX0_plan 44 = .ok (.bipush 9, 2) := by decide +kernel
theorem dX0_plan_46 : decode cX0_plan 46 = .ok (.imul, 1) := by decide +kernel
theorem dX0_plan_47 : decode cX0_plan 47 = .ok (.istore 4, 2) := by decide +kernel
theorem dX0_plan_49 : decode cX0_plan 49 = .ok (.iinc 5 1, 3) := by decide +kernel
theorem dX0_plan_52 : decode cX0_plan 52 = .ok (.goto (-16), 3) := by decide +kernel
theorem dX0_plan_55 : decode cX0_plan 55 = .ok (.iconst (-1), 1) := by decide +kernel
theorem dX0_plan_56 : decode cX0_plan 56 = .ok (.istore 5, 2) := by decide +kernel
theorem dX0_plan_58 : decode cX0_plan 58 = .ok (.iconst (-1), 1) := by decide +kernel
theorem dX0_plan_59 : decode cX0_plan 59 = .ok (.istore 6, 2) := by decide +kernel
theorem dX0_plan_61 : decode cX0_plan 61 = .ok (.iconst 0, 1) := by decide +kernel
theorem dX0_plan_62 : decode cX0_plan 62 = .ok (.istore 7, 2) := by decide +kernel
theorem dX0_plan_64 : decode cX0_plan 64 = .ok (.iload 7, 2) := by decide +kernel
theorem dX0_plan_66 : decode cX0_plan 66 = .ok (.iload 4, 2) := by decide +kernel
theorem dX0_plan_68 : decode cX0_plan 68 = .ok (.if_icmp .ge 39, 3) := by decide +kernel
theorem dX0_plan_71 : decode cX0_plan 71 = .ok (.aload_n 0, 1) := by decide +kernel
theorem dX0_plan_72 : decode cX0_plan 72 = .ok (.iload 7, 2) := by decide +kernel
theorem dX0_plan_74 : decode cX0_plan 74 = .ok (.iload_n 1, 1) := by decide +kernel
theorem dX0_plan_75 : decode cX0_plan 75 = .ok (.invokevirtual 292, 3) := by decide +kernel
theorem dX0_plan_78 : decode cX0_plan 78 = .ok (.aload_n 0, 1) := by decide +kernel
theorem dX0_plan_79 : decode cX0_plan 79 = .ok (.iload_n 1, 1) := by decide +kernel
theorem dX0_plan_80 : decode cX0_plan 80 = .ok (.iload_n 2, 1) := by decide +kernel
theorem dX0_plan_81 : decode cX0_plan 81 = .ok (.invokevirtual 295, 3) := by decide +kernel
theorem dX0_plan_84 : decode cX0_plan 84 = .ok (.istore 8, 2) := by decide +kernel
theorem dX0_plan_86 : decode cX0_plan 86 = .ok (.iload 8, 2) := by decide +kernel
theorem dX0_plan_88 : decode cX0_plan 88 = .ok (.iload 6, 2) := by decide +kernel
theorem dX0_plan_90 : decode cX0_plan 90 = .ok (.if_icmp .le 11, 3) := by decide +kernel
theorem dX0_plan_93 : decode cX0_plan 93 = .ok (.iload 8, 2) := by decide +kernel
theorem dX0_plan_95 : decode cX0_plan 95 = .ok (.istore 6, 2) := by decide +kernel
theorem dX0_plan_97 : decode cX0_plan 97 = .ok (.iload 7, 2) := by decide +kernel
theorem dX0_plan_99 : decode cX0_plan 99 = .ok (.istore 5, 2) := by decide +kernel
theorem dX0_plan_101 : decode cX0_plan 101 = .ok (.iinc 7 1, 3) := by decide +kernel
theorem dX0_plan_104 : decode cX0_plan 104 = .ok (.goto (-40), 3) := by decide +kernel
theorem dX0_plan_107 : decode cX0_plan 107 = .ok (.aload_n 0, 1) := by decide +kernel
theorem dX0_plan_108 : decode cX0_plan 108 = .ok (.iload 5, 2) := by decide +kernel
theorem dX0_plan_110 : decode cX0_plan 110 = .ok (.iload_n 1, 1) := by decide +kernel
theorem dX0_plan_111 : decode cX0_plan 111 = .ok (.invokevirtual 292, 3) := by decide +kernel
theorem dX0_plan_114 : decode cX0_plan 114 = .ok (.iload_n 3, 1) := by decide +kernel
theorem dX0_plan_115 : decode cX0_plan 115 = .ok (.iconst (-1), 1) := by decide +kernel
theorem dX0_plan_116 : decode cX0_plan 116 = .ok (.if_icmp .ne 8, 3) := by decide +kernel
theorem dX0_plan_119 : decode cX0_plan 119 = .ok (.iload 6, 2) := by decide +kernel
theorem dX0_plan_121 : decode cX0_plan 121 = .ok (.goto 9, 3) := by decide +kernel
theorem dX0_plan_124 : decode cX0_plan 124 = .ok (.aload_n 0, 1) := by decide +kernel
theorem dX0_plan_125 : decode cX0_plan 125 = .ok (.getfield 92, 3) := by decide +kernel
theorem dX0_plan_128 : decode cX0_plan 128 = .ok (.iload_n 3, 1) := by decide +kernel
theorem dX0_plan_129 : decode cX0_plan 129 = .ok (.iaload, 1) := by decide +kernel
theorem dX0_plan_130 : decode cX0_plan 130 = .ok (.ireturn, 1) := by decide +kernel
theorem yd_X0_plan : yX0_plan.cls ≠ "java/lang/invoke/MethodHandle" ∧ yX0_plan.cls ≠ "java/lang/invoke/VarHandle" ∧ (parseMethodDescriptor yX0_plan.desc).map (fun d => d.parameters.length) = some 3 := by decide +kernel
abbrev rm_X0_plan : Room := { frames := 6, cells := 0, slots := 0, locals := 133 }
set_option maxHeartbeats 4000000 in
theorem w_X0_plan_107 {p : Program} {l : Launch} {e : Env} {s : State} {m : MethodId} {args : Array Value} {below : List Frame} {meth : Method} {c : Code} {g : Gl} (X : FX g p m c s args meth cX0_plan 9 RX0 (some .int) "plan") {r : Int32 × Hp} {σ : Hp} {x0 : Nat} {x1 : Int32} {x3 : Int32} {x5 : Int32} {x6 : Int32}  {H : Heap} {locs : List Loc} {ls : Array Slot} (h : F_X0_plan_107 σ x0 x1 x3 x5 x6 = some r) (hV : HV g σ H) (hF : FR g locs) (hl : lv_has ls 9 [(0, .ref x0), (1, .int x1), (3, .int x3), (5, .int x5), (6, .int x6)]) : W p l e rm_X0_plan s m args below meth c H locs 0 0 (MQ below (Qi g r) args s 0 0 (frN g)) (F0 m 107 ls []) := by
  unfold F_X0_plan_107 at h
  refine lv_aload_n X.1 X.2.1 dX0_plan_107 rfl (lv_at hl 0 rfl) ?_
  refine lv_iload X.1 X.2.1 dX0_plan_108 (lv_at hl 3 rfl) ?_
  refine lv_iload_n X.1 X.2.1 dX0_plan_110 rfl (lv_at hl 1 rfl) ?_
  obtain ⟨s1, hc, h⟩ := b1_inv h
  refine r_cv (va_runV (C := RX0) (As := [.int x5, .int x1]) (rest := []) (cfX X) (c_X0_layPlan l hc) (cwV 2 X.2.2.2.2.1 (lw_V q874 q876 qs19 q49 q877) rfl rfl rfl ⟨rfl, yd_X0_layPlan⟩ ⟨Nat.le_of_ble_eq_true rfl, Nat.le_of_ble_eq_true rfl⟩) (preV X hV (F_X0_layPlan_g hc) rfl) rfl rfl hl.1 rfl (lv_room (Nat.le_of_ble_eq_true rfl)) dX0_plan_111 ⟨(Nat.le_of_ble_eq_true rfl), (Nat.le_of_ble_eq_true rfl)⟩) hF (fun H locs hV hF => ?_)
  refine lv_iload_n X.1 X.2.1 dX0_plan_114 rfl (lv_at hl 2 rfl) ?_
  refine lv_iconst (v := (-1)) X.1 X.2.1 dX0_plan_115 (by decide) ?_
  refine r_ne (tgt := 124) X.1 X.2.1 dX0_plan_116 (by decide) h (fun h => ?_) (fun h => ?_)
  · refine lv_aload_n X.1 X.2.1 dX0_plan_124 rfl (lv_at hl 0 rfl) ?_
    refine r_gR X hV fl_X0_92_0 (by decide) dX0_plan_125 h (fun v2 h => ?_)
    refine lv_iload_n X.1 X.2.1 dX0_plan_128 rfl (lv_at hl 2 rfl) ?_
    refine r_ia X hV dX0_plan_129 h (fun v3 h => ?_)
    exact r_iret X hV hF h dX0_plan_130
  · refine lv_iload X.1 X.2.1 dX0_plan_119 (lv_at hl 4 rfl) ?_
    refine lv_goto (tgt := 130) X.1 X.2.1 dX0_plan_121 (by decide) ?_
    exact r_iret X hV hF h dX0_plan_130
set_option maxHeartbeats 4000000 in
theorem w_X0_plan_64_b {p : Program} {l : Launch} {e : Env} {s : State} {m : MethodId} {args : Array Value} {below : List Frame} {meth : Method} {c : Code} {g : Gl} (X : FX g p m c s args meth cX0_plan 9 RX0 (some .int) "plan") {r : Int32 × Hp} {rec64 : Hp × Int32 × Int32 × Int32 → Option (Int32 × Hp)} {x0 : Nat} {x1 : Int32} {x2 : Int32} {x3 : Int32} {x4 : Int32} {σ : Hp} {x5 : Int32} {x6 : Int32} {x7 : Int32} (hr64 : ∀ (st : Hp × Int32 × Int32 × Int32), rec64 st = some r → ∀ (H : Heap) (locs : List Loc) (ls : Array Slot), HV g st.1 H → FR g locs → lv_has ls 9 [(0, .ref x0), (1, .int x1), (2, .int x2), (3, .int x3), (4, .int x4), (5, .int st.2.1), (6, .int st.2.2.1), (7, .int st.2.2.2)] → W p l e rm_X0_plan s m args below meth c H locs 0 0 (MQ below (Qi g r) args s 0 0 (frN g)) (F0 m 64 ls [])) {H : Heap} {locs : List Loc} {ls : Array Slot} (h : B_X0_plan_64 x0 x1 x2 x3 x4 rec64 σ x5 x6 x7 = some r) (hV : HV g σ H) (hF : FR g locs) (hl : lv_has ls 9 [(0, .ref x0), (1, .int x1), (2, .int x2), (3, .int x3), (4, .int x4), (5, .int x5), (6, .int x6), (7, .int x7)]) : W p l e rm_X0_plan s m args below meth c H locs 0 0 (MQ below (Qi g r) args s 0 0 (frN g)) (F0 m 64 ls []) := by
  unfold B_X0_plan_64 at h
  refine lv_iload X.1 X.2.1 dX0_plan_64 (lv_at hl 7 rfl) ?_
  refine lv_iload X.1 X.2.1 dX0_plan_66 (lv_at hl 4 rfl) ?_
  refine r_ge (tgt := 107) X.1 X.2.1 dX0_plan_68 (by decide) h (fun h => ?_) (fun h => ?_)
  · exact w_X0_plan_107 X  h hV hF (lv_sub hl [0, 1, 3, 5, 6] rfl)
  · refine lv_aload_n X.1 X.2.1 dX0_plan_71 rfl (lv_at hl 0 rfl) ?_
    refine lv_iload X.1 X.2.1 dX0_plan_72 (lv_at hl 7 rfl) ?_
    refine lv_iload_n X.1 X.2.1 dX0_plan_74 rfl (lv_at hl 1 rfl) ?_
    obtain ⟨s1, hc, h⟩ := b1_inv h
    refine r_cv (va_runV (C := RX0) (As := [.int x7, .int x1]) (rest := []) (cfX X) (c_X0_layPlan l hc) (cwV 2 X.2.2.2.2.1 (lw_V q874 q876 qs19 q49 q877) rfl rfl rfl ⟨rfl, yd_X0_layPlan⟩ ⟨Nat.le_of_ble_eq_true rfl, Nat.le_of_ble_eq_true rfl⟩) (preV X hV (F_X0_layPlan_g hc) rfl) rfl rfl hl.1 rfl (lv_room (Nat.le_of_ble_eq_true rfl)) dX0_plan_75 ⟨(Nat.le_of_ble_eq_true rfl), (Nat.le_of_ble_eq_true rfl)⟩) hF (fun H locs hV hF => ?_)
    refine lv_aload_n X.1 X.2.1 dX0_plan_78 rfl (lv_at hl 0 rfl) ?_
    refine lv_iload_n X.1 X.2.1 dX0_plan_79 rfl (lv_at hl 1 rfl) ?_
    refine lv_iload_n X.1 X.2.1 dX0_plan_80 rfl (lv_at hl 2 rfl) ?_
    obtain ⟨v2, s2, hc, h⟩ := b2_inv h
    refine r_ci (va_runV (C := RX0) (As := [.int x1, .int x2]) (rest := []) (cfX X) (c_X0_strengthBehind l hc) (cwV 2 X.2.2.2.2.1 (lw_V q878 q880 qs20 q49 q881) rfl rfl rfl ⟨rfl, yd_X0_strengthBehind⟩ ⟨Nat.le_of_ble_eq_true rfl, Nat.le_of_ble_eq_true rfl⟩) (preV X hV (F_X0_strengthBehind_g hc) rfl) rfl rfl hl.1 rfl (lv_room (Nat.le_of_ble_eq_true rfl)) dX0_plan_81 ⟨(Nat.le_of_ble_eq_true rfl), (Nat.le_of_ble_eq_true rfl)⟩) hF (fun H locs hV hF => ?_)
    refine lv_istore (lv' := [(8, .int v2), (0, .ref x0), (1, .int x1), (2, .int x2), (3, .int x3), (4, .int x4), (5, .int x5), (6, .int x6), (7, .int x7)]) X.1 X.2.1 dX0_plan_84 hl (by decide) rfl (fun ls hl => ?_)
    refine lv_iload X.1 X.2.1 dX0_plan_86 (lv_at hl 0 rfl) ?_
    refine lv_iload X.1 X.2.1 dX0_plan_88 (lv_at hl 7 rfl) ?_
    refine r_le (tgt := 101) X.1 X.2.1 dX0_plan_90 (by decide) h (fun h => ?_) (fun h => ?_)
    · refine lv_iinc (v := x7 + 1) (lv' := [(7, .int (x7 + 1)), (8, .int v2), (0, .ref x0), (1, .int x1), (2, .int x2), (3, .int x3), (4, .int x4), (5, .int x5), (6, .int x6)]) X.1 X.2.1 dX0_plan_101 hl (k := 8) rfl rfl (by decide) rfl (fun ls hl => ?_)
      refine lv_goto (tgt := 64) X.1 X.2.1 dX0_plan_104 (by decide) ?_
      exact hr64 (s2, x5, x6, x7 + 1) h _ _ _ hV hF (lv_sub hl [2, 3, 4, 5, 6, 7, 8, 0] rfl)
    · refine lv_iload X.1 X.2.1 dX0_plan_93 (lv_at hl 0 rfl) ?_
      refine lv_istore (lv' := [(6, .int v2), (8, .int v2), (0, .ref x0), (1, .int x1), (2, .int x2), (3, .int x3), (4, .int x4), (5, .int x5), (7, .int x7)]) X.1 X.2.1 dX0_plan_95 hl (by decide) rfl (fun ls hl => ?_)
      refine lv_iload X.1 X.2.1 dX0_plan_97 (lv_at hl 8 rfl) ?_
      refine lv_istore (lv' := [(5, .int x7), (6, .int v2), (8, .int v2), (0, .ref x0), (1, .int x1), (2, .int x2), (3, .int x3), (4, .int x4), (7, .int x7)]) X.1 X.2.1 dX0_plan_99 hl (by decide) rfl (fun ls hl => ?_)
      refine lv_iinc (v := x7 + 1) (lv' := [(7, .int (x7 + 1)), (5, .int x7), (6, .int v2), (8, .int v2), (0, .ref x0), (1, .int x1), (2, .int x2), (3, .int x3), (4, .int x4)]) X.1 X.2.1 dX0_plan_101 hl (k := 8) rfl rfl (by decide) rfl (fun ls hl => ?_)
      refine lv_goto (tgt := 64) X.1 X.2.1 dX0_plan_104 (by decide) ?_
      exact hr64 (s2, x7, v2, x7 + 1) h _ _ _ hV hF (lv_sub hl [4, 5, 6, 7, 8, 1, 2, 0] rfl)
set_option maxHeartbeats 4000000 in
theorem w_X0_plan_64 {p : Program} {l : Launch} {e : Env} {s : State} {m : MethodId} {args : Array Value} {below : List Frame} {meth : Method} {c : Code} {g : Gl} (X : FX g p m c s args meth cX0_plan 9 RX0 (some .int) "plan") {r : Int32 × Hp} {x0 : Nat} {x1 : Int32} {x2 : Int32} {x3 : Int32} {x4 : Int32}  : ∀ (n : Nat) (st : Hp × Int32 × Int32 × Int32), L_X0_plan_64 x0 x1 x2 x3 x4 n st = some r → ∀ (H : Heap) (locs : List Loc) (ls : Array Slot), HV g st.1 H → FR g locs → lv_has ls 9 [(0, .ref x0), (1, .int x1), (2, .int x2), (3, .int x3), (4, .int x4), (5, .int st.2.1), (6, .int st.2.2.1), (7, .int st.2.2.2)] → W p l e rm_X0_plan s m args below meth c H locs 0 0 (MQ below (Qi g r) args s 0 0 (frN g)) (F0 m 64 ls []) := by
  intro n
  induction n with
  | zero =>
    intro st h
    rw [L_X0_plan_64_0] at h
    cases h
  | succ n ih =>
    intro st h H locs ls hV hF hl
    rw [L_X0_plan_64_s] at h
    exact w_X0_plan_64_b X  ih h hV hF hl
set_option maxHeartbeats 4000000 in
theorem w_X0_plan_55 {p : Program} {l : Launch} {e : Env} {s : State} {m : MethodId} {args : Array Value} {below : List Frame} {meth : Method} {c : Code} {g : Gl} (X : FX g p m c s args meth cX0_plan 9 RX0 (some .int) "plan") {r : Int32 × Hp} {σ : Hp} {x0 : Nat} {x1 : Int32} {x2 : Int32} {x3 : Int32} {x4 : Int32}  {H : Heap} {locs : List Loc} {ls : Array Slot} (h : F_X0_plan_55 σ x0 x1 x2 x3 x4 = some r) (hV : HV g σ H) (hF : FR g locs) (hl : lv_has ls 9 [(0, .ref x0), (1, .int x1), (2, .int x2), (3, .int x3), (4, .int x4)]) : W p l e rm_X0_plan s m args below meth c H locs 0 0 (MQ below (Qi g r) args s 0 0 (frN g)) (F0 m 55 ls []) := by
  unfold F_X0_plan_55 at h
  refine lv_iconst (v := (-1)) X.1 X.2.1 dX0_plan_55 (by decide) ?_
  refine lv_istore (lv' := [(5, .int (-1)), (0, .ref x0), (1, .int x1), (2, .int x2), (3, .int x3), (4, .int x4)]) X.1 X.2.1 dX0_plan_56 hl (by decide) rfl (fun ls hl => ?_)
  refine lv_iconst (v := (-1)) X.1 X.2.1 dX0_plan_58 (by decide) ?_
  refine lv_istore (lv' := [(6, .int (-1)), (5, .int (-1)), (0, .ref x0), (1, .int x1), (2, .int x2), (3, .int x3), (4, .int x4)]) X.1 X.2.1 dX0_plan_59 hl (by decide) rfl (fun ls hl => ?_)
  refine lv_iconst (v := 0) X.1 X.2.1 dX0_plan_61 (by decide) ?_
  refine lv_istore (lv' := [(7, .int 0), (6, .int (-1)), (5, .int (-1)), (0, .ref x0), (1, .int x1), (2, .int x2), (3, .int x3), (4, .int x4)]) X.1 X.2.1 dX0_plan_62 hl (by decide) rfl (fun ls hl => ?_)
  exact w_X0_plan_64 X  FU (σ, (-1), (-1), 0) h _ _ _ hV hF (lv_sub hl [3, 4, 5, 6, 7, 2, 1, 0] rfl)
set_option maxHeartbeats 4000000 in
theorem w_X0_plan_36_b {p : Program} {l : Launch} {e : Env} {s : State} {m : MethodId} {args : Array Value} {below : List Frame} {meth : Method} {c : Code} {g : Gl} (X : FX g p m c s args meth cX0_plan 9 RX0 (some .int) "plan") {r : Int32 × Hp} {rec36 : Int32 × Int32 → Option (Int32 × Hp)} {σ : Hp} {x0 : Nat} {x1 : Int32} {x2 : Int32} {x3 : Int32} {x4 : Int32} {x5 : Int32} (hr36 : ∀ (st : Int32 × Int32), rec36 st = some r → ∀ (H : Heap) (locs : List Loc) (ls : Array Slot), HV g σ H → FR g locs → lv_has ls 9 [(0, .ref x0), (1, .int x1), (2, .int x2), (3, .int x3), (4, .int st.1), (5, .int st.2)] → W p l e rm_X0_plan s m args below meth c H locs 0 0 (MQ below (Qi g r) args s 0 0 (frN g)) (F0 m 36 ls [])) {H : Heap} {locs : List Loc} {ls : Array Slot} (h : B_X0_plan_36 σ x0 x1 x2 x3 rec36 x4 x5 = some r) (hV : HV g σ H) (hF : FR g locs) (hl : lv_has ls 9 [(0, .ref x0), (1, .int x1), (2, .int x2), (3, .int x3), (4, .int x4), (5, .int x5)]) : W p l e rm_X0_plan s m args below meth c H locs 0 0 (MQ below (Qi g r) args s 0 0 (frN g)) (F0 m 36 ls []) := by
  unfold B_X0_plan_36 at h
  refine lv_iload X.1 X.2.1 dX0_plan_36 (lv_at hl 5 rfl) ?_
  refine lv_iload_n X.1 X.2.1 dX0_plan_38 rfl (lv_at hl 1 rfl) ?_
  refine r_ge (tgt := 55) X.1 X.2.1 dX0_plan_39 (by decide) h (fun h => ?_) (fun h => ?_)
  · exact w_X0_plan_55 X  h hV hF (lv_sub hl [0, 1, 2, 3, 4] rfl)
  · refine lv_iload X.1 X.2.1 dX0_plan_42 (lv_at hl 4 rfl) ?_
    refine lv_bipush (v := 9) X.1 X.2.1 dX0_plan_44 (by decide) ?_
    refine lv_imul X.1 X.2.1 dX0_plan_46 ?_
    refine lv_istore (lv' := [(4, .int (x4 * 9)), (0, .ref x0), (1, .int x1), (2, .int x2), (3, .int x3), (5, .int x5)]) X.1 X.2.1 dX0_plan_47 hl (by decide) rfl (fun ls hl => ?_)
    refine lv_iinc (v := x5 + 1) (lv' := [(5, .int (x5 + 1)), (4, .int (x4 * 9)), (0, .ref x0), (1, .int x1), (2, .int x2), (3, .int x3)]) X.1 X.2.1 dX0_plan_49 hl (k := 5) rfl rfl (by decide) rfl (fun ls hl => ?_)
    refine lv_goto (tgt := 36) X.1 X.2.1 dX0_plan_52 (by decide) ?_
    exact hr36 (x4 * 9, x5 + 1) h _ _ _ hV hF (lv_sub hl [2, 3, 4, 5, 1, 0] rfl)
set_option maxHeartbeats 4000000 in
theorem w_X0_plan_36 {p : Program} {l : Launch} {e : Env} {s : State} {m : MethodId} {args : Array Value} {below : List Frame} {meth : Method} {c : Code} {g : Gl} (X : FX g p m c s args meth cX0_plan 9 RX0 (some .int) "plan") {r : Int32 × Hp} {σ : Hp} {x0 : Nat} {x1 : Int32} {x2 : Int32} {x3 : Int32}  : ∀ (n : Nat) (st : Int32 × Int32), L_X0_plan_36 σ x0 x1 x2 x3 n st = some r → ∀ (H : Heap) (locs : List Loc) (ls : Array Slot), HV g σ H → FR g locs → lv_has ls 9 [(0, .ref x0), (1, .int x1), (2, .int x2), (3, .int x3), (4, .int st.1), (5, .int st.2)] → W p l e rm_X0_plan s m args below meth c H locs 0 0 (MQ below (Qi g r) args s 0 0 (frN g)) (F0 m 36 ls []) := by
  intro n
  induction n with
  | zero =>
    intro st h
    rw [L_X0_plan_36_0] at h
    cases h
  | succ n ih =>
    intro st h H locs ls hV hF hl
    rw [L_X0_plan_36_s] at h
    exact w_X0_plan_36_b X  ih h hV hF hl
set_option maxHeartbeats 4000000 in
theorem c_X0_plan (l : Launch) {g : Gl} {σ : Hp} {x0 : Nat} {x1 : Int32} {x2 : Int32} {x3 : Int32} {r : Int32 × Hp} (h : F_X0_plan σ x0 x1 x2 x3 = some r) : Met l yX0_plan (ws_ yX0_plan cX0_plan 9 (some .int)) rm_X0_plan (va_Pc [.ref x0, .int x1, .int x2, .int x3] (WV g σ)) (Qi g r) 0 0 (frN g) := by
  refine ct_of (by decide) (Nat.le_of_ble_eq_true rfl) ?_
  intro p e s m below meth c ls X hV hl
  have hF : FR g [] := FR_nil
  unfold F_X0_plan at h
  have hl : lv_has ls 9 [(0, .ref x0), (1, .int x1), (2, .int x2), (3, .int x3)] := hl
  have X : FX g p m c s _ meth cX0_plan 9 RX0 (some .int) "plan" := X
  obtain ⟨-, h⟩ := gd_inv h
  refine lv_iload_n X.1 X.2.1 dX0_plan_0 rfl (lv_at hl 1 rfl) ?_
  refine lv_iload_n X.1 X.2.1 dX0_plan_1 rfl (lv_at hl 2 rfl) ?_
  obtain ⟨v1, s1, hc, h⟩ := b2_inv h
  refine r_ci (va_runS (As := [.int x1, .int x2]) (rest := []) (cfX X) (c_X0_areMinutes l hc) (va_cwS 2 X.2.2.2.2.1 (lw_S q862 q863 q49 q864) rfl rfl rfl yd_X0_areMinutes ⟨Nat.le_of_ble_eq_true rfl, Nat.le_of_ble_eq_true rfl⟩) (preS X hV) rfl rfl hl.1 rfl (lv_room (Nat.le_of_ble_eq_true rfl)) dX0_plan_2 ⟨(Nat.le_of_ble_eq_true rfl), (Nat.le_of_ble_eq_true rfl)⟩) hF (fun H locs hV hF => ?_)
  refine r_ifeq (tgt := 23) X.1 X.2.1 dX0_plan_5 (by decide) h (fun h => ?_) (fun h => ?_)
  · refine lv_bipush (v := (-3)) X.1 X.2.1 dX0_plan_23 (by decide) ?_
    exact r_iret X hV hF h dX0_plan_25
  · refine lv_iload_n X.1 X.2.1 dX0_plan_8 rfl (lv_at hl 3 rfl) ?_
    refine lv_i2l (v := (x3 : Int32).toInt64) X.1 X.2.1 dX0_plan_9 rfl ?_
    refine lv_ldc2 (v := (-1)) X.1 X.2.1 X.2.2.2.1 (X.2.2.2.2.1 _ q869) dX0_plan_10 ?_
    refine lv_iload_n X.1 X.2.1 dX0_plan_13 rfl (lv_at hl 1 rfl) ?_
    refine lv_iconst (v := 1) X.1 X.2.1 dX0_plan_14 (by decide) ?_
    refine lv_isub X.1 X.2.1 dX0_plan_15 ?_
    refine lv_i2l (v := (x1 - 1 : Int32).toInt64) X.1 X.2.1 dX0_plan_16 rfl ?_
    obtain ⟨v2, s2, hc, h⟩ := b2_inv h
    refine r_ci (va_runS (As := [.long ((x3 : Int32).toInt64), .long (-1), .long ((x1 - 1 : Int32).toInt64)]) (rest := []) (cfX X) (c_X0_isIn l hc) (va_cwS 3 X.2.2.2.2.1 (lw_S q331 q332 q49 q333) rfl rfl rfl yd_X0_isIn ⟨Nat.le_of_ble_eq_true rfl, Nat.le_of_ble_eq_true rfl⟩) (preS X hV) rfl rfl hl.1 rfl (lv_room (Nat.le_of_ble_eq_true rfl)) dX0_plan_17 ⟨(Nat.le_of_ble_eq_true rfl), (Nat.le_of_ble_eq_true rfl)⟩) hF (fun H locs hV hF => ?_)
    refine r_ifne (tgt := 26) X.1 X.2.1 dX0_plan_20 (by decide) h (fun h => ?_) (fun h => ?_)
    · refine lv_aload_n X.1 X.2.1 dX0_plan_26 rfl (lv_at hl 0 rfl) ?_
      obtain ⟨s3, hc, h⟩ := b1_inv h
      refine r_cv (va_runV (C := RX0) (As := []) (rest := []) (cfX X) (c_X0_layCosts l hc) (cwV 0 X.2.2.2.2.1 (lw_V q870 q872 qs18 q49 q873) rfl rfl rfl ⟨rfl, yd_X0_layCosts⟩ ⟨Nat.le_of_ble_eq_true rfl, Nat.le_of_ble_eq_true rfl⟩) (preV X hV (F_X0_layCosts_g hc) rfl) rfl rfl hl.1 rfl (lv_room (Nat.le_of_ble_eq_true rfl)) dX0_plan_27 ⟨(Nat.le_of_ble_eq_true rfl), (Nat.le_of_ble_eq_true rfl)⟩) hF (fun H locs hV hF => ?_)
      refine lv_iconst (v := 1) X.1 X.2.1 dX0_plan_30 (by decide) ?_
      refine lv_istore (lv' := [(4, .int 1), (0, .ref x0), (1, .int x1), (2, .int x2), (3, .int x3)]) X.1 X.2.1 dX0_plan_31 hl (by decide) rfl (fun ls hl => ?_)
      refine lv_iconst (v := 0) X.1 X.2.1 dX0_plan_33 (by decide) ?_
      refine lv_istore (lv' := [(5, .int 0), (4, .int 1), (0, .ref x0), (1, .int x1), (2, .int x2), (3, .int x3)]) X.1 X.2.1 dX0_plan_34 hl (by decide) rfl (fun ls hl => ?_)
      exact w_X0_plan_36 X  FU (1, 0) h _ _ _ hV hF (lv_sub hl [2, 3, 4, 5, 1, 0] rfl)
    · refine lv_bipush (v := (-3)) X.1 X.2.1 dX0_plan_23 (by decide) ?_
      exact r_iret X hV hF h dX0_plan_25
/-! PalaceOfRooms.judge -/
theorem dX0_judge_0 : decode cX0_judge 0 = .ok (.iload_n 2, 1) := by decide +kernel
theorem dX0_judge_1 : decode cX0_judge 1 = .ok (.iload_n 3, 1) := by decide +kernel
theorem dX0_judge_2 : decode cX0_judge 2 = .ok (.invokestatic 283, 3) := by decide +kernel
theorem dX0_judge_5 : decode cX0_judge 5 = .ok (.istore 4, 2) := by decide +kernel
theorem dX0_judge_7 : decode cX0_judge 7 = .ok (.iconst 0, 1) := by decide +kernel
theorem dX0_judge_8 : decode cX0_judge 8 = .ok (.istore 5, 2) := by decide +kernel
theorem dX0_judge_10 : decode cX0_judge 10 = .ok (.iload 4, 2) := by decide +kernel
theorem dX0_judge_12 : decode cX0_judge 12 = .ok (.ifCond .eq 50, 3) := by decide +kernel
theorem dX0_judge_15 : decode cX0_judge 15 = .ok (.iload 5, 2) := by decide +kernel
theorem dX0_judge_17 : decode cX0_judge 17 = .ok (.iload_n 2, 1) := by decide +kernel
theorem dX0_judge_18 : decode cX0_judge 18 = .ok (.if_icmp .ge 44, 3) := by decide +kernel
theorem dX0_judge_21 : decode cX0_judge 21 = .ok (.aload_n 0, 1) := by decide +kernel
theorem dX0_judge_22 : decode cX0_judge 22 = .ok (.getfield 92, 3) := by decide +kernel
theorem dX0_judge_25 : decode cX0_judge 25 = .ok (.iload 5, 2) := by decide +kernel
theorem dX0_judge_27 : decode cX0_judge 27 = .ok (.iload_n 1, 1) := by decide +kernel
theorem dX0_judge_28 : decode cX0_judge 28 = .ok (.iconst 4, 1) := by decide +kernel
theorem dX0_judge_29 : decode cX0_judge 29 = .ok (.iload 5, 2) := by decide +kernel
theorem dX0_judge_31 : decode cX0_judge 31 = .ok (.imul, 1) := by decide +kernel
theorem dX0_judge_32 : decode cX0_judge 32 = .ok (.ishr, 1) := by decide +kernel
theorem dX0_judge_33 : decode cX0_judge 33 = .ok (.bipush 15, 2) := by decide +kernel
theorem dX0_judge_35 : decode cX0_judge 35 = .ok (.iand, 1) := by decide +kernel
theorem dX0_judge_36 : decode cX0_judge 36 = .ok (.iastore, 1) := by decide +kernel
theorem dX0_judge_37 : decode cX0_judge 37 = .ok (.aload_n 0, 1) := by decide +kernel
theorem dX0_judge_38 : decode cX0_judge 38 = .ok (.getfield 92, 3) := by decide +kernel
theorem dX0_judge_41 : decode cX0_judge 41 = .ok (.iload 5, 2) := by decide +kernel
theorem dX0_judge_43 : decode cX0_judge 43 = .ok (.iaload, 1) := by decide +kernel
theorem dX0_judge_44 : decode cX0_judge 44 = .ok (.bipush 8, 2) := by decide +kernel
theorem dX0_judge_46 : decode cX0_judge 46 = .ok (.if_icmp .gt 7, 3) := by decide +kernel
theorem dX0_judge_49 : decode cX0_judge 49 = .ok (.iconst 1, 1) := by decide +kernel
theorem dX0_judge_50 : decode cX0_judge 50 = .ok (.goto 4, 3) := by decide +kernel
theorem dX0_judge_53 : decode cX0_judge 53 = .ok (.iconst 0, 1) := by decide +kernel
theorem dX0_judge_54 : decode cX0_judge 54 = .ok (.istore 4, 2) := by decide +kernel
theorem dX0_judge_56 : decode cX0_judge 56 = .ok (.iinc 5 1, 3) := by decide +kernel
theorem dX0_judge_59 : decode cX0_judge 59 = .ok (.goto (-49), 3) := by decide +kernel
theorem dX0_judge_62 : decode cX0_judge 62 = .ok (.iload 4, 2) := by decide +kernel
theorem dX0_judge_64 : decode cX0_judge 64 = .ok (.ifCond .ne 6, 3) := by decide +kernel
theorem dX0_judge_67 : decode cX0_judge 67 = .ok (.bipush (-3), 2) := by decide +kernel
theorem dX0_judge_69 : decode cX0_judge 69 = .ok (.ireturn, 1) := by decide +kernel
theorem dX0_judge_70 : decode cX0_judge 70 = .ok (.aload_n 0, 1) := by decide +kernel
theorem dX0_judge_71 : decode cX0_judge 71 = .ok (.invokevirtual 289, 3) := by decide +kernel
theorem dX0_judge_74 : decode cX0_judge 74 = .ok (.aload_n 0, 1) := by decide +kernel
theorem dX0_judge_75 : decode cX0_judge 75 = .ok (.iload_n 2, 1) := by decide +kernel
theorem dX0_judge_76 : decode cX0_judge 76 = .ok (.iload_n 3, 1) := by decide +kernel
theorem dX0_judge_77 : decode cX0_judge 77 = .ok (.invokevirtual 295, 3) := by decide +kernel
theorem dX0_judge_80 : decode cX0_judge 80 = .ok (.ireturn, 1) := by decide +kernel
theorem yd_X0_judge : yX0_judge.cls ≠ "java/lang/invoke/MethodHandle" ∧ yX0_judge.cls ≠ "java/lang/invoke/VarHandle" ∧ (parseMethodDescriptor yX0_judge.desc).map (fun d => d.parameters.length) = some 3 := by decide +kernel
abbrev rm_X0_judge : Room := { frames := 6, cells := 0, slots := 0, locals := 133 }
set_option maxHeartbeats 4000000 in
theorem w_X0_judge_62 {p : Program} {l : Launch} {e : Env} {s : State} {m : MethodId} {args : Array Value} {below : List Frame} {meth : Method} {c : Code} {g : Gl} (X : FX g p m c s args meth cX0_judge 6 RX0 (some .int) "judge") {r : Int32 × Hp} {σ : Hp} {x0 : Nat} {x2 : Int32} {x3 : Int32} {x4 : Int32}  {H : Heap} {locs : List Loc} {ls : Array Slot} (h : F_X0_judge_62 σ x0 x2 x3 x4 = some r) (hV : HV g σ H) (hF : FR g locs) (hl : lv_has ls 6 [(0, .ref x0), (2, .int x2), (3, .int x3), (4, .int x4)]) : W p l e rm_X0_judge s m args below meth c H locs 0 0 (MQ below (Qi g r) args s 0 0 (frN g)) (F0 m 62 ls []) := by
  unfold F_X0_judge_62 at h
  refine lv_iload X.1 X.2.1 dX0_judge_62 (lv_at hl 3 rfl) ?_
  refine r_ifne (tgt := 70) X.1 X.2.1 dX0_judge_64 (by decide) h (fun h => ?_) (fun h => ?_)
  · refine lv_aload_n X.1 X.2.1 dX0_judge_70 rfl (lv_at hl 0 rfl) ?_
    obtain ⟨s1, hc, h⟩ := b1_inv h
    refine r_cv (va_runV (C := RX0) (As := []) (rest := []) (cfX X) (c_X0_layCosts l hc) (cwV 0 X.2.2.2.2.1 (lw_V q870 q872 qs18 q49 q873) rfl rfl rfl ⟨rfl, yd_X0_layCosts⟩ ⟨Nat.le_of_ble_eq_true rfl, Nat.le_of_ble_eq_true rfl⟩) (preV X hV (F_X0_layCosts_g hc) rfl) rfl rfl hl.1 rfl (lv_room (Nat.le_of_ble_eq_true rfl)) dX0_judge_71 ⟨(Nat.le_of_ble_eq_true rfl), (Nat.le_of_ble_eq_true rfl)⟩) hF (fun H locs hV hF => ?_)
    refine lv_aload_n X.1 X.2.1 dX0_judge_74 rfl (lv_at hl 0 rfl) ?_
    refine lv_iload_n X.1 X.2.1 dX0_judge_75 rfl (lv_at hl 1 rfl) ?_
    refine lv_iload_n X.1 X.2.1 dX0_judge_76 rfl (lv_at hl 2 rfl) ?_
    obtain ⟨v2, s2, hc, h⟩ := b2_inv h
    refine r_ci (va_runV (C := RX0) (As := [.int x2, .int x3]) (rest := []) (cfX X) (c_X0_strengthBehind l hc) (cwV 2 X.2.2.2.2.1 (lw_V q878 q880 qs20 q49 q881) rfl rfl rfl ⟨rfl, yd_X0_strengthBehind⟩ ⟨Nat.le_of_ble_eq_true rfl, Nat.le_of_ble_eq_true rfl⟩) (preV X hV (F_X0_strengthBehind_g hc) rfl) rfl rfl hl.1 rfl (lv_room (Nat.le_of_ble_eq_true rfl)) dX0_judge_77 ⟨(Nat.le_of_ble_eq_true rfl), (Nat.le_of_ble_eq_true rfl)⟩) hF (fun H locs hV hF => ?_)
    exact r_iret X hV hF h dX0_judge_80
  · refine lv_bipush (v := (-3)) X.1 X.2.1 dX0_judge_67 (by decide) ?_
    exact r_iret X hV hF h dX0_judge_69
set_option maxHeartbeats 4000000 in
theorem w_X0_judge_10_b {p : Program} {l : Launch} {e : Env} {s : State} {m : MethodId} {args : Array Value} {below : List Frame} {meth : Method} {c : Code} {g : Gl} (X : FX g p m c s args meth cX0_judge 6 RX0 (some .int) "judge") {r : Int32 × Hp} {rec10 : Hp × Int32 × Int32 → Option (Int32 × Hp)} {x0 : Nat} {x1 : Int32} {x2 : Int32} {x3 : Int32} {σ : Hp} {x4 : Int32} {x5 : Int32} (hr10 : ∀ (st : Hp × Int32 × Int32), rec10 st = some r → ∀ (H : Heap) (locs : List Loc) (ls : Array Slot), HV g st.1 H → FR g locs → lv_has ls 6 [(0, .ref x0), (1, .int x1), (2, .int x2), (3, .int x3), (4, .int st.2.1), (5, .int st.2.2)] → W p l e rm_X0_judge s m args below meth c H locs 0 0 (MQ below (Qi g r) args s 0 0 (frN g)) (F0 m 10 ls [])) {H : Heap} {locs : List Loc} {ls : Array Slot} (h : B_X0_judge_10 x0 x1 x2 x3 rec10 σ x4 x5 = some r) (hV : HV g σ H) (hF : FR g locs) (hl : lv_has ls 6 [(0, .ref x0), (1, .int x1), (2, .int x2), (3, .int x3), (4, .int x4), (5, .int x5)]) : W p l e rm_X0_judge s m args below meth c H locs 0 0 (MQ below (Qi g r) args s 0 0 (frN g)) (F0 m 10 ls []) := by
  unfold B_X0_judge_10 at h
  refine lv_iload X.1 X.2.1 dX0_judge_10 (lv_at hl 4 rfl) ?_
  refine r_ifeq (tgt := 62) X.1 X.2.1 dX0_judge_12 (by decide) h (fun h => ?_) (fun h => ?_)
  · exact w_X0_judge_62 X  h hV hF (lv_sub hl [0, 2, 3, 4] rfl)
  · refine lv_iload X.1 X.2.1 dX0_judge_15 (lv_at hl 5 rfl) ?_
    refine lv_iload_n X.1 X.2.1 dX0_judge_17 rfl (lv_at hl 2 rfl) ?_
    refine r_ge (tgt := 62) X.1 X.2.1 dX0_judge_18 (by decide) h (fun h => ?_) (fun h => ?_)
    · exact w_X0_judge_62 X  h hV hF (lv_sub hl [0, 2, 3, 4] rfl)
    · refine lv_aload_n X.1 X.2.1 dX0_judge_21 rfl (lv_at hl 0 rfl) ?_
      refine r_gR X hV fl_X0_92_0 (by decide) dX0_judge_22 h (fun v1 h => ?_)
      refine lv_iload X.1 X.2.1 dX0_judge_25 (lv_at hl 5 rfl) ?_
      refine lv_iload_n X.1 X.2.1 dX0_judge_27 rfl (lv_at hl 1 rfl) ?_
      refine lv_iconst (v := 4) X.1 X.2.1 dX0_judge_28 (by decide) ?_
      refine lv_iload X.1 X.2.1 dX0_judge_29 (lv_at hl 5 rfl) ?_
      refine lv_imul X.1 X.2.1 dX0_judge_31 ?_
      refine lv_ishr X.1 X.2.1 dX0_judge_32 ?_
      refine lv_bipush (v := 15) X.1 X.2.1 dX0_judge_33 (by decide) ?_
      refine lv_iand X.1 X.2.1 dX0_judge_35 ?_
      refine r_is X hV hF dX0_judge_36 h (fun s1 H locs hV hF h => ?_)
      refine lv_aload_n X.1 X.2.1 dX0_judge_37 rfl (lv_at hl 0 rfl) ?_
      refine r_gR X hV fl_X0_92_0 (by decide) dX0_judge_38 h (fun v2 h => ?_)
      refine lv_iload X.1 X.2.1 dX0_judge_41 (lv_at hl 5 rfl) ?_
      refine r_ia X hV dX0_judge_43 h (fun v3 h => ?_)
      refine lv_bipush (v := 8) X.1 X.2.1 dX0_judge_44 (by decide) ?_
      refine r_gt (tgt := 53) X.1 X.2.1 dX0_judge_46 (by decide) h (fun h => ?_) (fun h => ?_)
      · refine lv_iconst (v := 0) X.1 X.2.1 dX0_judge_53 (by decide) ?_
        refine lv_istore (lv' := [(4, .int 0), (0, .ref x0), (1, .int x1), (2, .int x2), (3, .int x3), (5, .int x5)]) X.1 X.2.1 dX0_judge_54 hl (by decide) rfl (fun ls hl => ?_)
        refine lv_iinc (v := x5 + 1) (lv' := [(5, .int (x5 + 1)), (4, .int 0), (0, .ref x0), (1, .int x1), (2, .int x2), (3, .int x3)]) X.1 X.2.1 dX0_judge_56 hl (k := 5) rfl rfl (by decide) rfl (fun ls hl => ?_)
        refine lv_goto (tgt := 10) X.1 X.2.1 dX0_judge_59 (by decide) ?_
        exact hr10 (s1, 0, x5 + 1) h _ _ _ hV hF (lv_sub hl [2, 3, 4, 5, 1, 0] rfl)
      · refine lv_iconst (v := 1) X.1 X.2.1 dX0_judge_49 (by decide) ?_
        refine lv_goto (tgt := 54) X.1 X.2.1 dX0_judge_50 (by decide) ?_
        refine lv_istore (lv' := [(4, .int 1), (0, .ref x0), (1, .int x1), (2, .int x2), (3, .int x3), (5, .int x5)]) X.1 X.2.1 dX0_judge_54 hl (by decide) rfl (fun ls hl => ?_)
        refine lv_iinc (v := x5 + 1) (lv' := [(5, .int (x5 + 1)), (4, .int 1), (0, .ref x0), (1, .int x1), (2, .int x2), (3, .int x3)]) X.1 X.2.1 dX0_judge_56 hl (k := 5) rfl rfl (by decide) rfl (fun ls hl => ?_)
        refine lv_goto (tgt := 10) X.1 X.2.1 dX0_judge_59 (by decide) ?_
        exact hr10 (s1, 1, x5 + 1) h _ _ _ hV hF (lv_sub hl [2, 3, 4, 5, 1, 0] rfl)
set_option maxHeartbeats 4000000 in
theorem w_X0_judge_10 {p : Program} {l : Launch} {e : Env} {s : State} {m : MethodId} {args : Array Value} {below : List Frame} {meth : Method} {c : Code} {g : Gl} (X : FX g p m c s args meth cX0_judge 6 RX0 (some .int) "judge") {r : Int32 × Hp} {x0 : Nat} {x1 : Int32} {x2 : Int32} {x3 : Int32}  : ∀ (n : Nat) (st : Hp × Int32 × Int32), L_X0_judge_10 x0 x1 x2 x3 n st = some r → ∀ (H : Heap) (locs : List Loc) (ls : Array Slot), HV g st.1 H → FR g locs → lv_has ls 6 [(0, .ref x0), (1, .int x1), (2, .int x2), (3, .int x3), (4, .int st.2.1), (5, .int st.2.2)] → W p l e rm_X0_judge s m args below meth c H locs 0 0 (MQ below (Qi g r) args s 0 0 (frN g)) (F0 m 10 ls []) := by
  intro n
  induction n with
  | zero =>
    intro st h
    rw [L_X0_judge_10_0] at h
    cases h
  | succ n ih =>
    intro st h H locs ls hV hF hl
    rw [L_X0_judge_10_s] at h
    exact w_X0_judge_10_b X  ih h hV hF hl
set_option maxHeartbeats 4000000 in
theorem c_X0_judge (l : Launch) {g : Gl} {σ : Hp} {x0 : Nat} {x1 : Int32} {x2 : Int32} {x3 : Int32} {r : Int32 × Hp} (h : F_X0_judge σ x0 x1 x2 x3 = some r) : Met l yX0_judge (ws_ yX0_judge cX0_judge 6 (some .int)) rm_X0_judge (va_Pc [.ref x0, .int x1, .int x2, .int x3] (WV g σ)) (Qi g r) 0 0 (frN g) := by
  refine ct_of (by decide) (Nat.le_of_ble_eq_true rfl) ?_
  intro p e s m below meth c ls X hV hl
  have hF : FR g [] := FR_nil
  unfold F_X0_judge at h
  have hl : lv_has ls 6 [(0, .ref x0), (1, .int x1), (2, .int x2), (3, .int x3)] := hl
  have X : FX g p m c s _ meth cX0_judge 6 RX0 (some .int) "judge" := X
  obtain ⟨-, h⟩ := gd_inv h
  refine lv_iload_n X.1 X.2.1 dX0_judge_0 rfl (lv_at hl 2 rfl) ?_
  refine lv_iload_n X.1 X.2.1 dX0_judge_1 rfl (lv_at hl 3 rfl) ?_
  obtain ⟨v1, s1, hc, h⟩ := b2_inv h
  refine r_ci (va_runS (As := [.int x2, .int x3]) (rest := []) (cfX X) (c_X0_areMinutes l hc) (va_cwS 2 X.2.2.2.2.1 (lw_S q862 q863 q49 q864) rfl rfl rfl yd_X0_areMinutes ⟨Nat.le_of_ble_eq_true rfl, Nat.le_of_ble_eq_true rfl⟩) (preS X hV) rfl rfl hl.1 rfl (lv_room (Nat.le_of_ble_eq_true rfl)) dX0_judge_2 ⟨(Nat.le_of_ble_eq_true rfl), (Nat.le_of_ble_eq_true rfl)⟩) hF (fun H locs hV hF => ?_)
  refine lv_istore (lv' := [(4, .int v1), (0, .ref x0), (1, .int x1), (2, .int x2), (3, .int x3)]) X.1 X.2.1 dX0_judge_5 hl (by decide) rfl (fun ls hl => ?_)
  refine lv_iconst (v := 0) X.1 X.2.1 dX0_judge_7 (by decide) ?_
  refine lv_istore (lv' := [(5, .int 0), (4, .int v1), (0, .ref x0), (1, .int x1), (2, .int x2), (3, .int x3)]) X.1 X.2.1 dX0_judge_8 hl (by decide) rfl (fun ls hl => ?_)
  exact w_X0_judge_10 X  FU (s1, v1, 0) h _ _ _ hV hF (lv_sub hl [2, 3, 4, 5, 1, 0] rfl)
/-! PalaceOfRooms.right -/
theorem dX0_right_0 : decode cX0_right 0 = .ok (.iload_n 1, 1) := by decide +kernel
theorem dX0_right_1 : decode cX0_right 1 = .ok (.invokestatic 147, 3) := by decide +kernel
theorem dX0_right_4 : decode cX0_right 4 = .ok (.ifCond .ne 6, 3) := by decide +kernel
theorem dX0_right_7 : decode cX0_right 7 = .ok (.bipush (-2), 2) := by decide +kernel
theorem dX0_right_9 : decode cX0_right 9 = .ok (.ireturn, 1) := by decide +kernel
theorem dX0_right_10 : decode cX0_right 10 = .ok (.iload_n 2, 1) := by decide +kernel
theorem dX0_right_11 : decode cX0_right 11 = .ok (.i2l, 1) := by decide +kernel
theorem dX0_right_12 : decode cX0_right 12 = .ok (.lconst 0, 1) := by decide +kernel
theorem dX0_right_13 : decode cX0_right 13 = .ok (.lconst 1, 1) := by decide +kernel
theorem dX0_right_14 : decode cX0_right 14 = .ok (.invokestatic 5, 3) := by decide +kernel
theorem dX0_right_17 : decode cX0_right 17 = .ok (.ifCond .ne 6, 3) := by decide +kernel
theorem dX0_right_20 : decode cX0_right 20 = .ok (.bipush (-3), 2) := by decide +kernel
theorem dX0_right_22 : decode cX0_right 22 = .ok (.ireturn, 1) := by decide +kernel
theorem dX0_right_23 : decode cX0_right 23 = .ok (.aload_n 0, 1) := by decide +kernel
theorem dX0_right_24 : decode cX0_right 24 = .ok (.getfield 43, 3) := by decide +kernel
theorem dX0_right_27 : decode cX0_right 27 = .ok (.getfield 138, 3) := by decide +kernel
theorem dX0_right_30 : decode cX0_right 30 = .ok (.iload_n 1, 1) := by decide +kernel
theorem dX0_right_31 : decode cX0_right 31 = .ok (.aaload, 1) := by decide +kernel
theorem dX0_right_32 : decode cX0_right 32 = .ok (.astore_n 3, 1) := by decide +kernel
theorem dX0_right_33 : decode cX0_right 33 = .ok (.aload_n 3, 1) := by decide +kernel
theorem dX0_right_34 : decode cX0_right 34 = .ok (.invokevirtual 159, 3) := by decide +kernel
theorem dX0_right_37 : decode cX0_right 37 = .ok (.ifCond .ne 6, 3) := by decide +kernel
theorem dX0_right_40 : decode cX0_right 40 = .ok (.bipush (-4), 2) := by decide +kernel
theorem dX0_right_42 : decode cX0_right 42 = .ok (.ireturn, 1) := by decide +kernel
theorem dX0_right_43 : decode cX0_right 43 = .ok (.aload_n 3, 1) := by decide +kernel
theorem dX0_right_44 : decode cX0_right 44 = .ok (.getfield 174, 3) := by decide +kernel
theorem dX0_right_47 : decode cX0_right 47 = .ok (.aload_n 3, 1) := by decide +kernel
theorem dX0_right_48 : decode cX0_right 48 = .ok (.getfield 167, 3) := by decide +kernel
theorem dX0_right_51 : decode cX0_right 51 = .ok (.invokevirtual 177, 3) := by decide +kernel
theorem dX0_right_54 : decode cX0_right 54 = .ok (.ifCond .eq 13, 3) := by decide +kernel
theorem dX0_right_57 : decode cX0_right 57 = .ok (.aload_n 3, 1) := by decide +kernel
theorem dX0_right_58 : decode cX0_right 58 = .ok (.getfield 167, 3) := by decide +kernel
theorem dX0_right_61 : decode cX0_right 61 = .ok (.getfield 179, 3) := by decide +kernel
theorem dX0_right_64 : decode cX0_right 64 = .ok (.goto 4, 3) := by decide +kernel
theorem dX0_right_67 : decode cX0_right 67 = .ok (.iconst 0, 1) := by decide +kernel
theorem dX0_right_68 : decode cX0_right 68 = .ok (.iadd, 1) := by decide +kernel
theorem dX0_right_69 : decode cX0_right 69 = .ok (.istore 4, 2) := by decide +kernel
theorem dX0_right_71 : decode cX0_right 71 = .ok (.iload_n 1, 1) := by decide +kernel
theorem dX0_right_72 : decode cX0_right 72 = .ok (.bipush 6, 2) := by decide +kernel
theorem dX0_right_74 : decode cX0_right 74 = .ok (.idiv, 1) := by decide +kernel
theorem dX0_right_75 : decode cX0_right 75 = .ok (.istore 5, 2) := by decide +kernel
theorem dX0_right_77 : decode cX0_right 77 = .ok (.bipush 6, 2) := by decide +kernel
theorem dX0_right_79 : decode cX0_right 79 = .ok (.iload 5, 2) := by decide +kernel
theorem dX0_right_81 : decode cX0_right 81 = .ok (.imul, 1) := by decide +kernel
theorem dX0_right_82 : decode cX0_right 82 = .ok (.istore 6, 2) := by decide +kernel
theorem dX0_right_84 : decode cX0_right 84 = .ok (.iload 6, 2) := by decide +kernel
theorem dX0_right_86 : decode cX0_right 86 = .ok (.bipush 6, 2) := by decide +kernel
theorem dX0_right_88 : decode cX0_right 88 = .ok (.iload 5, 2) := by decide +kernel
theorem dX0_right_90 : decode cX0_right 90 = .ok (.iconst 1, 1) := by decide +kernel
theorem dX0_right_91 : decode cX0_right 91 = .ok (.iadd, 1) := by decide +kernel
theorem dX0_right_92 : decode cX0_right 92 = .ok (.imul, 1) := by decide +kernel
theorem dX0_right_93 : decode cX0_right 93 = .ok (.if_icmp .ge 65, 3) := by decide +kernel
theorem dX0_right_96 : decode cX0_right 96 = .ok (.aload_n 0, 1) := by decide +kernel
theorem dX0_right_97 : decode cX0_right 97 = .ok (.getfield 43, 3) := by decide +kernel
theorem dX0_right_100 : decode cX0_right 100 = .ok (.getfield 138, 3) := by decide +kernel
theorem dX0_right_103 : decode cX0_right 103 = .ok (.iload 6, 2) := by decide +kernel
theorem dX0_right_105 : decode cX0_right 105 = .ok (.aaload, 1) := by decide +kernel
theorem dX0_right_106 : decode cX0_right 106 = .ok (.astore 7, 2) := by decide +kernel
theorem dX0_right_108 : decode cX0_right 108 = .ok (.iload 4, 2) := by decide +kernel
theorem dX0_right_110 : decode cX0_right 110 = .ok (.iload 6, 2) := by decide +kernel
theorem dX0_right_112 : decode cX0_right 112 = .ok (.iload_n 1, 1) := by decide +kernel
theorem dX0_right_113 : decode cX0_right 113 = .ok (.if_icmp .eq 35, 3) := by decide +kernel
theorem dX0_right_116 : decode cX0_right 116 = .ok (.aload 7, 2) := by decide +kernel
theorem dX0_right_118 : decode cX0_right 118 = .ok (.invokevirtual 159, 3) := by decide +kernel
theorem dX0_right_121 : decode cX0_right 121 = .ok (.ifCond .eq 27, 3) := by decide +kernel
theorem dX0_right_124 : decode cX0_right 124 = .ok (.aload_n 0, 1) := by decide +kernel
theorem dX0_right_125 : decode cX0_right 125 = .ok (.aload 7, 2) := by decide +kernel
theorem dX0_right_127 : decode cX0_right 127 = .ok (.getfield 142, 3) := by decide +kernel
theorem dX0_right_130 : decode cX0_right 130 = .ok (.aload_n 3, 1) := by decide +kernel
theorem dX0_right_131 : decode cX0_right 131 = .ok (.getfield 142, 3) := by decide +kernel
theorem dX0_right_134 : decode cX0_right 134 = .ok (.invokevirtual 298, 3) := by decide +kernel
theorem dX0_right_137 : decode cX0_right 137 = .ok (.ifCond .eq 11, 3) := by decide +kernel
theorem dX0_right_140 : decode cX0_right 140 = .ok (.aload 7, 2) := by decide +kernel
theorem dX0_right_142 : decode cX0_right 142 = .ok (.getfield 174, 3) := by decide +kernel
theorem dX0_right_145 : decode cX0_right 145 = .ok (.goto 4, 3) := by decide +kernel
theorem dX0_right_148 : decode cX0_right 148 = .ok (.iconst 0, 1) := by decide +kernel
theorem dX0_right_149 : decode cX0_right 149 = .ok (.iadd, 1) := by decide +kernel
theorem dX0_right_150 : decode cX0_right 150 = .ok (.istore 4, 2) := by decide +kernel
theorem dX0_right_152 : decode cX0_right 152 = .ok (.iinc 6 1, 3) := by decide +kernel
theorem dX0_right_155 : decode cX0_right 155 = .ok (.goto (-71), 3) := by decide +kernel
theorem dX0_right_158 : decode cX0_right 158 = .ok (.iload 4, 2) := by decide +kernel
theorem dX0_right_160 : decode cX0_right 160 = .ok (.ifCond .ne 6, 3) := by decide +kernel
theorem dX0_right_163 : decode cX0_right 163 = .ok (.bipush (-4), 2) := by decide +kernel
theorem dX0_right_165 : decode cX0_right 165 = .ok (.ireturn, 1) := by decide +kernel
theorem dX0_right_166 : decode cX0_right 166 = .ok (.aload_n 3, 1) := by decide +kernel
theorem dX0_right_167 : decode cX0_right 167 = .ok (.getfield 174, 3) := by decide +kernel
theorem dX0_right_170 : decode cX0_right 170 = .ok (.istore 6, 2) := by decide +kernel
theorem dX0_right_172 : decode cX0_right 172 = .ok (.iload 4, 2) := by decide +kernel
theorem dX0_right_174 : decode cX0_right 174 = .ok (.istore 7, 2) := by decide +kernel
theorem dX0_right_176 : decode cX0_right 176 = .ok (.iload 7, 2) := by decide +kernel
theorem dX0_right_178 : decode cX0_right 178 = .ok (.ifCond .eq 21, 3) := by decide +kernel
theorem dX0_right_181 : decode cX0_right 181 = .ok (.iload 6, 2) := by decide +kernel
theorem dX0_right_183 : decode cX0_right 183 = .ok (.iload 7, 2) := by decide +kernel
theorem dX0_right_185 : decode cX0_right 185 = .ok (.irem, 1) := by decide +kernel
theorem dX0_right_186 : decode cX0_right 186 = .ok (.istore 8, 2) := by decide +kernel
theorem dX0_right_188 : decode cX0_right 188 = .ok (.iload 7, 2) := by decide +kernel
theorem dX0_right_190 : decode cX0_right 190 = .ok (.istore 6, 2) := by decide +kernel
theorem dX0_right_192 : decode cX0_right 192 = .ok (.iload 8, 2) := by decide +kernel
theorem dX0_right_194 : decode cX0_right 194 = .ok (.istore 7, 2) := by decide +kernel
theorem dX0_right_196 : decode cX0_right 196 = .ok (.goto (-20), 3) := by decide +kernel
theorem dX0_right_199 : decode cX0_right 199 = .ok (.iload_n 2, 1) := by decide +kernel
theorem dX0_right_200 : decode cX0_right 200 = .ok (.ifCond .ne 13, 3) := by decide +kernel
theorem dX0_right_203 : decode cX0_right 203 = .ok (.aload_n 3, 1) := by decide +kernel
theorem dX0_right_204 : decode cX0_right 204 = .ok (.getfield 174, 3) := by decide +kernel
theorem dX0_right_207 : decode cX0_right 207 = .ok (.iload 6, 2) := by decide +kernel
theorem dX0_right_209 : decode cX0_right 209 = .ok (.idiv, 1) := by decide +kernel
theorem dX0_right_210 : decode cX0_right 210 = .ok (.goto 8, 3) := by decide +kernel
theorem dX0_right_213 : decode cX0_right 213 = .ok (.iload 4, 2) := by decide +kernel
theorem dX0_right_215 : decode cX0_right 215 = .ok (.iload 6, 2) := by decide +kernel
theorem dX0_right_217 : decode cX0_right 217 = .ok (.idiv, 1) := by decide +kernel
theorem dX0_right_218 : decode cX0_right 218 = .ok (.ireturn, 1) := by decide +kernel
theorem yd_X0_right : yX0_right.cls ≠ "java/lang/invoke/MethodHandle" ∧ yX0_right.cls ≠ "java/lang/invoke/VarHandle" ∧ (parseMethodDescriptor yX0_right.desc).map (fun d => d.parameters.length) = some 2 := by decide +kernel
abbrev rm_X0_right : Room := { frames := 3, cells := 0, slots := 0, locals := 64 }
set_option maxHeartbeats 4000000 in
theorem w_X0_right_199 {p : Program} {l : Launch} {e : Env} {s : State} {m : MethodId} {args : Array Value} {below : List Frame} {meth : Method} {c : Code} {g : Gl} (X : FX g p m c s args meth cX0_right 9 RX0 (some .int) "right") {r : Int32 × Hp} {σ : Hp} {x2 : Int32} {x3 : Nat} {x4 : Int32} {x6 : Int32}  {H : Heap} {locs : List Loc} {ls : Array Slot} (h : F_X0_right_199 σ x2 x3 x4 x6 = some r) (hV : HV g σ H) (hF : FR g locs) (hl : lv_has ls 9 [(2, .int x2), (3, .ref x3), (4, .int x4), (6, .int x6)]) : W p l e rm_X0_right s m args below meth c H locs 0 0 (MQ below (Qi g r) args s 0 0 (frN g)) (F0 m 199 ls []) := by
  unfold F_X0_right_199 at h
  refine lv_iload_n X.1 X.2.1 dX0_right_199 rfl (lv_at hl 0 rfl) ?_
  refine r_ifne (tgt := 213) X.1 X.2.1 dX0_right_200 (by decide) h (fun h => ?_) (fun h => ?_)
  · refine lv_iload X.1 X.2.1 dX0_right_213 (lv_at hl 2 rfl) ?_
    refine lv_iload X.1 X.2.1 dX0_right_215 (lv_at hl 3 rfl) ?_
    refine r_dz X.1 X.2.1 dX0_right_217 h (fun h => ?_)
    exact r_iret X hV hF h dX0_right_218
  · refine lv_aload_n X.1 X.2.1 dX0_right_203 rfl (lv_at hl 1 rfl) ?_
    refine r_gI X hV fl_X0_174_3 dX0_right_204 h (fun v1 h => ?_)
    refine lv_iload X.1 X.2.1 dX0_right_207 (lv_at hl 3 rfl) ?_
    refine r_dz X.1 X.2.1 dX0_right_209 h (fun h => ?_)
    refine lv_goto (tgt := 218) X.1 X.2.1 dX0_right_210 (by decide) ?_
    exact r_iret X hV hF h dX0_right_218
set_option maxHeartbeats 4000000 in
theorem w_X0_right_176_b {p : Program} {l : Launch} {e : Env} {s : State} {m : MethodId} {args : Array Value} {below : List Frame} {meth : Method} {c : Code} {g : Gl} (X : FX g p m c s args meth cX0_right 9 RX0 (some .int) "right") {r : Int32 × Hp} {rec176 : Int32 × Int32 → Option (Int32 × Hp)} {σ : Hp} {x2 : Int32} {x3 : Nat} {x4 : Int32} {x6 : Int32} {x7 : Int32} (hr176 : ∀ (st : Int32 × Int32), rec176 st = some r → ∀ (H : Heap) (locs : List Loc) (ls : Array Slot), HV g σ H → FR g locs → lv_has ls 9 [(2, .int x2), (3, .ref x3), (4, .int x4), (6, .int st.1), (7, .int st.2)] → W p l e rm_X0_right s m args below meth c H locs 0 0 (MQ below (Qi g r) args s 0 0 (frN g)) (F0 m 176 ls [])) {H : Heap} {locs : List Loc} {ls : Array Slot} (h : B_X0_right_176 σ x2 x3 x4 rec176 x6 x7 = some r) (hV : HV g σ H) (hF : FR g locs) (hl : lv_has ls 9 [(2, .int x2), (3, .ref x3), (4, .int x4), (6, .int x6), (7, .int x7)]) : W p l e rm_X0_right s m args below meth c H locs 0 0 (MQ below (Qi g r) args s 0 0 (frN g)) (F0 m 176 ls []) := by
  unfold B_X0_right_176 at h
  refine lv_iload X.1 X.2.1 dX0_right_176 (lv_at hl 4 rfl) ?_
  refine r_ifeq (tgt := 199) X.1 X.2.1 dX0_right_178 (by decide) h (fun h => ?_) (fun h => ?_)
  · exact w_X0_right_199 X  h hV hF (lv_sub hl [0, 1, 2, 3] rfl)
  · refine lv_iload X.1 X.2.1 dX0_right_181 (lv_at hl 3 rfl) ?_
    refine lv_iload X.1 X.2.1 dX0_right_183 (lv_at hl 4 rfl) ?_
    refine r_rz X.1 X.2.1 dX0_right_185 h (fun h => ?_)
    refine lv_istore (lv' := [(8, .int (x6 - x6 / x7 * x7)), (2, .int x2), (3, .ref x3), (4, .int x4), (6, .int x6), (7, .int x7)]) X.1 X.2.1 dX0_right_186 hl (by decide) rfl (fun ls hl => ?_)
    refine lv_iload X.1 X.2.1 dX0_right_188 (lv_at hl 5 rfl) ?_
    refine lv_istore (lv' := [(6, .int x7), (8, .int (x6 - x6 / x7 * x7)), (2, .int x2), (3, .ref x3), (4, .int x4), (7, .int x7)]) X.1 X.2.1 dX0_right_190 hl (by decide) rfl (fun ls hl => ?_)
    refine lv_iload X.1 X.2.1 dX0_right_192 (lv_at hl 1 rfl) ?_
    refine lv_istore (lv' := [(7, .int (x6 - x6 / x7 * x7)), (6, .int x7), (8, .int (x6 - x6 / x7 * x7)), (2, .int x2), (3, .ref x3), (4, .int x4)]) X.1 X.2.1 dX0_right_194 hl (by decide) rfl (fun ls hl => ?_)
    refine lv_goto (tgt := 176) X.1 X.2.1 dX0_right_196 (by decide) ?_
    exact hr176 (x7, x6 - x6 / x7 * x7) h _ _ _ hV hF (lv_sub hl [3, 4, 5, 1, 0] rfl)
set_option maxHeartbeats 4000000 in
theorem w_X0_right_176 {p : Program} {l : Launch} {e : Env} {s : State} {m : MethodId} {args : Array Value} {below : List Frame} {meth : Method} {c : Code} {g : Gl} (X : FX g p m c s args meth cX0_right 9 RX0 (some .int) "right") {r : Int32 × Hp} {σ : Hp} {x2 : Int32} {x3 : Nat} {x4 : Int32}  : ∀ (n : Nat) (st : Int32 × Int32), L_X0_right_176 σ x2 x3 x4 n st = some r → ∀ (H : Heap) (locs : List Loc) (ls : Array Slot), HV g σ H → FR g locs → lv_has ls 9 [(2, .int x2), (3, .ref x3), (4, .int x4), (6, .int st.1), (7, .int st.2)] → W p l e rm_X0_right s m args below meth c H locs 0 0 (MQ below (Qi g r) args s 0 0 (frN g)) (F0 m 176 ls []) := by
  intro n
  induction n with
  | zero =>
    intro st h
    rw [L_X0_right_176_0] at h
    cases h
  | succ n ih =>
    intro st h H locs ls hV hF hl
    rw [L_X0_right_176_s] at h
    exact w_X0_right_176_b X  ih h hV hF hl
set_option maxHeartbeats 4000000 in
theorem w_X0_right_158 {p : Program} {l : Launch} {e : Env} {s : State} {m : MethodId} {args : Array Value} {below : List Frame} {meth : Method} {c : Code} {g : Gl} (X : FX g p m c s args meth cX0_right 9 RX0 (some .int) "right") {r : Int32 × Hp} {σ : Hp} {x2 : Int32} {x3 : Nat} {x4 : Int32}  {H : Heap} {locs : List Loc} {ls : Array Slot} (h : F_X0_right_158 σ x2 x3 x4 = some r) (hV : HV g σ H) (hF : FR g locs) (hl : lv_has ls 9 [(2, .int x2), (3, .ref x3), (4, .int x4)]) : W p l e rm_X0_right s m args below meth c H locs 0 0 (MQ below (Qi g r) args s 0 0 (frN g)) (F0 m 158 ls []) := by
  unfold F_X0_right_158 at h
  refine lv_iload X.1 X.2.1 dX0_right_158 (lv_at hl 2 rfl) ?_
  refine r_ifne (tgt := 166) X.1 X.2.1 dX0_right_160 (by decide) h (fun h => ?_) (fun h => ?_)
  · refine lv_aload_n X.1 X.2.1 dX0_right_166 rfl (lv_at hl 1 rfl) ?_
    refine r_gI X hV fl_X0_174_3 dX0_right_167 h (fun v1 h => ?_)
    refine lv_istore (lv' := [(6, .int v1), (2, .int x2), (3, .ref x3), (4, .int x4)]) X.1 X.2.1 dX0_right_170 hl (by decide) rfl (fun ls hl => ?_)
    refine lv_iload X.1 X.2.1 dX0_right_172 (lv_at hl 3 rfl) ?_
    refine lv_istore (lv' := [(7, .int x4), (6, .int v1), (2, .int x2), (3, .ref x3), (4, .int x4)]) X.1 X.2.1 dX0_right_174 hl (by decide) rfl (fun ls hl => ?_)
    exact w_X0_right_176 X  FU (v1, x4) h _ _ _ hV hF (lv_sub hl [2, 3, 4, 1, 0] rfl)
  · refine lv_bipush (v := (-4)) X.1 X.2.1 dX0_right_163 (by decide) ?_
    exact r_iret X hV hF h dX0_right_165
set_option maxHeartbeats 4000000 in
theorem w_X0_right_84_b {p : Program} {l : Launch} {e : Env} {s : State} {m : MethodId} {args : Array Value} {below : List Frame} {meth : Method} {c : Code} {g : Gl} (X : FX g p m c s args meth cX0_right 9 RX0 (some .int) "right") {r : Int32 × Hp} {rec84 : Hp × Int32 × Int32 → Option (Int32 × Hp)} {x0 : Nat} {x1 : Int32} {x2 : Int32} {x3 : Nat} {x5 : Int32} {σ : Hp} {x4 : Int32} {x6 : Int32} (hr84 : ∀ (st : Hp × Int32 × Int32), rec84 st = some r → ∀ (H : Heap) (locs : List Loc) (ls : Array Slot), HV g st.1 H → FR g locs → lv_has ls 9 [(0, .ref x0), (1, .int x1), (2, .int x2), (3, .ref x3), (4, .int st.2.1), (5, .int x5), (6, .int st.2.2)] → W p l e rm_X0_right s m args below meth c H locs 0 0 (MQ below (Qi g r) args s 0 0 (frN g)) (F0 m 84 ls [])) {H : Heap} {locs : List Loc} {ls : Array Slot} (h : B_X0_right_84 x0 x1 x2 x3 x5 rec84 σ x4 x6 = some r) (hV : HV g σ H) (hF : FR g locs) (hl : lv_has ls 9 [(0, .ref x0), (1, .int x1), (2, .int x2), (3, .ref x3), (4, .int x4), (5, .int x5), (6, .int x6)]) : W p l e rm_X0_right s m args below meth c H locs 0 0 (MQ below (Qi g r) args s 0 0 (frN g)) (F0 m 84 ls []) := by
  unfold B_X0_right_84 at h
  refine lv_iload X.1 X.2.1 dX0_right_84 (lv_at hl 6 rfl) ?_
  refine lv_bipush (v := 6) X.1 X.2.1 dX0_right_86 (by decide) ?_
  refine lv_iload X.1 X.2.1 dX0_right_88 (lv_at hl 5 rfl) ?_
  refine lv_iconst (v := 1) X.1 X.2.1 dX0_right_90 (by decide) ?_
  refine lv_iadd X.1 X.2.1 dX0_right_91 ?_
  refine lv_imul X.1 X.2.1 dX0_right_92 ?_
  refine r_ge (tgt := 158) X.1 X.2.1 dX0_right_93 (by decide) h (fun h => ?_) (fun h => ?_)
  · exact w_X0_right_158 X  h hV hF (lv_sub hl [2, 3, 4] rfl)
  · refine lv_aload_n X.1 X.2.1 dX0_right_96 rfl (lv_at hl 0 rfl) ?_
    refine r_gR X hV fl_X0_43_0 (by decide) dX0_right_97 h (fun v1 h => ?_)
    refine r_gR X hV fl_X0_138_1 (by decide) dX0_right_100 h (fun v2 h => ?_)
    refine lv_iload X.1 X.2.1 dX0_right_103 (lv_at hl 6 rfl) ?_
    refine r_aa X hV dX0_right_105 (by decide) h (fun v3 h => ?_)
    refine lv_astore (lv' := [(7, .ref v3), (0, .ref x0), (1, .int x1), (2, .int x2), (3, .ref x3), (4, .int x4), (5, .int x5), (6, .int x6)]) X.1 X.2.1 dX0_right_106 hl (by decide) rfl (fun ls hl => ?_)
    refine lv_iload X.1 X.2.1 dX0_right_108 (lv_at hl 5 rfl) ?_
    refine lv_iload X.1 X.2.1 dX0_right_110 (lv_at hl 7 rfl) ?_
    refine lv_iload_n X.1 X.2.1 dX0_right_112 rfl (lv_at hl 2 rfl) ?_
    refine r_eq (tgt := 148) X.1 X.2.1 dX0_right_113 (by decide) h (fun h => ?_) (fun h => ?_)
    · refine lv_iconst (v := 0) X.1 X.2.1 dX0_right_148 (by decide) ?_
      refine lv_iadd X.1 X.2.1 dX0_right_149 ?_
      refine lv_istore (lv' := [(4, .int (x4 + 0)), (7, .ref v3), (0, .ref x0), (1, .int x1), (2, .int x2), (3, .ref x3), (5, .int x5), (6, .int x6)]) X.1 X.2.1 dX0_right_150 hl (by decide) rfl (fun ls hl => ?_)
      refine lv_iinc (v := x6 + 1) (lv' := [(6, .int (x6 + 1)), (4, .int (x4 + 0)), (7, .ref v3), (0, .ref x0), (1, .int x1), (2, .int x2), (3, .ref x3), (5, .int x5)]) X.1 X.2.1 dX0_right_152 hl (k := 7) rfl rfl (by decide) rfl (fun ls hl => ?_)
      refine lv_goto (tgt := 84) X.1 X.2.1 dX0_right_155 (by decide) ?_
      exact hr84 (σ, x4 + 0, x6 + 1) h _ _ _ hV hF (lv_sub hl [3, 4, 5, 6, 1, 7, 0] rfl)
    · refine lv_aload X.1 X.2.1 dX0_right_116 (lv_at hl 0 rfl) ?_
      obtain ⟨v4, s1, hc, h⟩ := b2_inv h
      refine r_ci (va_runU (C := RX3) (x := ⟨"PalaceOfRooms$Corner", "isThere", "()Z"⟩) (As := []) (rest := [.int x4]) (cfX X) (c_X2_isThere_3 l hc) (va_cwU (owner := RX2) 0 X.2.2.2.2.1 (lw_app (lw_in _ [406, 407, 409, 410, 51] (by decide +kernel) (by decide +kernel)) (lw_meth q411)) rfl rfl rfl rfl yd_X2_isThere ⟨Nat.le_of_ble_eq_true rfl, Nat.le_of_ble_eq_true rfl⟩) (preV X hV (F_X2_isThere_3_g hc) rfl) rfl rfl hl.1 rfl (lv_room (Nat.le_of_ble_eq_true rfl)) dX0_right_118 ⟨(Nat.le_of_ble_eq_true rfl), (Nat.le_of_ble_eq_true rfl)⟩) hF (fun H locs hV hF => ?_)
      refine r_ifeq (tgt := 148) X.1 X.2.1 dX0_right_121 (by decide) h (fun h => ?_) (fun h => ?_)
      · refine lv_iconst (v := 0) X.1 X.2.1 dX0_right_148 (by decide) ?_
        refine lv_iadd X.1 X.2.1 dX0_right_149 ?_
        refine lv_istore (lv' := [(4, .int (x4 + 0)), (7, .ref v3), (0, .ref x0), (1, .int x1), (2, .int x2), (3, .ref x3), (5, .int x5), (6, .int x6)]) X.1 X.2.1 dX0_right_150 hl (by decide) rfl (fun ls hl => ?_)
        refine lv_iinc (v := x6 + 1) (lv' := [(6, .int (x6 + 1)), (4, .int (x4 + 0)), (7, .ref v3), (0, .ref x0), (1, .int x1), (2, .int x2), (3, .ref x3), (5, .int x5)]) X.1 X.2.1 dX0_right_152 hl (k := 7) rfl rfl (by decide) rfl (fun ls hl => ?_)
        refine lv_goto (tgt := 84) X.1 X.2.1 dX0_right_155 (by decide) ?_
        exact hr84 (s1, x4 + 0, x6 + 1) h _ _ _ hV hF (lv_sub hl [3, 4, 5, 6, 1, 7, 0] rfl)
      · refine lv_aload_n X.1 X.2.1 dX0_right_124 rfl (lv_at hl 1 rfl) ?_
        refine lv_aload X.1 X.2.1 dX0_right_125 (lv_at hl 0 rfl) ?_
        refine r_gI X hV fl_X0_142_3 dX0_right_127 h (fun v5 h => ?_)
        refine lv_aload_n X.1 X.2.1 dX0_right_130 rfl (lv_at hl 4 rfl) ?_
        refine r_gI X hV fl_X0_142_3 dX0_right_131 h (fun v6 h => ?_)
        obtain ⟨v7, s2, hc, h⟩ := b2_inv h
        refine r_ci (va_runV (C := RX0) (As := [.int v5, .int v6]) (rest := [.int x4]) (cfX X) (c_X0_isLike l hc) (cwV 2 X.2.2.2.2.1 (lw_V q910 q443 qs4 q49 q444) rfl rfl rfl ⟨rfl, yd_X0_isLike⟩ ⟨Nat.le_of_ble_eq_true rfl, Nat.le_of_ble_eq_true rfl⟩) (preV X hV (F_X0_isLike_g hc) rfl) rfl rfl hl.1 rfl (lv_room (Nat.le_of_ble_eq_true rfl)) dX0_right_134 ⟨(Nat.le_of_ble_eq_true rfl), (Nat.le_of_ble_eq_true rfl)⟩) hF (fun H locs hV hF => ?_)
        refine r_ifeq (tgt := 148) X.1 X.2.1 dX0_right_137 (by decide) h (fun h => ?_) (fun h => ?_)
        · refine lv_iconst (v := 0) X.1 X.2.1 dX0_right_148 (by decide) ?_
          refine lv_iadd X.1 X.2.1 dX0_right_149 ?_
          refine lv_istore (lv' := [(4, .int (x4 + 0)), (7, .ref v3), (0, .ref x0), (1, .int x1), (2, .int x2), (3, .ref x3), (5, .int x5), (6, .int x6)]) X.1 X.2.1 dX0_right_150 hl (by decide) rfl (fun ls hl => ?_)
          refine lv_iinc (v := x6 + 1) (lv' := [(6, .int (x6 + 1)), (4, .int (x4 + 0)), (7, .ref v3), (0, .ref x0), (1, .int x1), (2, .int x2), (3, .ref x3), (5, .int x5)]) X.1 X.2.1 dX0_right_152 hl (k := 7) rfl rfl (by decide) rfl (fun ls hl => ?_)
          refine lv_goto (tgt := 84) X.1 X.2.1 dX0_right_155 (by decide) ?_
          exact hr84 (s2, x4 + 0, x6 + 1) h _ _ _ hV hF (lv_sub hl [3, 4, 5, 6, 1, 7, 0] rfl)
        · refine lv_aload X.1 X.2.1 dX0_right_140 (lv_at hl 0 rfl) ?_
          refine r_gI X hV fl_X0_174_3 dX0_right_142 h (fun v8 h => ?_)
          refine lv_goto (tgt := 149) X.1 X.2.1 dX0_right_145 (by decide) ?_
          refine lv_iadd X.1 X.2.1 dX0_right_149 ?_
          refine lv_istore (lv' := [(4, .int (x4 + v8)), (7, .ref v3), (0, .ref x0), (1, .int x1), (2, .int x2), (3, .ref x3), (5, .int x5), (6, .int x6)]) X.1 X.2.1 dX0_right_150 hl (by decide) rfl (fun ls hl => ?_)
          refine lv_iinc (v := x6 + 1) (lv' := [(6, .int (x6 + 1)), (4, .int (x4 + v8)), (7, .ref v3), (0, .ref x0), (1, .int x1), (2, .int x2), (3, .ref x3), (5, .int x5)]) X.1 X.2.1 dX0_right_152 hl (k := 7) rfl rfl (by decide) rfl (fun ls hl => ?_)
          refine lv_goto (tgt := 84) X.1 X.2.1 dX0_right_155 (by decide) ?_
          exact hr84 (s2, x4 + v8, x6 + 1) h _ _ _ hV hF (lv_sub hl [3, 4, 5, 6, 1, 7, 0] rfl)
set_option maxHeartbeats 4000000 in
theorem w_X0_right_84 {p : Program} {l : Launch} {e : Env} {s : State} {m : MethodId} {args : Array Value} {below : List Frame} {meth : Method} {c : Code} {g : Gl} (X : FX g p m c s args meth cX0_right 9 RX0 (some .int) "right") {r : Int32 × Hp} {x0 : Nat} {x1 : Int32} {x2 : Int32} {x3 : Nat} {x5 : Int32}  : ∀ (n : Nat) (st : Hp × Int32 × Int32), L_X0_right_84 x0 x1 x2 x3 x5 n st = some r → ∀ (H : Heap) (locs : List Loc) (ls : Array Slot), HV g st.1 H → FR g locs → lv_has ls 9 [(0, .ref x0), (1, .int x1), (2, .int x2), (3, .ref x3), (4, .int st.2.1), (5, .int x5), (6, .int st.2.2)] → W p l e rm_X0_right s m args below meth c H locs 0 0 (MQ below (Qi g r) args s 0 0 (frN g)) (F0 m 84 ls []) := by
  intro n
  induction n with
  | zero =>
    intro st h
    rw [L_X0_right_84_0] at h
    cases h
  | succ n ih =>
    intro st h H locs ls hV hF hl
    rw [L_X0_right_84_s] at h
    exact w_X0_right_84_b X  ih h hV hF hl
set_option maxHeartbeats 4000000 in
theorem c_X0_right (l : Launch) {g : Gl} {σ : Hp} {x0 : Nat} {x1 : Int32} {x2 : Int32} {r : Int32 × Hp} (h : F_X0_right σ x0 x1 x2 = some r) : Met l yX0_right (ws_ yX0_right cX0_right 9 (some .int)) rm_X0_right (va_Pc [.ref x0, .int x1, .int x2] (WV g σ)) (Qi g r) 0 0 (frN g) := by
  refine ct_of (by decide) (Nat.le_of_ble_eq_true rfl) ?_
  intro p e s m below meth c ls X hV hl
  have hF : FR g [] := FR_nil
  unfold F_X0_right at h
  have hl : lv_has ls 9 [(0, .ref x0), (1, .int x1), (2, .int x2)] := hl
  have X : FX g p m c s _ meth cX0_right 9 RX0 (some .int) "right" := X
  obtain ⟨-, h⟩ := gd_inv h
  refine lv_iload_n X.1 X.2.1 dX0_right_0 rfl (lv_at hl 1 rfl) ?_
  obtain ⟨v1, s1, hc, h⟩ := b2_inv h
  refine r_ci (va_runS (As := [.int x1]) (rest := []) (cfX X) (c_X0_isCorner l hc) (va_cwS 1 X.2.2.2.2.1 (lw_S q381 q382 q49 q383) rfl rfl rfl yd_X0_isCorner ⟨Nat.le_of_ble_eq_true rfl, Nat.le_of_ble_eq_true rfl⟩) (preS X hV) rfl rfl hl.1 rfl (lv_room (Nat.le_of_ble_eq_true rfl)) dX0_right_1 ⟨(Nat.le_of_ble_eq_true rfl), (Nat.le_of_ble_eq_true rfl)⟩) hF (fun H locs hV hF => ?_)
  refine r_ifne (tgt := 10) X.1 X.2.1 dX0_right_4 (by decide) h (fun h => ?_) (fun h => ?_)
  · refine lv_iload_n X.1 X.2.1 dX0_right_10 rfl (lv_at hl 2 rfl) ?_
    refine lv_i2l (v := (x2 : Int32).toInt64) X.1 X.2.1 dX0_right_11 rfl ?_
    refine lv_lconst (v := 0) X.1 X.2.1 dX0_right_12 (by decide) ?_
    refine lv_lconst (v := 1) X.1 X.2.1 dX0_right_13 (by decide) ?_
    obtain ⟨v2, s2, hc, h⟩ := b2_inv h
    refine r_ci (va_runS (As := [.long ((x2 : Int32).toInt64), .long 0, .long 1]) (rest := []) (cfX X) (c_X0_isIn l hc) (va_cwS 3 X.2.2.2.2.1 (lw_S q331 q332 q49 q333) rfl rfl rfl yd_X0_isIn ⟨Nat.le_of_ble_eq_true rfl, Nat.le_of_ble_eq_true rfl⟩) (preS X hV) rfl rfl hl.1 rfl (lv_room (Nat.le_of_ble_eq_true rfl)) dX0_right_14 ⟨(Nat.le_of_ble_eq_true rfl), (Nat.le_of_ble_eq_true rfl)⟩) hF (fun H locs hV hF => ?_)
    refine r_ifne (tgt := 23) X.1 X.2.1 dX0_right_17 (by decide) h (fun h => ?_) (fun h => ?_)
    · refine lv_aload_n X.1 X.2.1 dX0_right_23 rfl (lv_at hl 0 rfl) ?_
      refine r_gR X hV fl_X0_43_0 (by decide) dX0_right_24 h (fun v3 h => ?_)
      refine r_gR X hV fl_X0_138_1 (by decide) dX0_right_27 h (fun v4 h => ?_)
      refine lv_iload_n X.1 X.2.1 dX0_right_30 rfl (lv_at hl 1 rfl) ?_
      refine r_aa X hV dX0_right_31 (by decide) h (fun v5 h => ?_)
      refine lv_astore_n (lv' := [(3, .ref v5), (0, .ref x0), (1, .int x1), (2, .int x2)]) X.1 X.2.1 dX0_right_32 rfl hl (by decide) rfl (fun ls hl => ?_)
      refine lv_aload_n X.1 X.2.1 dX0_right_33 rfl (lv_at hl 0 rfl) ?_
      obtain ⟨v6, s3, hc, h⟩ := b2_inv h
      refine r_ci (va_runU (C := RX3) (x := ⟨"PalaceOfRooms$Corner", "isThere", "()Z"⟩) (As := []) (rest := []) (cfX X) (c_X2_isThere_3 l hc) (va_cwU (owner := RX2) 0 X.2.2.2.2.1 (lw_app (lw_in _ [406, 407, 409, 410, 51] (by decide +kernel) (by decide +kernel)) (lw_meth q411)) rfl rfl rfl rfl yd_X2_isThere ⟨Nat.le_of_ble_eq_true rfl, Nat.le_of_ble_eq_true rfl⟩) (preV X hV (F_X2_isThere_3_g hc) rfl) rfl rfl hl.1 rfl (lv_room (Nat.le_of_ble_eq_true rfl)) dX0_right_34 ⟨(Nat.le_of_ble_eq_true rfl), (Nat.le_of_ble_eq_true rfl)⟩) hF (fun H locs hV hF => ?_)
      refine r_ifne (tgt := 43) X.1 X.2.1 dX0_right_37 (by decide) h (fun h => ?_) (fun h => ?_)
      · refine lv_aload_n X.1 X.2.1 dX0_right_43 rfl (lv_at hl 0 rfl) ?_
        refine r_gI X hV fl_X0_174_3 dX0_right_44 h (fun v7 h => ?_)
        refine lv_aload_n X.1 X.2.1 dX0_right_47 rfl (lv_at hl 0 rfl) ?_
        refine r_gR X hV fl_X0_167_3 (by decide) dX0_right_48 h (fun v8 h => ?_)
        obtain ⟨v9, s4, hc, h⟩ := b2_inv h
        refine r_ci (va_runV (C := RX4) (As := []) (rest := [.int v7]) (cfX X) (c_X4_isThere l hc) (cwV 0 X.2.2.2.2.1 (lw_V q418 q419 q420 q53 q421) rfl rfl rfl ⟨rfl, yd_X4_isThere⟩ ⟨Nat.le_of_ble_eq_true rfl, Nat.le_of_ble_eq_true rfl⟩) (preV X hV (F_X4_isThere_g hc) rfl) rfl rfl hl.1 rfl (lv_room (Nat.le_of_ble_eq_true rfl)) dX0_right_51 ⟨(Nat.le_of_ble_eq_true rfl), (Nat.le_of_ble_eq_true rfl)⟩) hF (fun H locs hV hF => ?_)
        refine r_ifeq (tgt := 67) X.1 X.2.1 dX0_right_54 (by decide) h (fun h => ?_) (fun h => ?_)
        · refine lv_iconst (v := 0) X.1 X.2.1 dX0_right_67 (by decide) ?_
          refine lv_iadd X.1 X.2.1 dX0_right_68 ?_
          refine lv_istore (lv' := [(4, .int (v7 + 0)), (3, .ref v5), (0, .ref x0), (1, .int x1), (2, .int x2)]) X.1 X.2.1 dX0_right_69 hl (by decide) rfl (fun ls hl => ?_)
          refine lv_iload_n X.1 X.2.1 dX0_right_71 rfl (lv_at hl 3 rfl) ?_
          refine lv_bipush (v := 6) X.1 X.2.1 dX0_right_72 (by decide) ?_
          refine lv_idiv X.1 X.2.1 dX0_right_74 (by decide) ?_
          refine lv_istore (lv' := [(5, .int (x1 / 6)), (4, .int (v7 + 0)), (3, .ref v5), (0, .ref x0), (1, .int x1), (2, .int x2)]) X.1 X.2.1 dX0_right_75 hl (by decide) rfl (fun ls hl => ?_)
          refine lv_bipush (v := 6) X.1 X.2.1 dX0_right_77 (by decide) ?_
          refine lv_iload X.1 X.2.1 dX0_right_79 (lv_at hl 0 rfl) ?_
          refine lv_imul X.1 X.2.1 dX0_right_81 ?_
          refine lv_istore (lv' := [(6, .int (6 * (x1 / 6))), (5, .int (x1 / 6)), (4, .int (v7 + 0)), (3, .ref v5), (0, .ref x0), (1, .int x1), (2, .int x2)]) X.1 X.2.1 dX0_right_82 hl (by decide) rfl (fun ls hl => ?_)
          exact w_X0_right_84 X  FU (s4, v7 + 0, 6 * (x1 / 6)) h _ _ _ hV hF (lv_sub hl [4, 5, 6, 3, 2, 1, 0] rfl)
        · refine lv_aload_n X.1 X.2.1 dX0_right_57 rfl (lv_at hl 0 rfl) ?_
          refine r_gR X hV fl_X0_167_3 (by decide) dX0_right_58 h (fun v10 h => ?_)
          refine r_gI X hV fl_X0_179_4 dX0_right_61 h (fun v11 h => ?_)
          refine lv_goto (tgt := 68) X.1 X.2.1 dX0_right_64 (by decide) ?_
          refine lv_iadd X.1 X.2.1 dX0_right_68 ?_
          refine lv_istore (lv' := [(4, .int (v7 + v11)), (3, .ref v5), (0, .ref x0), (1, .int x1), (2, .int x2)]) X.1 X.2.1 dX0_right_69 hl (by decide) rfl (fun ls hl => ?_)
          refine lv_iload_n X.1 X.2.1 dX0_right_71 rfl (lv_at hl 3 rfl) ?_
          refine lv_bipush (v := 6) X.1 X.2.1 dX0_right_72 (by decide) ?_
          refine lv_idiv X.1 X.2.1 dX0_right_74 (by decide) ?_
          refine lv_istore (lv' := [(5, .int (x1 / 6)), (4, .int (v7 + v11)), (3, .ref v5), (0, .ref x0), (1, .int x1), (2, .int x2)]) X.1 X.2.1 dX0_right_75 hl (by decide) rfl (fun ls hl => ?_)
          refine lv_bipush (v := 6) X.1 X.2.1 dX0_right_77 (by decide) ?_
          refine lv_iload X.1 X.2.1 dX0_right_79 (lv_at hl 0 rfl) ?_
          refine lv_imul X.1 X.2.1 dX0_right_81 ?_
          refine lv_istore (lv' := [(6, .int (6 * (x1 / 6))), (5, .int (x1 / 6)), (4, .int (v7 + v11)), (3, .ref v5), (0, .ref x0), (1, .int x1), (2, .int x2)]) X.1 X.2.1 dX0_right_82 hl (by decide) rfl (fun ls hl => ?_)
          exact w_X0_right_84 X  FU (s4, v7 + v11, 6 * (x1 / 6)) h _ _ _ hV hF (lv_sub hl [4, 5, 6, 3, 2, 1, 0] rfl)
      · refine lv_bipush (v := (-4)) X.1 X.2.1 dX0_right_40 (by decide) ?_
        exact r_iret X hV hF h dX0_right_42
    · refine lv_bipush (v := (-3)) X.1 X.2.1 dX0_right_20 (by decide) ?_
      exact r_iret X hV hF h dX0_right_22
  · refine lv_bipush (v := (-2)) X.1 X.2.1 dX0_right_7 (by decide) ?_
    exact r_iret X hV hF h dX0_right_9
/-! PalaceOfRooms.causes -/
theorem dX0_causes_0 : decode cX0_causes 0 = .ok (.iload_n 1, 1) := by decide +kernel
theorem dX0_causes_1 : decode cX0_causes 1 = .ok (.invokestatic 147, 3) := by decide +kernel
theorem dX0_causes_4 : decode cX0_causes 4 = .ok (.ifCond .eq 10, 3) := by decide +kernel
theorem dX0_causes_7 : decode cX0_causes 7 = .ok (.iload_n 2, 1) := by decide +kernel
theorem dX0_causes_8 : decode cX0_causes 8 = .ok (.invokestatic 116, 3) := by decide +kernel
theorem dX0_causes_11 : decode cX0_causes 11 = .ok (.ifCond .ne 6, 3) := by decide +kernel
theorem dX0_causes_14 : decode cX0_causes 14 = .ok (.bipush (-2), 2) := by decide +kernel
theorem dX0_causes_16 : decode cX0_causes 16 = .ok (.ireturn, 1) := by decide +kernel
theorem dX0_causes_17 : decode cX0_causes 17 = .ok (.aload_n 0, 1) := by decide +kernel
theorem dX0_causes_18 : decode cX0_causes 18 = .ok (.getfield 43, 3) := by decide +kernel
theorem dX0_causes_21 : decode cX0_causes 21 = .ok (.getfield 138, 3) := by decide +kernel
theorem dX0_causes_24 : decode cX0_causes 24 = .ok (.iload_n 1, 1) := by decide +kernel
theorem dX0_causes_25 : decode cX0_causes 25 = .ok (.aaload, 1) := by decide +kernel
theorem dX0_causes_26 : decode cX0_causes 26 = .ok (.astore_n 3, 1) := by decide +kernel
theorem dX0_causes_27 : decode cX0_causes 27 = .ok (.aload_n 3, 1) := by decide +kernel
theorem dX0_causes_28 : decode cX0_causes 28 = .ok (.invokevirtual 159, 3) := by decide +kernel
theorem dX0_causes_31 : decode cX0_causes 31 = .ok (.ifCond .eq 11, 3) := by decide +kernel
theorem dX0_causes_34 : decode cX0_causes 34 = .ok (.aload_n 3, 1) := by decide +kernel
theorem dX0_causes_35 : decode cX0_causes 35 = .ok (.getfield 142, 3) := by decide +kernel
theorem dX0_causes_38 : decode cX0_causes 38 = .ok (.iload_n 2, 1) := by decide +kernel
theorem dX0_causes_39 : decode cX0_causes 39 = .ok (.if_icmp .ne 6, 3) := by decide +kernel
theorem dX0_causes_42 : decode cX0_causes 42 = .ok (.bipush (-4), 2) := by decide +kernel
theorem dX0_causes_44 : decode cX0_causes 44 = .ok (.ireturn, 1) := by decide +kernel
theorem dX0_causes_45 : decode cX0_causes 45 = .ok (.aload_n 0, 1) := by decide +kernel
theorem dX0_causes_46 : decode cX0_causes 46 = .ok (.iload_n 2, 1) := by decide +kernel
theorem dX0_causes_47 : decode cX0_causes 47 = .ok (.invokevirtual 150, 3) := by decide +kernel
theorem dX0_causes_50 : decode cX0_causes 50 = .ok (.istore 4, 2) := by decide +kernel
theorem dX0_causes_52 : decode cX0_causes 52 = .ok (.aload_n 0, 1) := by decide +kernel
theorem dX0_causes_53 : decode cX0_causes 53 = .ok (.iload_n 2, 1) := by decide +kernel
theorem dX0_causes_54 : decode cX0_causes 54 = .ok (.aload_n 3, 1) := by decide +kernel
theorem dX0_causes_55 : decode cX0_causes 55 = .ok (.getfield 142, 3) := by decide +kernel
theorem dX0_causes_58 : decode cX0_causes 58 = .ok (.invokevirtual 298, 3) := by decide +kernel
theorem dX0_causes_61 : decode cX0_causes 61 = .ok (.ifCond .eq 7, 3) := by decide +kernel
theorem dX0_causes_64 : decode cX0_causes 64 = .ok (.iconst 1, 1) := by decide +kernel
theorem dX0_causes_65 : decode cX0_causes 65 = .ok (.goto 4, 3) := by decide +kernel
theorem dX0_causes_68 : decode cX0_causes 68 = .ok (.iconst 0, 1) := by decide +kernel
theorem dX0_causes_69 : decode cX0_causes 69 = .ok (.istore 5, 2) := by decide +kernel
theorem dX0_causes_71 : decode cX0_causes 71 = .ok (.iload 5, 2) := by decide +kernel
theorem dX0_causes_73 : decode cX0_causes 73 = .ok (.aload_n 3, 1) := by decide +kernel
theorem dX0_causes_74 : decode cX0_causes 74 = .ok (.getfield 167, 3) := by decide +kernel
theorem dX0_causes_77 : decode cX0_causes 77 = .ok (.invokevirtual 177, 3) := by decide +kernel
theorem dX0_causes_80 : decode cX0_causes 80 = .ok (.ifCond .eq 18, 3) := by decide +kernel
theorem dX0_causes_83 : decode cX0_causes 83 = .ok (.aload_n 3, 1) := by decide +kernel
theorem dX0_causes_84 : decode cX0_causes 84 = .ok (.getfield 167, 3) := by decide +kernel
theorem dX0_causes_87 : decode cX0_causes 87 = .ok (.getfield 178, 3) := by decide +kernel
theorem dX0_causes_90 : decode cX0_causes 90 = .ok (.iload_n 2, 1) := by decide +kernel
theorem dX0_causes_91 : decode cX0_causes 91 = .ok (.if_icmp .ne 7, 3) := by decide +kernel
theorem dX0_causes_94 : decode cX0_causes 94 = .ok (.iconst 2, 1) := by decide +kernel
theorem dX0_causes_95 : decode cX0_causes 95 = .ok (.goto 4, 3) := by decide +kernel
theorem dX0_causes_98 : decode cX0_causes 98 = .ok (.iconst 0, 1) := by decide +kernel
theorem dX0_causes_99 : decode cX0_causes 99 = .ok (.iadd, 1) := by decide +kernel
theorem dX0_causes_100 : decode cX0_causes 100 = .ok (.istore 5, 2) := by decide +kernel
theorem dX0_causes_102 : decode cX0_causes 102 = .ok (.iload 5, 2) := by decide +kernel
theorem dX0_causes_104 : decode cX0_causes 104 = .ok (.iload 4, 2) := by decide +kernel
theorem dX0_causes_106 : decode cX0_causes 106 = .ok (.iconst (-1), 1) := by decide +kernel
theorem dX0_causes_107 : decode cX0_causes 107 = .ok (.if_icmp .eq 37, 3) := by decide +kernel
theorem dX0_causes_110 : decode cX0_causes 110 = .ok (.iload 4, 2) := by decide +kernel
theorem dX0_causes_112 : decode cX0_causes 112 = .ok (.bipush 6, 2) := by decide +kernel
theorem dX0_causes_114 : decode cX0_causes 114 = .ok (.irem, 1) := by decide +kernel
theorem dX0_causes_115 : decode cX0_causes 115 = .ok (.iload_n 1, 1) := by decide +kernel
theorem dX0_causes_116 : decode cX0_causes 116 = .ok (.bipush 6, 2) := by decide +kernel
theorem dX0_causes_118 : decode cX0_causes 118 = .ok (.irem, 1) := by decide +kernel
theorem dX0_causes_119 : decode cX0_causes 119 = .ok (.if_icmp .ne 25, 3) := by decide +kernel
theorem dX0_causes_122 : decode cX0_causes 122 = .ok (.aload_n 0, 1) := by decide +kernel
theorem dX0_causes_123 : decode cX0_causes 123 = .ok (.getfield 21, 3) := by decide +kernel
theorem dX0_causes_126 : decode cX0_causes 126 = .ok (.iload 4, 2) := by decide +kernel
theorem dX0_causes_128 : decode cX0_causes 128 = .ok (.bipush 6, 2) := by decide +kernel
theorem dX0_causes_130 : decode cX0_causes 130 = .ok (.idiv, 1) := by decide +kernel
theorem dX0_causes_131 : decode cX0_causes 131 = .ok (.aaload, 1) := by decide +kernel
theorem dX0_causes_132 : decode cX0_causes 132 = .ok (.iload_n 1, 1) := by decide +kernel
theorem dX0_causes_133 : decode cX0_causes 133 = .ok (.bipush 6, 2) := by decide +kernel
theorem dX0_causes_135 : decode cX0_causes 135 = .ok (.idiv, 1) := by decide +kernel
theorem dX0_causes_136 : decode cX0_causes 136 = .ok (.baload, 1) := by decide +kernel
theorem dX0_causes_137 : decode cX0_causes 137 = .ok (.ifCond .eq 7, 3) := by decide +kernel
theorem dX0_causes_140 : decode cX0_causes 140 = .ok (.iconst 4, 1) := by decide +kernel
theorem dX0_causes_141 : decode cX0_causes 141 = .ok (.goto 4, 3) := by decide +kernel
theorem dX0_causes_144 : decode cX0_causes 144 = .ok (.iconst 0, 1) := by decide +kernel
theorem dX0_causes_145 : decode cX0_causes 145 = .ok (.iadd, 1) := by decide +kernel
theorem dX0_causes_146 : decode cX0_causes 146 = .ok (.istore 5, 2) := by decide +kernel
theorem dX0_causes_148 : decode cX0_causes 148 = .ok (.iload 5, 2) := by decide +kernel
theorem dX0_causes_150 : decode cX0_causes 150 = .ok (.ireturn, 1) := by decide +kernel
theorem yd_X0_causes : yX0_causes.cls ≠ "java/lang/invoke/MethodHandle" ∧ yX0_causes.cls ≠ "java/lang/invoke/VarHandle" ∧ (parseMethodDescriptor yX0_causes.desc).map (fun d => d.parameters.length) = some 2 := by decide +kernel
abbrev rm_X0_causes : Room := { frames := 3, cells := 0, slots := 0, locals := 64 }
set_option maxHeartbeats 4000000 in
theorem w_X0_causes_99 {p : Program} {l : Launch} {e : Env} {s : State} {m : MethodId} {args : Array Value} {below : List Frame} {meth : Method} {c : Code} {g : Gl} (X : FX g p m c s args meth cX0_causes 6 RX0 (some .int) "causes") {r : Int32 × Hp} {σ : Hp} {x0 : Nat} {x1 : Int32} {x4 : Int32} {y0 : Int32} {y1 : Int32}  {H : Heap} {locs : List Loc} {ls : Array Slot} (h : F_X0_causes_99 σ x0 x1 x4 y0 y1 = some r) (hV : HV g σ H) (hF : FR g locs) (hl : lv_has ls 6 [(0, .ref x0), (1, .int x1), (4, .int x4)]) : W p l e rm_X0_causes s m args below meth c H locs 0 0 (MQ below (Qi g r) args s 0 0 (frN g)) (F0 m 99 ls [.int y0, .int y1]) := by
  unfold F_X0_causes_99 at h
  refine lv_iadd X.1 X.2.1 dX0_causes_99 ?_
  refine lv_istore (lv' := [(5, .int (y1 + y0)), (0, .ref x0), (1, .int x1), (4, .int x4)]) X.1 X.2.1 dX0_causes_100 hl (by decide) rfl (fun ls hl => ?_)
  refine lv_iload X.1 X.2.1 dX0_causes_102 (lv_at hl 0 rfl) ?_
  refine lv_iload X.1 X.2.1 dX0_causes_104 (lv_at hl 3 rfl) ?_
  refine lv_iconst (v := (-1)) X.1 X.2.1 dX0_causes_106 (by decide) ?_
  refine r_eq (tgt := 144) X.1 X.2.1 dX0_causes_107 (by decide) h (fun h => ?_) (fun h => ?_)
  · refine lv_iconst (v := 0) X.1 X.2.1 dX0_causes_144 (by decide) ?_
    refine lv_iadd X.1 X.2.1 dX0_causes_145 ?_
    refine lv_istore (lv' := [(5, .int ((y1 + y0) + 0)), (0, .ref x0), (1, .int x1), (4, .int x4)]) X.1 X.2.1 dX0_causes_146 hl (by decide) rfl (fun ls hl => ?_)
    refine lv_iload X.1 X.2.1 dX0_causes_148 (lv_at hl 0 rfl) ?_
    exact r_iret X hV hF h dX0_causes_150
  · refine lv_iload X.1 X.2.1 dX0_causes_110 (lv_at hl 3 rfl) ?_
    refine lv_bipush (v := 6) X.1 X.2.1 dX0_causes_112 (by decide) ?_
    refine lv_irem X.1 X.2.1 dX0_causes_114 (by decide) ?_
    refine lv_iload_n X.1 X.2.1 dX0_causes_115 rfl (lv_at hl 2 rfl) ?_
    refine lv_bipush (v := 6) X.1 X.2.1 dX0_causes_116 (by decide) ?_
    refine lv_irem X.1 X.2.1 dX0_causes_118 (by decide) ?_
    refine r_ne (tgt := 144) X.1 X.2.1 dX0_causes_119 (by decide) h (fun h => ?_) (fun h => ?_)
    · refine lv_iconst (v := 0) X.1 X.2.1 dX0_causes_144 (by decide) ?_
      refine lv_iadd X.1 X.2.1 dX0_causes_145 ?_
      refine lv_istore (lv' := [(5, .int ((y1 + y0) + 0)), (0, .ref x0), (1, .int x1), (4, .int x4)]) X.1 X.2.1 dX0_causes_146 hl (by decide) rfl (fun ls hl => ?_)
      refine lv_iload X.1 X.2.1 dX0_causes_148 (lv_at hl 0 rfl) ?_
      exact r_iret X hV hF h dX0_causes_150
    · refine lv_aload_n X.1 X.2.1 dX0_causes_122 rfl (lv_at hl 1 rfl) ?_
      refine r_gR X hV fl_X0_21_0 (by decide) dX0_causes_123 h (fun v1 h => ?_)
      refine lv_iload X.1 X.2.1 dX0_causes_126 (lv_at hl 3 rfl) ?_
      refine lv_bipush (v := 6) X.1 X.2.1 dX0_causes_128 (by decide) ?_
      refine lv_idiv X.1 X.2.1 dX0_causes_130 (by decide) ?_
      refine r_aa X hV dX0_causes_131 (by decide) h (fun v2 h => ?_)
      refine lv_iload_n X.1 X.2.1 dX0_causes_132 rfl (lv_at hl 2 rfl) ?_
      refine lv_bipush (v := 6) X.1 X.2.1 dX0_causes_133 (by decide) ?_
      refine lv_idiv X.1 X.2.1 dX0_causes_135 (by decide) ?_
      refine r_za X hV dX0_causes_136 h (fun v3 h => ?_)
      refine r_ifeq (tgt := 144) X.1 X.2.1 dX0_causes_137 (by decide) h (fun h => ?_) (fun h => ?_)
      · refine lv_iconst (v := 0) X.1 X.2.1 dX0_causes_144 (by decide) ?_
        refine lv_iadd X.1 X.2.1 dX0_causes_145 ?_
        refine lv_istore (lv' := [(5, .int ((y1 + y0) + 0)), (0, .ref x0), (1, .int x1), (4, .int x4)]) X.1 X.2.1 dX0_causes_146 hl (by decide) rfl (fun ls hl => ?_)
        refine lv_iload X.1 X.2.1 dX0_causes_148 (lv_at hl 0 rfl) ?_
        exact r_iret X hV hF h dX0_causes_150
      · refine lv_iconst (v := 4) X.1 X.2.1 dX0_causes_140 (by decide) ?_
        refine lv_goto (tgt := 145) X.1 X.2.1 dX0_causes_141 (by decide) ?_
        refine lv_iadd X.1 X.2.1 dX0_causes_145 ?_
        refine lv_istore (lv' := [(5, .int ((y1 + y0) + 4)), (0, .ref x0), (1, .int x1), (4, .int x4)]) X.1 X.2.1 dX0_causes_146 hl (by decide) rfl (fun ls hl => ?_)
        refine lv_iload X.1 X.2.1 dX0_causes_148 (lv_at hl 0 rfl) ?_
        exact r_iret X hV hF h dX0_causes_150
set_option maxHeartbeats 4000000 in
theorem w_X0_causes_98 {p : Program} {l : Launch} {e : Env} {s : State} {m : MethodId} {args : Array Value} {below : List Frame} {meth : Method} {c : Code} {g : Gl} (X : FX g p m c s args meth cX0_causes 6 RX0 (some .int) "causes") {r : Int32 × Hp} {σ : Hp} {x0 : Nat} {x1 : Int32} {x4 : Int32} {y0 : Int32}  {H : Heap} {locs : List Loc} {ls : Array Slot} (h : F_X0_causes_98 σ x0 x1 x4 y0 = some r) (hV : HV g σ H) (hF : FR g locs) (hl : lv_has ls 6 [(0, .ref x0), (1, .int x1), (4, .int x4)]) : W p l e rm_X0_causes s m args below meth c H locs 0 0 (MQ below (Qi g r) args s 0 0 (frN g)) (F0 m 98 ls [.int y0]) := by
  unfold F_X0_causes_98 at h
  refine lv_iconst (v := 0) X.1 X.2.1 dX0_causes_98 (by decide) ?_
  exact w_X0_causes_99 X  h hV hF (lv_sub hl [0, 1, 2] rfl)
set_option maxHeartbeats 4000000 in
theorem w_X0_causes_69 {p : Program} {l : Launch} {e : Env} {s : State} {m : MethodId} {args : Array Value} {below : List Frame} {meth : Method} {c : Code} {g : Gl} (X : FX g p m c s args meth cX0_causes 6 RX0 (some .int) "causes") {r : Int32 × Hp} {σ : Hp} {x0 : Nat} {x1 : Int32} {x2 : Int32} {x3 : Nat} {x4 : Int32} {y0 : Int32}  {H : Heap} {locs : List Loc} {ls : Array Slot} (h : F_X0_causes_69 σ x0 x1 x2 x3 x4 y0 = some r) (hV : HV g σ H) (hF : FR g locs) (hl : lv_has ls 6 [(0, .ref x0), (1, .int x1), (2, .int x2), (3, .ref x3), (4, .int x4)]) : W p l e rm_X0_causes s m args below meth c H locs 0 0 (MQ below (Qi g r) args s 0 0 (frN g)) (F0 m 69 ls [.int y0]) := by
  unfold F_X0_causes_69 at h
  refine lv_istore (lv' := [(5, .int y0), (0, .ref x0), (1, .int x1), (2, .int x2), (3, .ref x3), (4, .int x4)]) X.1 X.2.1 dX0_causes_69 hl (by decide) rfl (fun ls hl => ?_)
  refine lv_iload X.1 X.2.1 dX0_causes_71 (lv_at hl 0 rfl) ?_
  refine lv_aload_n X.1 X.2.1 dX0_causes_73 rfl (lv_at hl 4 rfl) ?_
  refine r_gR X hV fl_X0_167_3 (by decide) dX0_causes_74 h (fun v1 h => ?_)
  obtain ⟨v2, s1, hc, h⟩ := b2_inv h
  refine r_ci (va_runV (C := RX4) (As := []) (rest := [.int y0]) (cfX X) (c_X4_isThere l hc) (cwV 0 X.2.2.2.2.1 (lw_V q418 q419 q420 q53 q421) rfl rfl rfl ⟨rfl, yd_X4_isThere⟩ ⟨Nat.le_of_ble_eq_true rfl, Nat.le_of_ble_eq_true rfl⟩) (preV X hV (F_X4_isThere_g hc) rfl) rfl rfl hl.1 rfl (lv_room (Nat.le_of_ble_eq_true rfl)) dX0_causes_77 ⟨(Nat.le_of_ble_eq_true rfl), (Nat.le_of_ble_eq_true rfl)⟩) hF (fun H locs hV hF => ?_)
  refine r_ifeq (tgt := 98) X.1 X.2.1 dX0_causes_80 (by decide) h (fun h => ?_) (fun h => ?_)
  · exact w_X0_causes_98 X  h hV hF (lv_sub hl [1, 2, 5] rfl)
  · refine lv_aload_n X.1 X.2.1 dX0_causes_83 rfl (lv_at hl 4 rfl) ?_
    refine r_gR X hV fl_X0_167_3 (by decide) dX0_causes_84 h (fun v3 h => ?_)
    refine r_gI X hV fl_X0_178_4 dX0_causes_87 h (fun v4 h => ?_)
    refine lv_iload_n X.1 X.2.1 dX0_causes_90 rfl (lv_at hl 3 rfl) ?_
    refine r_ne (tgt := 98) X.1 X.2.1 dX0_causes_91 (by decide) h (fun h => ?_) (fun h => ?_)
    · exact w_X0_causes_98 X  h hV hF (lv_sub hl [1, 2, 5] rfl)
    · refine lv_iconst (v := 2) X.1 X.2.1 dX0_causes_94 (by decide) ?_
      refine lv_goto (tgt := 99) X.1 X.2.1 dX0_causes_95 (by decide) ?_
      exact w_X0_causes_99 X  h hV hF (lv_sub hl [1, 2, 5] rfl)
set_option maxHeartbeats 4000000 in
theorem c_X0_causes (l : Launch) {g : Gl} {σ : Hp} {x0 : Nat} {x1 : Int32} {x2 : Int32} {r : Int32 × Hp} (h : F_X0_causes σ x0 x1 x2 = some r) : Met l yX0_causes (ws_ yX0_causes cX0_causes 6 (some .int)) rm_X0_causes (va_Pc [.ref x0, .int x1, .int x2] (WV g σ)) (Qi g r) 0 0 (frN g) := by
  refine ct_of (by decide) (Nat.le_of_ble_eq_true rfl) ?_
  intro p e s m below meth c ls X hV hl
  have hF : FR g [] := FR_nil
  unfold F_X0_causes at h
  have hl : lv_has ls 6 [(0, .ref x0), (1, .int x1), (2, .int x2)] := hl
  have X : FX g p m c s _ meth cX0_causes 6 RX0 (some .int) "causes" := X
  obtain ⟨-, h⟩ := gd_inv h
  refine lv_iload_n X.1 X.2.1 dX0_causes_0 rfl (lv_at hl 1 rfl) ?_
  obtain ⟨v1, s1, hc, h⟩ := b2_inv h
  refine r_ci (va_runS (As := [.int x1]) (rest := []) (cfX X) (c_X0_isCorner l hc) (va_cwS 1 X.2.2.2.2.1 (lw_S q381 q382 q49 q383) rfl rfl rfl yd_X0_isCorner ⟨Nat.le_of_ble_eq_true rfl, Nat.le_of_ble_eq_true rfl⟩) (preS X hV) rfl rfl hl.1 rfl (lv_room (Nat.le_of_ble_eq_true rfl)) dX0_causes_1 ⟨(Nat.le_of_ble_eq_true rfl), (Nat.le_of_ble_eq_true rfl)⟩) hF (fun H locs hV hF => ?_)
  refine r_ifeq (tgt := 14) X.1 X.2.1 dX0_causes_4 (by decide) h (fun h => ?_) (fun h => ?_)
  · refine lv_bipush (v := (-2)) X.1 X.2.1 dX0_causes_14 (by decide) ?_
    exact r_iret X hV hF h dX0_causes_16
  · refine lv_iload_n X.1 X.2.1 dX0_causes_7 rfl (lv_at hl 2 rfl) ?_
    obtain ⟨v2, s2, hc, h⟩ := b2_inv h
    refine r_ci (va_runS (As := [.int x2]) (rest := []) (cfX X) (c_X0_isThing l hc) (va_cwS 1 X.2.2.2.2.1 (lw_S q346 q347 q49 q348) rfl rfl rfl yd_X0_isThing ⟨Nat.le_of_ble_eq_true rfl, Nat.le_of_ble_eq_true rfl⟩) (preS X hV) rfl rfl hl.1 rfl (lv_room (Nat.le_of_ble_eq_true rfl)) dX0_causes_8 ⟨(Nat.le_of_ble_eq_true rfl), (Nat.le_of_ble_eq_true rfl)⟩) hF (fun H locs hV hF => ?_)
    refine r_ifne (tgt := 17) X.1 X.2.1 dX0_causes_11 (by decide) h (fun h => ?_) (fun h => ?_)
    · refine lv_aload_n X.1 X.2.1 dX0_causes_17 rfl (lv_at hl 0 rfl) ?_
      refine r_gR X hV fl_X0_43_0 (by decide) dX0_causes_18 h (fun v3 h => ?_)
      refine r_gR X hV fl_X0_138_1 (by decide) dX0_causes_21 h (fun v4 h => ?_)
      refine lv_iload_n X.1 X.2.1 dX0_causes_24 rfl (lv_at hl 1 rfl) ?_
      refine r_aa X hV dX0_causes_25 (by decide) h (fun v5 h => ?_)
      refine lv_astore_n (lv' := [(3, .ref v5), (0, .ref x0), (1, .int x1), (2, .int x2)]) X.1 X.2.1 dX0_causes_26 rfl hl (by decide) rfl (fun ls hl => ?_)
      refine lv_aload_n X.1 X.2.1 dX0_causes_27 rfl (lv_at hl 0 rfl) ?_
      obtain ⟨v6, s3, hc, h⟩ := b2_inv h
      refine r_ci (va_runU (C := RX3) (x := ⟨"PalaceOfRooms$Corner", "isThere", "()Z"⟩) (As := []) (rest := []) (cfX X) (c_X2_isThere_3 l hc) (va_cwU (owner := RX2) 0 X.2.2.2.2.1 (lw_app (lw_in _ [406, 407, 409, 410, 51] (by decide +kernel) (by decide +kernel)) (lw_meth q411)) rfl rfl rfl rfl yd_X2_isThere ⟨Nat.le_of_ble_eq_true rfl, Nat.le_of_ble_eq_true rfl⟩) (preV X hV (F_X2_isThere_3_g hc) rfl) rfl rfl hl.1 rfl (lv_room (Nat.le_of_ble_eq_true rfl)) dX0_causes_28 ⟨(Nat.le_of_ble_eq_true rfl), (Nat.le_of_ble_eq_true rfl)⟩) hF (fun H locs hV hF => ?_)
      refine r_ifeq (tgt := 42) X.1 X.2.1 dX0_causes_31 (by decide) h (fun h => ?_) (fun h => ?_)
      · refine lv_bipush (v := (-4)) X.1 X.2.1 dX0_causes_42 (by decide) ?_
        exact r_iret X hV hF h dX0_causes_44
      · refine lv_aload_n X.1 X.2.1 dX0_causes_34 rfl (lv_at hl 0 rfl) ?_
        refine r_gI X hV fl_X0_142_3 dX0_causes_35 h (fun v7 h => ?_)
        refine lv_iload_n X.1 X.2.1 dX0_causes_38 rfl (lv_at hl 3 rfl) ?_
        refine r_ne (tgt := 45) X.1 X.2.1 dX0_causes_39 (by decide) h (fun h => ?_) (fun h => ?_)
        · refine lv_aload_n X.1 X.2.1 dX0_causes_45 rfl (lv_at hl 1 rfl) ?_
          refine lv_iload_n X.1 X.2.1 dX0_causes_46 rfl (lv_at hl 3 rfl) ?_
          obtain ⟨v8, s4, hc, h⟩ := b2_inv h
          refine r_ci (va_runV (C := RX0) (As := [.int x2]) (rest := []) (cfX X) (c_X0_whereIs l hc) (cwV 1 X.2.2.2.2.1 (lw_V q385 q387 qs2 q49 q388) rfl rfl rfl ⟨rfl, yd_X0_whereIs⟩ ⟨Nat.le_of_ble_eq_true rfl, Nat.le_of_ble_eq_true rfl⟩) (preV X hV (F_X0_whereIs_g hc) rfl) rfl rfl hl.1 rfl (lv_room (Nat.le_of_ble_eq_true rfl)) dX0_causes_47 ⟨(Nat.le_of_ble_eq_true rfl), (Nat.le_of_ble_eq_true rfl)⟩) hF (fun H locs hV hF => ?_)
          refine lv_istore (lv' := [(4, .int v8), (3, .ref v5), (0, .ref x0), (1, .int x1), (2, .int x2)]) X.1 X.2.1 dX0_causes_50 hl (by decide) rfl (fun ls hl => ?_)
          refine lv_aload_n X.1 X.2.1 dX0_causes_52 rfl (lv_at hl 2 rfl) ?_
          refine lv_iload_n X.1 X.2.1 dX0_causes_53 rfl (lv_at hl 4 rfl) ?_
          refine lv_aload_n X.1 X.2.1 dX0_causes_54 rfl (lv_at hl 1 rfl) ?_
          refine r_gI X hV fl_X0_142_3 dX0_causes_55 h (fun v9 h => ?_)
          obtain ⟨v10, s5, hc, h⟩ := b2_inv h
          refine r_ci (va_runV (C := RX0) (As := [.int x2, .int v9]) (rest := []) (cfX X) (c_X0_isLike l hc) (cwV 2 X.2.2.2.2.1 (lw_V q910 q443 qs4 q49 q444) rfl rfl rfl ⟨rfl, yd_X0_isLike⟩ ⟨Nat.le_of_ble_eq_true rfl, Nat.le_of_ble_eq_true rfl⟩) (preV X hV (F_X0_isLike_g hc) rfl) rfl rfl hl.1 rfl (lv_room (Nat.le_of_ble_eq_true rfl)) dX0_causes_58 ⟨(Nat.le_of_ble_eq_true rfl), (Nat.le_of_ble_eq_true rfl)⟩) hF (fun H locs hV hF => ?_)
          refine r_ifeq (tgt := 68) X.1 X.2.1 dX0_causes_61 (by decide) h (fun h => ?_) (fun h => ?_)
          · refine lv_iconst (v := 0) X.1 X.2.1 dX0_causes_68 (by decide) ?_
            exact w_X0_causes_69 X  h hV hF (lv_sub hl [2, 3, 4, 1, 0] rfl)
          · refine lv_iconst (v := 1) X.1 X.2.1 dX0_causes_64 (by decide) ?_
            refine lv_goto (tgt := 69) X.1 X.2.1 dX0_causes_65 (by decide) ?_
            exact w_X0_causes_69 X  h hV hF (lv_sub hl [2, 3, 4, 1, 0] rfl)
        · refine lv_bipush (v := (-4)) X.1 X.2.1 dX0_causes_42 (by decide) ?_
          exact r_iret X hV hF h dX0_causes_44
    · refine lv_bipush (v := (-2)) X.1 X.2.1 dX0_causes_14 (by decide) ?_
      exact r_iret X hV hF h dX0_causes_16
