set_option maxRecDepth 100000
/-! PalaceOfRoomsModel.days -/
theorem dX10_days_0 : decode cX10_days 0 = .ok (.iload_n 1, 1) := by decide +kernel
theorem dX10_days_1 : decode cX10_days 1 = .ok (.iconst 1, 1) := by decide +kernel
theorem dX10_days_2 : decode cX10_days 2 = .ok (.bipush 60, 2) := by decide +kernel
theorem dX10_days_4 : decode cX10_days 4 = .ok (.invokestatic 93, 3) := by decide +kernel
theorem dX10_days_7 : decode cX10_days 7 = .ok (.ifCond .eq 15, 3) := by decide +kernel
theorem dX10_days_10 : decode cX10_days 10 = .ok (.aload_n 0, 1) := by decide +kernel
theorem dX10_days_11 : decode cX10_days 11 = .ok (.getfield 125, 3) := by decide +kernel
theorem dX10_days_14 : decode cX10_days 14 = .ok (.iload_n 1, 1) := by decide +kernel
theorem dX10_days_15 : decode cX10_days 15 = .ok (.iadd, 1) := by decide +kernel
theorem dX10_days_16 : decode cX10_days 16 = .ok (.sipush 400, 3) := by decide +kernel
theorem dX10_days_19 : decode cX10_days 19 = .ok (.if_icmp .le 6, 3) := by decide +kernel
theorem dX10_days_22 : decode cX10_days 22 = .ok (.bipush (-3), 2) := by decide +kernel
theorem dX10_days_24 : decode cX10_days 24 = .ok (.ireturn, 1) := by decide +kernel
theorem dX10_days_25 : decode cX10_days 25 = .ok (.aload_n 0, 1) := by decide +kernel
theorem dX10_days_26 : decode cX10_days 26 = .ok (.invokevirtual 131, 3) := by decide +kernel
theorem dX10_days_29 : decode cX10_days 29 = .ok (.iconst 0, 1) := by decide +kernel
theorem dX10_days_30 : decode cX10_days 30 = .ok (.istore_n 2, 1) := by decide +kernel
theorem dX10_days_31 : decode cX10_days 31 = .ok (.iload_n 2, 1) := by decide +kernel
theorem dX10_days_32 : decode cX10_days 32 = .ok (.iload_n 1, 1) := by decide +kernel
theorem dX10_days_33 : decode cX10_days 33 = .ok (.if_icmp .ge 15, 3) := by decide +kernel
theorem dX10_days_36 : decode cX10_days 36 = .ok (.aload_n 0, 1) := by decide +kernel
theorem dX10_days_37 : decode cX10_days 37 = .ok (.iconst 0, 1) := by decide +kernel
theorem dX10_days_38 : decode cX10_days 38 = .ok (.iconst 0, 1) := by decide +kernel
theorem dX10_days_39 : decode cX10_days 39 = .ok (.invokevirtual 134, 3) := by decide +kernel
theorem dX10_days_42 : decode cX10_days 42 = .ok (.iinc 2 1, 3) := by decide +kernel
theorem dX10_days_45 : decode cX10_days 45 = .ok (.goto (-14), 3) := by decide +kernel
theorem dX10_days_48 : decode cX10_days 48 = .ok (.iconst 0, 1) := by decide +kernel
theorem dX10_days_49 : decode cX10_days 49 = .ok (.istore_n 2, 1) := by decide +kernel
theorem dX10_days_50 : decode cX10_days 50 = .ok (.iload_n 2, 1) := by decide +kernel
theorem dX10_days_51 : decode cX10_days 51 = .ok (.bipush 48, 2) := by decide +kernel
theorem dX10_days_53 : decode cX10_days 53 = .ok (.if_icmp .ge 58, 3) := by decide +kernel
theorem dX10_days_56 : decode cX10_days 56 = .ok (.aload_n 0, 1) := by decide +kernel
theorem dX10_days_57 : decode cX10_days 57 = .ok (.getfield 35, 3) := by decide +kernel
theorem dX10_days_60 : decode cX10_days 60 = .ok (.iload_n 2, 1) := by decide +kernel
theorem dX10_days_61 : decode cX10_days 61 = .ok (.aload_n 0, 1) := by decide +kernel
theorem dX10_days_62 : decode cX10_days 62 = .ok (.getfield 50, 3) := by decide +kernel
theorem dX10_days_65 : decode cX10_days 65 = .ok (.iload_n 2, 1) := by decide +kernel
theorem dX10_days_66 : decode cX10_days 66 = .ok (.iaload, 1) := by decide +kernel
theorem dX10_days_67 : decode cX10_days 67 = .ok (.iastore, 1) := by decide +kernel
theorem dX10_days_68 : decode cX10_days 68 = .ok (.aload_n 0, 1) := by decide +kernel
theorem dX10_days_69 : decode cX10_days 69 = .ok (.getfield 41, 3) := by decide +kernel
theorem dX10_days_72 : decode cX10_days 72 = .ok (.iload_n 2, 1) := by decide +kernel
theorem dX10_days_73 : decode cX10_days 73 = .ok (.aload_n 0, 1) := by decide +kernel
theorem dX10_days_74 : decode cX10_days 74 = .ok (.getfield 53, 3) := by decide +kernel
theorem dX10_days_77 : decode cX10_days 77 = .ok (.iload_n 2, 1) := by decide +kernel
theorem dX10_days_78 : decode cX10_days 78 = .ok (.iaload, 1) := by decide +kernel
theorem dX10_days_79 : decode cX10_days 79 = .ok (.iastore, 1) := by decide +kernel
theorem dX10_days_80 : decode cX10_days 80 = .ok (.aload_n 0, 1) := by decide +kernel
theorem dX10_days_81 : decode cX10_days 81 = .ok (.getfield 38, 3) := by decide +kernel
theorem dX10_days_84 : decode cX10_days 84 = .ok (.iload_n 2, 1) := by decide +kernel
theorem dX10_days_85 : decode cX10_days 85 = .ok (.aload_n 0, 1) := by decide +kernel
theorem dX10_days_86 : decode cX10_days 86 = .ok (.getfield 41, 3) := by decide +kernel
theorem dX10_days_89 : decode cX10_days 89 = .ok (.iload_n 2, 1) := by decide +kernel
theorem dX10_days_90 : decode cX10_days 90 = .ok (.iaload, 1) := by decide +kernel
theorem dX10_days_91 : decode cX10_days 91 = .ok (.ifCond .ne 7, 3) := by decide +kernel
theorem dX10_days_94 : decode cX10_days 94 = .ok (.iconst (-1), 1) := by decide +kernel
theorem dX10_days_95 : decode cX10_days 95 = .ok (.goto 9, 3) := by decide +kernel
theorem dX10_days_98 : decode cX10_days 98 = .ok (.aload_n 0, 1) := by decide +kernel
theorem dX10_days_99 : decode cX10_days 99 = .ok (.getfield 38, 3) := by decide +kernel
theorem dX10_days_102 : decode cX10_days 102 = .ok (.iload_n 2, 1) := by decide +kernel
theorem dX10_days_103 : decode cX10_days 103 = .ok (.iaload, 1) := by decide +kernel
theorem dX10_days_104 : decode cX10_days 104 = .ok (.iastore, 1) := by decide +kernel
theorem dX10_days_105 : decode cX10_days 105 = .ok (.iinc 2 1, 3) := by decide +kernel
theorem dX10_days_108 : decode cX10_days 108 = .ok (.goto (-58), 3) := by decide +kernel
theorem dX10_days_111 : decode cX10_days 111 = .ok (.aload_n 0, 1) := by decide +kernel
theorem dX10_days_112 : decode cX10_days 112 = .ok (.dup, 1) := by decide +kernel
theorem dX10_days_113 : decode cX10_days 113 = .ok (.getfield 125, 3) := by decide +kernel
theorem dX10_days_116 : decode cX10_days 116 = .ok (.iload_n 1, 1) := by decide +kernel
theorem dX10_days_117 : decode cX10_days 117 = .ok (.iadd, 1) := by decide +kernel
theorem dX10_days_118 : decode cX10_days 118 = .ok (.putfield 125, 3) := by decide +kernel
theorem dX10_days_121 : decode cX10_days 121 = .ok (.aload_n 0, 1) := by decide +kernel
theorem dX10_days_122 : decode cX10_days 122 = .ok (.getfield 125, 3) := by decide +kernel
theorem dX10_days_125 : decode cX10_days 125 = .ok (.ireturn, 1) := by decide +kernel
theorem yd_X10_days : yX10_days.cls ≠ "java/lang/invoke/MethodHandle" ∧ yX10_days.cls ≠ "java/lang/invoke/VarHandle" ∧ (parseMethodDescriptor yX10_days.desc).map (fun d => d.parameters.length) = some 1 := by decide +kernel
theorem fp_X10_125_10 : FPk RX10 125 10 0 "I" false := ⟨RX10, TX10, 39, "PalaceOfRoomsModel", tyX10, rfl, by decide, (fun q => by have h1 := q.1; have h2 := q.2; omega), rfl, in_X10, tyX10_ok, (fun a ha b hb h => Or.inl (nmX10 a ha b hb h)), rfl, (fun q => by cases q), (Or.inl q979), Or.inl rfl⟩
abbrev rm_X10_days : Room := { frames := 3, cells := 0, slots := 0, locals := 73 }
set_option maxHeartbeats 4000000 in
theorem w_X10_days_111 {p : Program} {l : Launch} {e : Env} {s : State} {m : MethodId} {args : Array Value} {below : List Frame} {meth : Method} {c : Code} {g : Gl} (X : FX g p m c s args meth cX10_days 3 RX10 (some .int) "days") {r : Int32 × Hp} {σ : Hp} {x0 : Nat} {x1 : Int32}  {H : Heap} {locs : List Loc} {ls : Array Slot} (h : F_X10_days_111 σ x0 x1 = some r) (hV : HV g σ H) (hF : FR g locs) (hl : lv_has ls 3 [(0, .ref x0), (1, .int x1)]) : W p l e rm_X10_days s m args below meth c H locs 0 0 (MQ below (Qi g r) args s 0 0 (frN g)) (F0 m 111 ls []) := by
  unfold F_X10_days_111 at h
  refine lv_aload_n X.1 X.2.1 dX10_days_111 rfl (lv_at hl 0 rfl) ?_
  refine lv_dup X.1 X.2.1 dX10_days_112 rfl ?_
  refine r_gI X hV fl_X10_125_10 dX10_days_113 h (fun v1 h => ?_)
  refine lv_iload_n X.1 X.2.1 dX10_days_116 rfl (lv_at hl 1 rfl) ?_
  refine lv_iadd X.1 X.2.1 dX10_days_117 ?_
  refine r_pI X hV hF fp_X10_125_10 (fun q => by cases q) dX10_days_118 h (fun s1 H locs hV hF h => ?_)
  refine lv_aload_n X.1 X.2.1 dX10_days_121 rfl (lv_at hl 0 rfl) ?_
  refine r_gI X hV fl_X10_125_10 dX10_days_122 h (fun v2 h => ?_)
  exact r_iret X hV hF h dX10_days_125
set_option maxHeartbeats 4000000 in
theorem w_X10_days_50_b {p : Program} {l : Launch} {e : Env} {s : State} {m : MethodId} {args : Array Value} {below : List Frame} {meth : Method} {c : Code} {g : Gl} (X : FX g p m c s args meth cX10_days 3 RX10 (some .int) "days") {r : Int32 × Hp} {rec50 : Hp × Int32 → Option (Int32 × Hp)} {x0 : Nat} {x1 : Int32} {σ : Hp} {x2 : Int32} (hr50 : ∀ (st : Hp × Int32), rec50 st = some r → ∀ (H : Heap) (locs : List Loc) (ls : Array Slot), HV g st.1 H → FR g locs → lv_has ls 3 [(0, .ref x0), (1, .int x1), (2, .int st.2)] → W p l e rm_X10_days s m args below meth c H locs 0 0 (MQ below (Qi g r) args s 0 0 (frN g)) (F0 m 50 ls [])) {H : Heap} {locs : List Loc} {ls : Array Slot} (h : B_X10_days_50 x0 x1 rec50 σ x2 = some r) (hV : HV g σ H) (hF : FR g locs) (hl : lv_has ls 3 [(0, .ref x0), (1, .int x1), (2, .int x2)]) : W p l e rm_X10_days s m args below meth c H locs 0 0 (MQ below (Qi g r) args s 0 0 (frN g)) (F0 m 50 ls []) := by
  unfold B_X10_days_50 at h
  refine lv_iload_n X.1 X.2.1 dX10_days_50 rfl (lv_at hl 2 rfl) ?_
  refine lv_bipush (v := 48) X.1 X.2.1 dX10_days_51 (by decide) ?_
  refine r_ge (tgt := 111) X.1 X.2.1 dX10_days_53 (by decide) h (fun h => ?_) (fun h => ?_)
  · exact w_X10_days_111 X  h hV hF (lv_sub hl [0, 1] rfl)
  · refine lv_aload_n X.1 X.2.1 dX10_days_56 rfl (lv_at hl 0 rfl) ?_
    refine r_gR X hV fl_X10_35_10 (by decide) dX10_days_57 h (fun v1 h => ?_)
    refine lv_iload_n X.1 X.2.1 dX10_days_60 rfl (lv_at hl 2 rfl) ?_
    refine lv_aload_n X.1 X.2.1 dX10_days_61 rfl (lv_at hl 0 rfl) ?_
    refine r_gR X hV fl_X10_50_10 (by decide) dX10_days_62 h (fun v2 h => ?_)
    refine lv_iload_n X.1 X.2.1 dX10_days_65 rfl (lv_at hl 2 rfl) ?_
    refine r_ia X hV dX10_days_66 h (fun v3 h => ?_)
    refine r_is X hV hF dX10_days_67 h (fun s1 H locs hV hF h => ?_)
    refine lv_aload_n X.1 X.2.1 dX10_days_68 rfl (lv_at hl 0 rfl) ?_
    refine r_gR X hV fl_X10_41_10 (by decide) dX10_days_69 h (fun v4 h => ?_)
    refine lv_iload_n X.1 X.2.1 dX10_days_72 rfl (lv_at hl 2 rfl) ?_
    refine lv_aload_n X.1 X.2.1 dX10_days_73 rfl (lv_at hl 0 rfl) ?_
    refine r_gR X hV fl_X10_53_10 (by decide) dX10_days_74 h (fun v5 h => ?_)
    refine lv_iload_n X.1 X.2.1 dX10_days_77 rfl (lv_at hl 2 rfl) ?_
    refine r_ia X hV dX10_days_78 h (fun v6 h => ?_)
    refine r_is X hV hF dX10_days_79 h (fun s2 H locs hV hF h => ?_)
    refine lv_aload_n X.1 X.2.1 dX10_days_80 rfl (lv_at hl 0 rfl) ?_
    refine r_gR X hV fl_X10_38_10 (by decide) dX10_days_81 h (fun v7 h => ?_)
    refine lv_iload_n X.1 X.2.1 dX10_days_84 rfl (lv_at hl 2 rfl) ?_
    refine lv_aload_n X.1 X.2.1 dX10_days_85 rfl (lv_at hl 0 rfl) ?_
    refine r_gR X hV fl_X10_41_10 (by decide) dX10_days_86 h (fun v8 h => ?_)
    refine lv_iload_n X.1 X.2.1 dX10_days_89 rfl (lv_at hl 2 rfl) ?_
    refine r_ia X hV dX10_days_90 h (fun v9 h => ?_)
    refine r_ifne (tgt := 98) X.1 X.2.1 dX10_days_91 (by decide) h (fun h => ?_) (fun h => ?_)
    · refine lv_aload_n X.1 X.2.1 dX10_days_98 rfl (lv_at hl 0 rfl) ?_
      refine r_gR X hV fl_X10_38_10 (by decide) dX10_days_99 h (fun v10 h => ?_)
      refine lv_iload_n X.1 X.2.1 dX10_days_102 rfl (lv_at hl 2 rfl) ?_
      refine r_ia X hV dX10_days_103 h (fun v11 h => ?_)
      refine r_is X hV hF dX10_days_104 h (fun s3 H locs hV hF h => ?_)
      refine lv_iinc (v := x2 + 1) (lv' := [(2, .int (x2 + 1)), (0, .ref x0), (1, .int x1)]) X.1 X.2.1 dX10_days_105 hl (k := 2) rfl rfl (by decide) rfl (fun ls hl => ?_)
      refine lv_goto (tgt := 50) X.1 X.2.1 dX10_days_108 (by decide) ?_
      exact hr50 (s3, x2 + 1) h _ _ _ hV hF (lv_sub hl [1, 2, 0] rfl)
    · refine lv_iconst (v := (-1)) X.1 X.2.1 dX10_days_94 (by decide) ?_
      refine lv_goto (tgt := 104) X.1 X.2.1 dX10_days_95 (by decide) ?_
      refine r_is X hV hF dX10_days_104 h (fun s4 H locs hV hF h => ?_)
      refine lv_iinc (v := x2 + 1) (lv' := [(2, .int (x2 + 1)), (0, .ref x0), (1, .int x1)]) X.1 X.2.1 dX10_days_105 hl (k := 2) rfl rfl (by decide) rfl (fun ls hl => ?_)
      refine lv_goto (tgt := 50) X.1 X.2.1 dX10_days_108 (by decide) ?_
      exact hr50 (s4, x2 + 1) h _ _ _ hV hF (lv_sub hl [1, 2, 0] rfl)
set_option maxHeartbeats 4000000 in
theorem w_X10_days_50 {p : Program} {l : Launch} {e : Env} {s : State} {m : MethodId} {args : Array Value} {below : List Frame} {meth : Method} {c : Code} {g : Gl} (X : FX g p m c s args meth cX10_days 3 RX10 (some .int) "days") {r : Int32 × Hp} {x0 : Nat} {x1 : Int32}  : ∀ (n : Nat) (st : Hp × Int32), L_X10_days_50 x0 x1 n st = some r → ∀ (H : Heap) (locs : List Loc) (ls : Array Slot), HV g st.1 H → FR g locs → lv_has ls 3 [(0, .ref x0), (1, .int x1), (2, .int st.2)] → W p l e rm_X10_days s m args below meth c H locs 0 0 (MQ below (Qi g r) args s 0 0 (frN g)) (F0 m 50 ls []) := by
  intro n
  induction n with
  | zero =>
    intro st h
    rw [L_X10_days_50_0] at h
    cases h
  | succ n ih =>
    intro st h H locs ls hV hF hl
    rw [L_X10_days_50_s] at h
    exact w_X10_days_50_b X  ih h hV hF hl
set_option maxHeartbeats 4000000 in
theorem w_X10_days_31_b {p : Program} {l : Launch} {e : Env} {s : State} {m : MethodId} {args : Array Value} {below : List Frame} {meth : Method} {c : Code} {g : Gl} (X : FX g p m c s args meth cX10_days 3 RX10 (some .int) "days") {r : Int32 × Hp} {rec31 : Hp × Int32 → Option (Int32 × Hp)} {x0 : Nat} {x1 : Int32} {σ : Hp} {x2 : Int32} (hr31 : ∀ (st : Hp × Int32), rec31 st = some r → ∀ (H : Heap) (locs : List Loc) (ls : Array Slot), HV g st.1 H → FR g locs → lv_has ls 3 [(0, .ref x0), (1, .int x1), (2, .int st.2)] → W p l e rm_X10_days s m args below meth c H locs 0 0 (MQ below (Qi g r) args s 0 0 (frN g)) (F0 m 31 ls [])) {H : Heap} {locs : List Loc} {ls : Array Slot} (h : B_X10_days_31 x0 x1 rec31 σ x2 = some r) (hV : HV g σ H) (hF : FR g locs) (hl : lv_has ls 3 [(0, .ref x0), (1, .int x1), (2, .int x2)]) : W p l e rm_X10_days s m args below meth c H locs 0 0 (MQ below (Qi g r) args s 0 0 (frN g)) (F0 m 31 ls []) := by
  unfold B_X10_days_31 at h
  refine lv_iload_n X.1 X.2.1 dX10_days_31 rfl (lv_at hl 2 rfl) ?_
  refine lv_iload_n X.1 X.2.1 dX10_days_32 rfl (lv_at hl 1 rfl) ?_
  refine r_ge (tgt := 48) X.1 X.2.1 dX10_days_33 (by decide) h (fun h => ?_) (fun h => ?_)
  · refine lv_iconst (v := 0) X.1 X.2.1 dX10_days_48 (by decide) ?_
    refine lv_istore_n (lv' := [(2, .int 0), (0, .ref x0), (1, .int x1)]) X.1 X.2.1 dX10_days_49 rfl hl (by decide) rfl (fun ls hl => ?_)
    exact w_X10_days_50 X  FU (σ, 0) h _ _ _ hV hF (lv_sub hl [1, 2, 0] rfl)
  · refine lv_aload_n X.1 X.2.1 dX10_days_36 rfl (lv_at hl 0 rfl) ?_
    refine lv_iconst (v := 0) X.1 X.2.1 dX10_days_37 (by decide) ?_
    refine lv_iconst (v := 0) X.1 X.2.1 dX10_days_38 (by decide) ?_
    obtain ⟨s1, hc, h⟩ := b1_inv h
    refine r_cv (va_runV (C := RX10) (As := [.int 0, .int 0]) (rest := []) (cfX X) (c_X10_goDay l hc) (cwV 2 X.2.2.2.2.1 (lw_V q1173 q1175 qs27 q59 q1176) rfl rfl rfl ⟨rfl, yd_X10_goDay⟩ ⟨Nat.le_of_ble_eq_true rfl, Nat.le_of_ble_eq_true rfl⟩) (preV X hV (F_X10_goDay_g hc) rfl) rfl rfl hl.1 rfl (lv_room (Nat.le_of_ble_eq_true rfl)) dX10_days_39 ⟨(Nat.le_of_ble_eq_true rfl), (Nat.le_of_ble_eq_true rfl)⟩) hF (fun H locs hV hF => ?_)
    refine lv_iinc (v := x2 + 1) (lv' := [(2, .int (x2 + 1)), (0, .ref x0), (1, .int x1)]) X.1 X.2.1 dX10_days_42 hl (k := 2) rfl rfl (by decide) rfl (fun ls hl => ?_)
    refine lv_goto (tgt := 31) X.1 X.2.1 dX10_days_45 (by decide) ?_
    exact hr31 (s1, x2 + 1) h _ _ _ hV hF (lv_sub hl [1, 2, 0] rfl)
set_option maxHeartbeats 4000000 in
theorem w_X10_days_31 {p : Program} {l : Launch} {e : Env} {s : State} {m : MethodId} {args : Array Value} {below : List Frame} {meth : Method} {c : Code} {g : Gl} (X : FX g p m c s args meth cX10_days 3 RX10 (some .int) "days") {r : Int32 × Hp} {x0 : Nat} {x1 : Int32}  : ∀ (n : Nat) (st : Hp × Int32), L_X10_days_31 x0 x1 n st = some r → ∀ (H : Heap) (locs : List Loc) (ls : Array Slot), HV g st.1 H → FR g locs → lv_has ls 3 [(0, .ref x0), (1, .int x1), (2, .int st.2)] → W p l e rm_X10_days s m args below meth c H locs 0 0 (MQ below (Qi g r) args s 0 0 (frN g)) (F0 m 31 ls []) := by
  intro n
  induction n with
  | zero =>
    intro st h
    rw [L_X10_days_31_0] at h
    cases h
  | succ n ih =>
    intro st h H locs ls hV hF hl
    rw [L_X10_days_31_s] at h
    exact w_X10_days_31_b X  ih h hV hF hl
set_option maxHeartbeats 4000000 in
theorem c_X10_days (l : Launch) {g : Gl} {σ : Hp} {x0 : Nat} {x1 : Int32} {r : Int32 × Hp} (h : F_X10_days σ x0 x1 = some r) : Met l yX10_days (ws_ yX10_days cX10_days 3 (some .int)) rm_X10_days (va_Pc [.ref x0, .int x1] (WV g σ)) (Qi g r) 0 0 (frN g) := by
  refine ct_of (by decide) (Nat.le_of_ble_eq_true rfl) ?_
  intro p e s m below meth c ls X hV hl
  have hF : FR g [] := FR_nil
  unfold F_X10_days at h
  have hl : lv_has ls 3 [(0, .ref x0), (1, .int x1)] := hl
  have X : FX g p m c s _ meth cX10_days 3 RX10 (some .int) "days" := X
  obtain ⟨-, h⟩ := gd_inv h
  refine lv_iload_n X.1 X.2.1 dX10_days_0 rfl (lv_at hl 1 rfl) ?_
  refine lv_iconst (v := 1) X.1 X.2.1 dX10_days_1 (by decide) ?_
  refine lv_bipush (v := 60) X.1 X.2.1 dX10_days_2 (by decide) ?_
  obtain ⟨v1, s1, hc, h⟩ := b2_inv h
  refine r_ci (va_runS (As := [.int x1, .int 1, .int 60]) (rest := []) (cfX X) (c_X10_in l hc) (va_cwS 3 X.2.2.2.2.1 (lw_S q1104 q1105 q59 q1106) rfl rfl rfl yd_X10_in ⟨Nat.le_of_ble_eq_true rfl, Nat.le_of_ble_eq_true rfl⟩) (preS X hV) rfl rfl hl.1 rfl (lv_room (Nat.le_of_ble_eq_true rfl)) dX10_days_4 ⟨(Nat.le_of_ble_eq_true rfl), (Nat.le_of_ble_eq_true rfl)⟩) hF (fun H locs hV hF => ?_)
  refine r_ifeq (tgt := 22) X.1 X.2.1 dX10_days_7 (by decide) h (fun h => ?_) (fun h => ?_)
  · refine lv_bipush (v := (-3)) X.1 X.2.1 dX10_days_22 (by decide) ?_
    exact r_iret X hV hF h dX10_days_24
  · refine lv_aload_n X.1 X.2.1 dX10_days_10 rfl (lv_at hl 0 rfl) ?_
    refine r_gI X hV fl_X10_125_10 dX10_days_11 h (fun v2 h => ?_)
    refine lv_iload_n X.1 X.2.1 dX10_days_14 rfl (lv_at hl 1 rfl) ?_
    refine lv_iadd X.1 X.2.1 dX10_days_15 ?_
    refine lv_sipush (v := 400) X.1 X.2.1 dX10_days_16 (by decide) ?_
    refine r_le (tgt := 25) X.1 X.2.1 dX10_days_19 (by decide) h (fun h => ?_) (fun h => ?_)
    · refine lv_aload_n X.1 X.2.1 dX10_days_25 rfl (lv_at hl 0 rfl) ?_
      obtain ⟨s2, hc, h⟩ := b1_inv h
      refine r_cv (va_runV (C := RX10) (As := []) (rest := []) (cfX X) (c_X10_lookAhead l hc) (cwV 0 X.2.2.2.2.1 (lw_V q1169 q1171 qs26 q59 q1172) rfl rfl rfl ⟨rfl, yd_X10_lookAhead⟩ ⟨Nat.le_of_ble_eq_true rfl, Nat.le_of_ble_eq_true rfl⟩) (preV X hV (F_X10_lookAhead_g hc) rfl) rfl rfl hl.1 rfl (lv_room (Nat.le_of_ble_eq_true rfl)) dX10_days_26 ⟨(Nat.le_of_ble_eq_true rfl), (Nat.le_of_ble_eq_true rfl)⟩) hF (fun H locs hV hF => ?_)
      refine lv_iconst (v := 0) X.1 X.2.1 dX10_days_29 (by decide) ?_
      refine lv_istore_n (lv' := [(2, .int 0), (0, .ref x0), (1, .int x1)]) X.1 X.2.1 dX10_days_30 rfl hl (by decide) rfl (fun ls hl => ?_)
      exact w_X10_days_31 X  FU (s2, 0) h _ _ _ hV hF (lv_sub hl [1, 2, 0] rfl)
    · refine lv_bipush (v := (-3)) X.1 X.2.1 dX10_days_22 (by decide) ?_
      exact r_iret X hV hF h dX10_days_24
/-! PalaceOfRoomsModel.goWalk -/
theorem dX10_goWalk_0 : decode cX10_goWalk 0 = .ok (.iconst 0, 1) := by decide +kernel
theorem dX10_goWalk_1 : decode cX10_goWalk 1 = .ok (.istore_n 3, 1) := by decide +kernel
theorem dX10_goWalk_2 : decode cX10_goWalk 2 = .ok (.bipush 6, 2) := by decide +kernel
theorem dX10_goWalk_4 : decode cX10_goWalk 4 = .ok (.iload_n 1, 1) := by decide +kernel
theorem dX10_goWalk_5 : decode cX10_goWalk 5 = .ok (.imul, 1) := by decide +kernel
theorem dX10_goWalk_6 : decode cX10_goWalk 6 = .ok (.istore 4, 2) := by decide +kernel
theorem dX10_goWalk_8 : decode cX10_goWalk 8 = .ok (.iload 4, 2) := by decide +kernel
theorem dX10_goWalk_10 : decode cX10_goWalk 10 = .ok (.bipush 6, 2) := by decide +kernel
theorem dX10_goWalk_12 : decode cX10_goWalk 12 = .ok (.iload_n 1, 1) := by decide +kernel
theorem dX10_goWalk_13 : decode cX10_goWalk 13 = .ok (.imul, 1) := by decide +kernel
theorem dX10_goWalk_14 : decode cX10_goWalk 14 = .ok (.bipush 6, 2) := by decide +kernel
theorem dX10_goWalk_16 : decode cX10_goWalk 16 = .ok (.iadd, 1) := by decide +kernel
theorem dX10_goWalk_17 : decode cX10_goWalk 17 = .ok (.if_icmp .ge 65, 3) := by decide +kernel
theorem dX10_goWalk_20 : decode cX10_goWalk 20 = .ok (.aload_n 0, 1) := by decide +kernel
theorem dX10_goWalk_21 : decode cX10_goWalk 21 = .ok (.getfield 32, 3) := by decide +kernel
theorem dX10_goWalk_24 : decode cX10_goWalk 24 = .ok (.iload 4, 2) := by decide +kernel
theorem dX10_goWalk_26 : decode cX10_goWalk 26 = .ok (.iaload, 1) := by decide +kernel
theorem dX10_goWalk_27 : decode cX10_goWalk 27 = .ok (.iconst (-1), 1) := by decide +kernel
theorem dX10_goWalk_28 : decode cX10_goWalk 28 = .ok (.if_icmp .ne 7, 3) := by decide +kernel
theorem dX10_goWalk_31 : decode cX10_goWalk 31 = .ok (.iconst 0, 1) := by decide +kernel
theorem dX10_goWalk_32 : decode cX10_goWalk 32 = .ok (.goto 23, 3) := by decide +kernel
theorem dX10_goWalk_35 : decode cX10_goWalk 35 = .ok (.bipush 100, 2) := by decide +kernel
theorem dX10_goWalk_37 : decode cX10_goWalk 37 = .ok (.aload_n 0, 1) := by decide +kernel
theorem dX10_goWalk_38 : decode cX10_goWalk 38 = .ok (.getfield 50, 3) := by decide +kernel
theorem dX10_goWalk_41 : decode cX10_goWalk 41 = .ok (.iload_n 2, 1) := by decide +kernel
theorem dX10_goWalk_42 : decode cX10_goWalk 42 = .ok (.iload 4, 2) := by decide +kernel
theorem dX10_goWalk_44 : decode cX10_goWalk 44 = .ok (.iadd, 1) := by decide +kernel
theorem dX10_goWalk_45 : decode cX10_goWalk 45 = .ok (.iaload, 1) := by decide +kernel
theorem dX10_goWalk_46 : decode cX10_goWalk 46 = .ok (.isub, 1) := by decide +kernel
theorem dX10_goWalk_47 : decode cX10_goWalk 47 = .ok (.aload_n 0, 1) := by decide +kernel
theorem dX10_goWalk_48 : decode cX10_goWalk 48 = .ok (.getfield 26, 3) := by decide +kernel
theorem dX10_goWalk_51 : decode cX10_goWalk 51 = .ok (.imul, 1) := by decide +kernel
theorem dX10_goWalk_52 : decode cX10_goWalk 52 = .ok (.bipush 100, 2) := by decide +kernel
theorem dX10_goWalk_54 : decode cX10_goWalk 54 = .ok (.idiv, 1) := by decide +kernel
theorem dX10_goWalk_55 : decode cX10_goWalk 55 = .ok (.istore 5, 2) := by decide +kernel
theorem dX10_goWalk_57 : decode cX10_goWalk 57 = .ok (.aload_n 0, 1) := by decide +kernel
theorem dX10_goWalk_58 : decode cX10_goWalk 58 = .ok (.getfield 50, 3) := by decide +kernel
theorem dX10_goWalk_61 : decode cX10_goWalk 61 = .ok (.iload_n 2, 1) := by decide +kernel
theorem dX10_goWalk_62 : decode cX10_goWalk 62 = .ok (.iload 4, 2) := by decide +kernel
theorem dX10_goWalk_64 : decode cX10_goWalk 64 = .ok (.iadd, 1) := by decide +kernel
theorem dX10_goWalk_65 : decode cX10_goWalk 65 = .ok (.dup2, 1) := by decide +kernel
theorem dX10_goWalk_66 : decode cX10_goWalk 66 = .ok (.iaload, 1) := by decide +kernel
theorem dX10_goWalk_67 : decode cX10_goWalk 67 = .ok (.iload 5, 2) := by decide +kernel
theorem dX10_goWalk_69 : decode cX10_goWalk 69 = .ok (.iadd, 1) := by decide +kernel
theorem dX10_goWalk_70 : decode cX10_goWalk 70 = .ok (.iastore, 1) := by decide +kernel
theorem dX10_goWalk_71 : decode cX10_goWalk 71 = .ok (.iload_n 3, 1) := by decide +kernel
theorem dX10_goWalk_72 : decode cX10_goWalk 72 = .ok (.iload 5, 2) := by decide +kernel
theorem dX10_goWalk_74 : decode cX10_goWalk 74 = .ok (.iadd, 1) := by decide +kernel
theorem dX10_goWalk_75 : decode cX10_goWalk 75 = .ok (.istore_n 3, 1) := by decide +kernel
theorem dX10_goWalk_76 : decode cX10_goWalk 76 = .ok (.iinc 4 1, 3) := by decide +kernel
theorem dX10_goWalk_79 : decode cX10_goWalk 79 = .ok (.goto (-71), 3) := by decide +kernel
theorem dX10_goWalk_82 : decode cX10_goWalk 82 = .ok (.iload_n 3, 1) := by decide +kernel
theorem dX10_goWalk_83 : decode cX10_goWalk 83 = .ok (.ireturn, 1) := by decide +kernel
theorem yd_X10_goWalk : yX10_goWalk.cls ≠ "java/lang/invoke/MethodHandle" ∧ yX10_goWalk.cls ≠ "java/lang/invoke/VarHandle" ∧ (parseMethodDescriptor yX10_goWalk.desc).map (fun d => d.parameters.length) = some 2 := by decide +kernel
abbrev rm_X10_goWalk : Room := { frames := 0, cells := 0, slots := 0, locals := 0 }
set_option maxHeartbeats 4000000 in
theorem w_X10_goWalk_55 {p : Program} {l : Launch} {e : Env} {s : State} {m : MethodId} {args : Array Value} {below : List Frame} {meth : Method} {c : Code} {g : Gl} (X : FX g p m c s args meth cX10_goWalk 6 RX10 (some .int) "goWalk") {r : Int32 × Hp} {rec8 : Hp × Int32 × Int32 → Option (Int32 × Hp)} {σ : Hp} {x0 : Nat} {x1 : Int32} {x2 : Int32} {x3 : Int32} {x4 : Int32} {y0 : Int32} (hr8 : ∀ (st : Hp × Int32 × Int32), rec8 st = some r → ∀ (H : Heap) (locs : List Loc) (ls : Array Slot), HV g st.1 H → FR g locs → lv_has ls 6 [(0, .ref x0), (1, .int x1), (2, .int x2), (3, .int st.2.1), (4, .int st.2.2)] → W p l e rm_X10_goWalk s m args below meth c H locs 0 0 (MQ below (Qi g r) args s 0 0 (frN g)) (F0 m 8 ls [])) {H : Heap} {locs : List Loc} {ls : Array Slot} (h : F_X10_goWalk_55 rec8 σ x0 x1 x2 x3 x4 y0 = some r) (hV : HV g σ H) (hF : FR g locs) (hl : lv_has ls 6 [(0, .ref x0), (1, .int x1), (2, .int x2), (3, .int x3), (4, .int x4)]) : W p l e rm_X10_goWalk s m args below meth c H locs 0 0 (MQ below (Qi g r) args s 0 0 (frN g)) (F0 m 55 ls [.int y0]) := by
  unfold F_X10_goWalk_55 at h
  refine lv_istore (lv' := [(5, .int y0), (0, .ref x0), (1, .int x1), (2, .int x2), (3, .int x3), (4, .int x4)]) X.1 X.2.1 dX10_goWalk_55 hl (by decide) rfl (fun ls hl => ?_)
  refine lv_aload_n X.1 X.2.1 dX10_goWalk_57 rfl (lv_at hl 1 rfl) ?_
  refine r_gR X hV fl_X10_50_10 (by decide) dX10_goWalk_58 h (fun v1 h => ?_)
  refine lv_iload_n X.1 X.2.1 dX10_goWalk_61 rfl (lv_at hl 3 rfl) ?_
  refine lv_iload X.1 X.2.1 dX10_goWalk_62 (lv_at hl 5 rfl) ?_
  refine lv_iadd X.1 X.2.1 dX10_goWalk_64 ?_
  refine lv_dup2_11 X.1 X.2.1 dX10_goWalk_65 rfl rfl ?_
  refine r_ia X hV dX10_goWalk_66 h (fun v2 h => ?_)
  refine lv_iload X.1 X.2.1 dX10_goWalk_67 (lv_at hl 0 rfl) ?_
  refine lv_iadd X.1 X.2.1 dX10_goWalk_69 ?_
  refine r_is X hV hF dX10_goWalk_70 h (fun s1 H locs hV hF h => ?_)
  refine lv_iload_n X.1 X.2.1 dX10_goWalk_71 rfl (lv_at hl 4 rfl) ?_
  refine lv_iload X.1 X.2.1 dX10_goWalk_72 (lv_at hl 0 rfl) ?_
  refine lv_iadd X.1 X.2.1 dX10_goWalk_74 ?_
  refine lv_istore_n (lv' := [(3, .int (x3 + y0)), (5, .int y0), (0, .ref x0), (1, .int x1), (2, .int x2), (4, .int x4)]) X.1 X.2.1 dX10_goWalk_75 rfl hl (by decide) rfl (fun ls hl => ?_)
  refine lv_iinc (v := x4 + 1) (lv' := [(4, .int (x4 + 1)), (3, .int (x3 + y0)), (5, .int y0), (0, .ref x0), (1, .int x1), (2, .int x2)]) X.1 X.2.1 dX10_goWalk_76 hl (k := 5) rfl rfl (by decide) rfl (fun ls hl => ?_)
  refine lv_goto (tgt := 8) X.1 X.2.1 dX10_goWalk_79 (by decide) ?_
  exact hr8 (s1, x3 + y0, x4 + 1) h _ _ _ hV hF (lv_sub hl [3, 4, 5, 1, 0] rfl)
set_option maxHeartbeats 4000000 in
theorem w_X10_goWalk_8_b {p : Program} {l : Launch} {e : Env} {s : State} {m : MethodId} {args : Array Value} {below : List Frame} {meth : Method} {c : Code} {g : Gl} (X : FX g p m c s args meth cX10_goWalk 6 RX10 (some .int) "goWalk") {r : Int32 × Hp} {rec8 : Hp × Int32 × Int32 → Option (Int32 × Hp)} {x0 : Nat} {x1 : Int32} {x2 : Int32} {σ : Hp} {x3 : Int32} {x4 : Int32} (hr8 : ∀ (st : Hp × Int32 × Int32), rec8 st = some r → ∀ (H : Heap) (locs : List Loc) (ls : Array Slot), HV g st.1 H → FR g locs → lv_has ls 6 [(0, .ref x0), (1, .int x1), (2, .int x2), (3, .int st.2.1), (4, .int st.2.2)] → W p l e rm_X10_goWalk s m args below meth c H locs 0 0 (MQ below (Qi g r) args s 0 0 (frN g)) (F0 m 8 ls [])) {H : Heap} {locs : List Loc} {ls : Array Slot} (h : B_X10_goWalk_8 x0 x1 x2 rec8 σ x3 x4 = some r) (hV : HV g σ H) (hF : FR g locs) (hl : lv_has ls 6 [(0, .ref x0), (1, .int x1), (2, .int x2), (3, .int x3), (4, .int x4)]) : W p l e rm_X10_goWalk s m args below meth c H locs 0 0 (MQ below (Qi g r) args s 0 0 (frN g)) (F0 m 8 ls []) := by
  unfold B_X10_goWalk_8 at h
  refine lv_iload X.1 X.2.1 dX10_goWalk_8 (lv_at hl 4 rfl) ?_
  refine lv_bipush (v := 6) X.1 X.2.1 dX10_goWalk_10 (by decide) ?_
  refine lv_iload_n X.1 X.2.1 dX10_goWalk_12 rfl (lv_at hl 1 rfl) ?_
  refine lv_imul X.1 X.2.1 dX10_goWalk_13 ?_
  refine lv_bipush (v := 6) X.1 X.2.1 dX10_goWalk_14 (by decide) ?_
  refine lv_iadd X.1 X.2.1 dX10_goWalk_16 ?_
  refine r_ge (tgt := 82) X.1 X.2.1 dX10_goWalk_17 (by decide) h (fun h => ?_) (fun h => ?_)
  · refine lv_iload_n X.1 X.2.1 dX10_goWalk_82 rfl (lv_at hl 3 rfl) ?_
    exact r_iret X hV hF h dX10_goWalk_83
  · refine lv_aload_n X.1 X.2.1 dX10_goWalk_20 rfl (lv_at hl 0 rfl) ?_
    refine r_gR X hV fl_X10_32_10 (by decide) dX10_goWalk_21 h (fun v1 h => ?_)
    refine lv_iload X.1 X.2.1 dX10_goWalk_24 (lv_at hl 4 rfl) ?_
    refine r_ia X hV dX10_goWalk_26 h (fun v2 h => ?_)
    refine lv_iconst (v := (-1)) X.1 X.2.1 dX10_goWalk_27 (by decide) ?_
    refine r_ne (tgt := 35) X.1 X.2.1 dX10_goWalk_28 (by decide) h (fun h => ?_) (fun h => ?_)
    · refine lv_bipush (v := 100) X.1 X.2.1 dX10_goWalk_35 (by decide) ?_
      refine lv_aload_n X.1 X.2.1 dX10_goWalk_37 rfl (lv_at hl 0 rfl) ?_
      refine r_gR X hV fl_X10_50_10 (by decide) dX10_goWalk_38 h (fun v3 h => ?_)
      refine lv_iload_n X.1 X.2.1 dX10_goWalk_41 rfl (lv_at hl 2 rfl) ?_
      refine lv_iload X.1 X.2.1 dX10_goWalk_42 (lv_at hl 4 rfl) ?_
      refine lv_iadd X.1 X.2.1 dX10_goWalk_44 ?_
      refine r_ia X hV dX10_goWalk_45 h (fun v4 h => ?_)
      refine lv_isub X.1 X.2.1 dX10_goWalk_46 ?_
      refine lv_aload_n X.1 X.2.1 dX10_goWalk_47 rfl (lv_at hl 0 rfl) ?_
      refine r_gI X hV fl_X10_26_10 dX10_goWalk_48 h (fun v5 h => ?_)
      refine lv_imul X.1 X.2.1 dX10_goWalk_51 ?_
      refine lv_bipush (v := 100) X.1 X.2.1 dX10_goWalk_52 (by decide) ?_
      refine lv_idiv X.1 X.2.1 dX10_goWalk_54 (by decide) ?_
      exact w_X10_goWalk_55 X hr8 h hV hF (lv_sub hl [0, 1, 2, 3, 4] rfl)
    · refine lv_iconst (v := 0) X.1 X.2.1 dX10_goWalk_31 (by decide) ?_
      refine lv_goto (tgt := 55) X.1 X.2.1 dX10_goWalk_32 (by decide) ?_
      exact w_X10_goWalk_55 X hr8 h hV hF (lv_sub hl [0, 1, 2, 3, 4] rfl)
set_option maxHeartbeats 4000000 in
theorem w_X10_goWalk_8 {p : Program} {l : Launch} {e : Env} {s : State} {m : MethodId} {args : Array Value} {below : List Frame} {meth : Method} {c : Code} {g : Gl} (X : FX g p m c s args meth cX10_goWalk 6 RX10 (some .int) "goWalk") {r : Int32 × Hp} {x0 : Nat} {x1 : Int32} {x2 : Int32}  : ∀ (n : Nat) (st : Hp × Int32 × Int32), L_X10_goWalk_8 x0 x1 x2 n st = some r → ∀ (H : Heap) (locs : List Loc) (ls : Array Slot), HV g st.1 H → FR g locs → lv_has ls 6 [(0, .ref x0), (1, .int x1), (2, .int x2), (3, .int st.2.1), (4, .int st.2.2)] → W p l e rm_X10_goWalk s m args below meth c H locs 0 0 (MQ below (Qi g r) args s 0 0 (frN g)) (F0 m 8 ls []) := by
  intro n
  induction n with
  | zero =>
    intro st h
    rw [L_X10_goWalk_8_0] at h
    cases h
  | succ n ih =>
    intro st h H locs ls hV hF hl
    rw [L_X10_goWalk_8_s] at h
    exact w_X10_goWalk_8_b X  ih h hV hF hl
set_option maxHeartbeats 4000000 in
theorem c_X10_goWalk (l : Launch) {g : Gl} {σ : Hp} {x0 : Nat} {x1 : Int32} {x2 : Int32} {r : Int32 × Hp} (h : F_X10_goWalk σ x0 x1 x2 = some r) : Met l yX10_goWalk (ws_ yX10_goWalk cX10_goWalk 6 (some .int)) rm_X10_goWalk (va_Pc [.ref x0, .int x1, .int x2] (WV g σ)) (Qi g r) 0 0 (frN g) := by
  refine ct_of (by decide) (Nat.le_of_ble_eq_true rfl) ?_
  intro p e s m below meth c ls X hV hl
  have hF : FR g [] := FR_nil
  unfold F_X10_goWalk at h
  have hl : lv_has ls 6 [(0, .ref x0), (1, .int x1), (2, .int x2)] := hl
  have X : FX g p m c s _ meth cX10_goWalk 6 RX10 (some .int) "goWalk" := X
  obtain ⟨-, h⟩ := gd_inv h
  refine lv_iconst (v := 0) X.1 X.2.1 dX10_goWalk_0 (by decide) ?_
  refine lv_istore_n (lv' := [(3, .int 0), (0, .ref x0), (1, .int x1), (2, .int x2)]) X.1 X.2.1 dX10_goWalk_1 rfl hl (by decide) rfl (fun ls hl => ?_)
  refine lv_bipush (v := 6) X.1 X.2.1 dX10_goWalk_2 (by decide) ?_
  refine lv_iload_n X.1 X.2.1 dX10_goWalk_4 rfl (lv_at hl 2 rfl) ?_
  refine lv_imul X.1 X.2.1 dX10_goWalk_5 ?_
  refine lv_istore (lv' := [(4, .int (6 * x1)), (3, .int 0), (0, .ref x0), (1, .int x1), (2, .int x2)]) X.1 X.2.1 dX10_goWalk_6 hl (by decide) rfl (fun ls hl => ?_)
  exact w_X10_goWalk_8 X  FU (σ, 0, 6 * x1) h _ _ _ hV hF (lv_sub hl [2, 3, 4, 1, 0] rfl)
/-! PalaceOfRoomsModel.walk -/
theorem dX10_walk_0 : decode cX10_walk 0 = .ok (.iload_n 1, 1) := by decide +kernel
theorem dX10_walk_1 : decode cX10_walk 1 = .ok (.invokestatic 100, 3) := by decide +kernel
theorem dX10_walk_4 : decode cX10_walk 4 = .ok (.ifCond .ne 6, 3) := by decide +kernel
theorem dX10_walk_7 : decode cX10_walk 7 = .ok (.bipush (-2), 2) := by decide +kernel
theorem dX10_walk_9 : decode cX10_walk 9 = .ok (.ireturn, 1) := by decide +kernel
theorem dX10_walk_10 : decode cX10_walk 10 = .ok (.aload_n 0, 1) := by decide +kernel
theorem dX10_walk_11 : decode cX10_walk 11 = .ok (.invokevirtual 131, 3) := by decide +kernel
theorem dX10_walk_14 : decode cX10_walk 14 = .ok (.aload_n 0, 1) := by decide +kernel
theorem dX10_walk_15 : decode cX10_walk 15 = .ok (.iload_n 1, 1) := by decide +kernel
theorem dX10_walk_16 : decode cX10_walk 16 = .ok (.iconst 0, 1) := by decide +kernel
theorem dX10_walk_17 : decode cX10_walk 17 = .ok (.invokevirtual 138, 3) := by decide +kernel
theorem dX10_walk_20 : decode cX10_walk 20 = .ok (.istore_n 2, 1) := by decide +kernel
theorem dX10_walk_21 : decode cX10_walk 21 = .ok (.bipush 6, 2) := by decide +kernel
theorem dX10_walk_23 : decode cX10_walk 23 = .ok (.iload_n 1, 1) := by decide +kernel
theorem dX10_walk_24 : decode cX10_walk 24 = .ok (.imul, 1) := by decide +kernel
theorem dX10_walk_25 : decode cX10_walk 25 = .ok (.istore_n 3, 1) := by decide +kernel
theorem dX10_walk_26 : decode cX10_walk 26 = .ok (.iload_n 3, 1) := by decide +kernel
theorem dX10_walk_27 : decode cX10_walk 27 = .ok (.bipush 6, 2) := by decide +kernel
theorem dX10_walk_29 : decode cX10_walk 29 = .ok (.iload_n 1, 1) := by decide +kernel
theorem dX10_walk_30 : decode cX10_walk 30 = .ok (.imul, 1) := by decide +kernel
theorem dX10_walk_31 : decode cX10_walk 31 = .ok (.bipush 6, 2) := by decide +kernel
theorem dX10_walk_33 : decode cX10_walk 33 = .ok (.iadd, 1) := by decide +kernel
theorem dX10_walk_34 : decode cX10_walk 34 = .ok (.if_icmp .ge 21, 3) := by decide +kernel
theorem dX10_walk_37 : decode cX10_walk 37 = .ok (.aload_n 0, 1) := by decide +kernel
theorem dX10_walk_38 : decode cX10_walk 38 = .ok (.getfield 35, 3) := by decide +kernel
theorem dX10_walk_41 : decode cX10_walk 41 = .ok (.iload_n 3, 1) := by decide +kernel
theorem dX10_walk_42 : decode cX10_walk 42 = .ok (.aload_n 0, 1) := by decide +kernel
theorem dX10_walk_43 : decode cX10_walk 43 = .ok (.getfield 50, 3) := by decide +kernel
theorem dX10_walk_46 : decode cX10_walk 46 = .ok (.iload_n 3, 1) := by decide +kernel
theorem dX10_walk_47 : decode cX10_walk 47 = .ok (.iaload, 1) := by decide +kernel
theorem dX10_walk_48 : decode cX10_walk 48 = .ok (.iastore, 1) := by decide +kernel
theorem dX10_walk_49 : decode cX10_walk 49 = .ok (.iinc 3 1, 3) := by decide +kernel
theorem dX10_walk_52 : decode cX10_walk 52 = .ok (.goto (-26), 3) := by decide +kernel
theorem dX10_walk_55 : decode cX10_walk 55 = .ok (.aload_n 0, 1) := by decide +kernel
theorem dX10_walk_56 : decode cX10_walk 56 = .ok (.getfield 47, 3) := by decide +kernel
theorem dX10_walk_59 : decode cX10_walk 59 = .ok (.iload_n 1, 1) := by decide +kernel
theorem dX10_walk_60 : decode cX10_walk 60 = .ok (.aload_n 0, 1) := by decide +kernel
theorem dX10_walk_61 : decode cX10_walk 61 = .ok (.getfield 125, 3) := by decide +kernel
theorem dX10_walk_64 : decode cX10_walk 64 = .ok (.iastore, 1) := by decide +kernel
theorem dX10_walk_65 : decode cX10_walk 65 = .ok (.iload_n 2, 1) := by decide +kernel
theorem dX10_walk_66 : decode cX10_walk 66 = .ok (.ireturn, 1) := by decide +kernel
theorem yd_X10_walk : yX10_walk.cls ≠ "java/lang/invoke/MethodHandle" ∧ yX10_walk.cls ≠ "java/lang/invoke/VarHandle" ∧ (parseMethodDescriptor yX10_walk.desc).map (fun d => d.parameters.length) = some 1 := by decide +kernel
abbrev rm_X10_walk : Room := { frames := 2, cells := 0, slots := 0, locals := 42 }
set_option maxHeartbeats 4000000 in
theorem w_X10_walk_55 {p : Program} {l : Launch} {e : Env} {s : State} {m : MethodId} {args : Array Value} {below : List Frame} {meth : Method} {c : Code} {g : Gl} (X : FX g p m c s args meth cX10_walk 4 RX10 (some .int) "walk") {r : Int32 × Hp} {σ : Hp} {x0 : Nat} {x1 : Int32} {x2 : Int32}  {H : Heap} {locs : List Loc} {ls : Array Slot} (h : F_X10_walk_55 σ x0 x1 x2 = some r) (hV : HV g σ H) (hF : FR g locs) (hl : lv_has ls 4 [(0, .ref x0), (1, .int x1), (2, .int x2)]) : W p l e rm_X10_walk s m args below meth c H locs 0 0 (MQ below (Qi g r) args s 0 0 (frN g)) (F0 m 55 ls []) := by
  unfold F_X10_walk_55 at h
  refine lv_aload_n X.1 X.2.1 dX10_walk_55 rfl (lv_at hl 0 rfl) ?_
  refine r_gR X hV fl_X10_47_10 (by decide) dX10_walk_56 h (fun v1 h => ?_)
  refine lv_iload_n X.1 X.2.1 dX10_walk_59 rfl (lv_at hl 1 rfl) ?_
  refine lv_aload_n X.1 X.2.1 dX10_walk_60 rfl (lv_at hl 0 rfl) ?_
  refine r_gI X hV fl_X10_125_10 dX10_walk_61 h (fun v2 h => ?_)
  refine r_is X hV hF dX10_walk_64 h (fun s1 H locs hV hF h => ?_)
  refine lv_iload_n X.1 X.2.1 dX10_walk_65 rfl (lv_at hl 2 rfl) ?_
  exact r_iret X hV hF h dX10_walk_66
set_option maxHeartbeats 4000000 in
theorem w_X10_walk_26_b {p : Program} {l : Launch} {e : Env} {s : State} {m : MethodId} {args : Array Value} {below : List Frame} {meth : Method} {c : Code} {g : Gl} (X : FX g p m c s args meth cX10_walk 4 RX10 (some .int) "walk") {r : Int32 × Hp} {rec26 : Hp × Int32 → Option (Int32 × Hp)} {x0 : Nat} {x1 : Int32} {x2 : Int32} {σ : Hp} {x3 : Int32} (hr26 : ∀ (st : Hp × Int32), rec26 st = some r → ∀ (H : Heap) (locs : List Loc) (ls : Array Slot), HV g st.1 H → FR g locs → lv_has ls 4 [(0, .ref x0), (1, .int x1), (2, .int x2), (3, .int st.2)] → W p l e rm_X10_walk s m args below meth c H locs 0 0 (MQ below (Qi g r) args s 0 0 (frN g)) (F0 m 26 ls [])) {H : Heap} {locs : List Loc} {ls : Array Slot} (h : B_X10_walk_26 x0 x1 x2 rec26 σ x3 = some r) (hV : HV g σ H) (hF : FR g locs) (hl : lv_has ls 4 [(0, .ref x0), (1, .int x1), (2, .int x2), (3, .int x3)]) : W p l e rm_X10_walk s m args below meth c H locs 0 0 (MQ below (Qi g r) args s 0 0 (frN g)) (F0 m 26 ls []) := by
  unfold B_X10_walk_26 at h
  refine lv_iload_n X.1 X.2.1 dX10_walk_26 rfl (lv_at hl 3 rfl) ?_
  refine lv_bipush (v := 6) X.1 X.2.1 dX10_walk_27 (by decide) ?_
  refine lv_iload_n X.1 X.2.1 dX10_walk_29 rfl (lv_at hl 1 rfl) ?_
  refine lv_imul X.1 X.2.1 dX10_walk_30 ?_
  refine lv_bipush (v := 6) X.1 X.2.1 dX10_walk_31 (by decide) ?_
  refine lv_iadd X.1 X.2.1 dX10_walk_33 ?_
  refine r_ge (tgt := 55) X.1 X.2.1 dX10_walk_34 (by decide) h (fun h => ?_) (fun h => ?_)
  · exact w_X10_walk_55 X  h hV hF (lv_sub hl [0, 1, 2] rfl)
  · refine lv_aload_n X.1 X.2.1 dX10_walk_37 rfl (lv_at hl 0 rfl) ?_
    refine r_gR X hV fl_X10_35_10 (by decide) dX10_walk_38 h (fun v1 h => ?_)
    refine lv_iload_n X.1 X.2.1 dX10_walk_41 rfl (lv_at hl 3 rfl) ?_
    refine lv_aload_n X.1 X.2.1 dX10_walk_42 rfl (lv_at hl 0 rfl) ?_
    refine r_gR X hV fl_X10_50_10 (by decide) dX10_walk_43 h (fun v2 h => ?_)
    refine lv_iload_n X.1 X.2.1 dX10_walk_46 rfl (lv_at hl 3 rfl) ?_
    refine r_ia X hV dX10_walk_47 h (fun v3 h => ?_)
    refine r_is X hV hF dX10_walk_48 h (fun s1 H locs hV hF h => ?_)
    refine lv_iinc (v := x3 + 1) (lv' := [(3, .int (x3 + 1)), (0, .ref x0), (1, .int x1), (2, .int x2)]) X.1 X.2.1 dX10_walk_49 hl (k := 3) rfl rfl (by decide) rfl (fun ls hl => ?_)
    refine lv_goto (tgt := 26) X.1 X.2.1 dX10_walk_52 (by decide) ?_
    exact hr26 (s1, x3 + 1) h _ _ _ hV hF (lv_sub hl [1, 2, 3, 0] rfl)
set_option maxHeartbeats 4000000 in
theorem w_X10_walk_26 {p : Program} {l : Launch} {e : Env} {s : State} {m : MethodId} {args : Array Value} {below : List Frame} {meth : Method} {c : Code} {g : Gl} (X : FX g p m c s args meth cX10_walk 4 RX10 (some .int) "walk") {r : Int32 × Hp} {x0 : Nat} {x1 : Int32} {x2 : Int32}  : ∀ (n : Nat) (st : Hp × Int32), L_X10_walk_26 x0 x1 x2 n st = some r → ∀ (H : Heap) (locs : List Loc) (ls : Array Slot), HV g st.1 H → FR g locs → lv_has ls 4 [(0, .ref x0), (1, .int x1), (2, .int x2), (3, .int st.2)] → W p l e rm_X10_walk s m args below meth c H locs 0 0 (MQ below (Qi g r) args s 0 0 (frN g)) (F0 m 26 ls []) := by
  intro n
  induction n with
  | zero =>
    intro st h
    rw [L_X10_walk_26_0] at h
    cases h
  | succ n ih =>
    intro st h H locs ls hV hF hl
    rw [L_X10_walk_26_s] at h
    exact w_X10_walk_26_b X  ih h hV hF hl
set_option maxHeartbeats 4000000 in
theorem c_X10_walk (l : Launch) {g : Gl} {σ : Hp} {x0 : Nat} {x1 : Int32} {r : Int32 × Hp} (h : F_X10_walk σ x0 x1 = some r) : Met l yX10_walk (ws_ yX10_walk cX10_walk 4 (some .int)) rm_X10_walk (va_Pc [.ref x0, .int x1] (WV g σ)) (Qi g r) 0 0 (frN g) := by
  refine ct_of (by decide) (Nat.le_of_ble_eq_true rfl) ?_
  intro p e s m below meth c ls X hV hl
  have hF : FR g [] := FR_nil
  unfold F_X10_walk at h
  have hl : lv_has ls 4 [(0, .ref x0), (1, .int x1)] := hl
  have X : FX g p m c s _ meth cX10_walk 4 RX10 (some .int) "walk" := X
  obtain ⟨-, h⟩ := gd_inv h
  refine lv_iload_n X.1 X.2.1 dX10_walk_0 rfl (lv_at hl 1 rfl) ?_
  obtain ⟨v1, s1, hc, h⟩ := b2_inv h
  refine r_ci (va_runS (As := [.int x1]) (rest := []) (cfX X) (c_X10_isRoom l hc) (va_cwS 1 X.2.2.2.2.1 (lw_S q1101 q1102 q59 q1103) rfl rfl rfl yd_X10_isRoom ⟨Nat.le_of_ble_eq_true rfl, Nat.le_of_ble_eq_true rfl⟩) (preS X hV) rfl rfl hl.1 rfl (lv_room (Nat.le_of_ble_eq_true rfl)) dX10_walk_1 ⟨(Nat.le_of_ble_eq_true rfl), (Nat.le_of_ble_eq_true rfl)⟩) hF (fun H locs hV hF => ?_)
  refine r_ifne (tgt := 10) X.1 X.2.1 dX10_walk_4 (by decide) h (fun h => ?_) (fun h => ?_)
  · refine lv_aload_n X.1 X.2.1 dX10_walk_10 rfl (lv_at hl 0 rfl) ?_
    obtain ⟨s2, hc, h⟩ := b1_inv h
    refine r_cv (va_runV (C := RX10) (As := []) (rest := []) (cfX X) (c_X10_lookAhead l hc) (cwV 0 X.2.2.2.2.1 (lw_V q1169 q1171 qs26 q59 q1172) rfl rfl rfl ⟨rfl, yd_X10_lookAhead⟩ ⟨Nat.le_of_ble_eq_true rfl, Nat.le_of_ble_eq_true rfl⟩) (preV X hV (F_X10_lookAhead_g hc) rfl) rfl rfl hl.1 rfl (lv_room (Nat.le_of_ble_eq_true rfl)) dX10_walk_11 ⟨(Nat.le_of_ble_eq_true rfl), (Nat.le_of_ble_eq_true rfl)⟩) hF (fun H locs hV hF => ?_)
    refine lv_aload_n X.1 X.2.1 dX10_walk_14 rfl (lv_at hl 0 rfl) ?_
    refine lv_iload_n X.1 X.2.1 dX10_walk_15 rfl (lv_at hl 1 rfl) ?_
    refine lv_iconst (v := 0) X.1 X.2.1 dX10_walk_16 (by decide) ?_
    obtain ⟨v3, s3, hc, h⟩ := b2_inv h
    refine r_ci (va_runV (C := RX10) (As := [.int x1, .int 0]) (rest := []) (cfX X) (c_X10_goWalk l hc) (cwV 2 X.2.2.2.2.1 (lw_V q1185 q1187 qs29 q59 q1188) rfl rfl rfl ⟨rfl, yd_X10_goWalk⟩ ⟨Nat.le_of_ble_eq_true rfl, Nat.le_of_ble_eq_true rfl⟩) (preV X hV (F_X10_goWalk_g hc) rfl) rfl rfl hl.1 rfl (lv_room (Nat.le_of_ble_eq_true rfl)) dX10_walk_17 ⟨(Nat.le_of_ble_eq_true rfl), (Nat.le_of_ble_eq_true rfl)⟩) hF (fun H locs hV hF => ?_)
    refine lv_istore_n (lv' := [(2, .int v3), (0, .ref x0), (1, .int x1)]) X.1 X.2.1 dX10_walk_20 rfl hl (by decide) rfl (fun ls hl => ?_)
    refine lv_bipush (v := 6) X.1 X.2.1 dX10_walk_21 (by decide) ?_
    refine lv_iload_n X.1 X.2.1 dX10_walk_23 rfl (lv_at hl 2 rfl) ?_
    refine lv_imul X.1 X.2.1 dX10_walk_24 ?_
    refine lv_istore_n (lv' := [(3, .int (6 * x1)), (2, .int v3), (0, .ref x0), (1, .int x1)]) X.1 X.2.1 dX10_walk_25 rfl hl (by decide) rfl (fun ls hl => ?_)
    exact w_X10_walk_26 X  FU (s3, 6 * x1) h _ _ _ hV hF (lv_sub hl [2, 3, 1, 0] rfl)
  · refine lv_bipush (v := (-2)) X.1 X.2.1 dX10_walk_7 (by decide) ?_
    exact r_iret X hV hF h dX10_walk_9
/-! PalaceOfRoomsModel.write -/
theorem dX10_write_0 : decode cX10_write 0 = .ok (.iload_n 3, 1) := by decide +kernel
theorem dX10_write_1 : decode cX10_write 1 = .ok (.iconst 1, 1) := by decide +kernel
theorem dX10_write_2 : decode cX10_write 2 = .ok (.bipush 8, 2) := by decide +kernel
theorem dX10_write_4 : decode cX10_write 4 = .ok (.invokestatic 93, 3) := by decide +kernel
theorem dX10_write_7 : decode cX10_write 7 = .ok (.ifCond .ne 6, 3) := by decide +kernel
theorem dX10_write_10 : decode cX10_write 10 = .ok (.bipush (-3), 2) := by decide +kernel
theorem dX10_write_12 : decode cX10_write 12 = .ok (.ireturn, 1) := by decide +kernel
theorem dX10_write_13 : decode cX10_write 13 = .ok (.aload_n 0, 1) := by decide +kernel
theorem dX10_write_14 : decode cX10_write 14 = .ok (.getfield 141, 3) := by decide +kernel
theorem dX10_write_17 : decode cX10_write 17 = .ok (.iload_n 3, 1) := by decide +kernel
theorem dX10_write_18 : decode cX10_write 18 = .ok (.iadd, 1) := by decide +kernel
theorem dX10_write_19 : decode cX10_write 19 = .ok (.sipush 160, 3) := by decide +kernel
theorem dX10_write_22 : decode cX10_write 22 = .ok (.if_icmp .le 6, 3) := by decide +kernel
theorem dX10_write_25 : decode cX10_write 25 = .ok (.bipush (-5), 2) := by decide +kernel
theorem dX10_write_27 : decode cX10_write 27 = .ok (.ireturn, 1) := by decide +kernel
theorem dX10_write_28 : decode cX10_write 28 = .ok (.iconst 0, 1) := by decide +kernel
theorem dX10_write_29 : decode cX10_write 29 = .ok (.istore 4, 2) := by decide +kernel
theorem dX10_write_31 : decode cX10_write 31 = .ok (.iload 4, 2) := by decide +kernel
theorem dX10_write_33 : decode cX10_write 33 = .ok (.iload_n 3, 1) := by decide +kernel
theorem dX10_write_34 : decode cX10_write 34 = .ok (.if_icmp .ge 33, 3) := by decide +kernel
theorem dX10_write_37 : decode cX10_write 37 = .ok (.aload_n 0, 1) := by decide +kernel
theorem dX10_write_38 : decode cX10_write 38 = .ok (.getfield 62, 3) := by decide +kernel
theorem dX10_write_41 : decode cX10_write 41 = .ok (.aload_n 0, 1) := by decide +kernel
theorem dX10_write_42 : decode cX10_write 42 = .ok (.getfield 141, 3) := by decide +kernel
theorem dX10_write_45 : decode cX10_write 45 = .ok (.iload 4, 2) := by decide +kernel
theorem dX10_write_47 : decode cX10_write 47 = .ok (.iadd, 1) := by decide +kernel
theorem dX10_write_48 : decode cX10_write 48 = .ok (.lload_n 1, 1) := by decide +kernel
theorem dX10_write_49 : decode cX10_write 49 = .ok (.bipush 8, 2) := by decide +kernel
theorem dX10_write_51 : decode cX10_write 51 = .ok (.iload 4, 2) := by decide +kernel
theorem dX10_write_53 : decode cX10_write 53 = .ok (.imul, 1) := by decide +kernel
theorem dX10_write_54 : decode cX10_write 54 = .ok (.lshr, 1) := by decide +kernel
theorem dX10_write_55 : decode cX10_write 55 = .ok (.ldc2_w 144, 3) := by decide +kernel
theorem dX10_write_58 : decode cX10_write 58 = .ok (.land, 1) := by decide +kernel
theorem dX10_write_59 : decode cX10_write 59 = .ok (.l2i, 1) := by decide +kernel
theorem dX10_write_60 : decode cX10_write 60 = .ok (.iastore, 1) := by decide +kernel
theorem dX10_write_61 : decode cX10_write 61 = .ok (.iinc 4 1, 3) := by decide +kernel
theorem dX10_write_64 : decode cX10_write 64 = .ok (.goto (-33), 3) := by decide +kernel
theorem dX10_write_67 : decode cX10_write 67 = .ok (.aload_n 0, 1) := by decide +kernel
theorem dX10_write_68 : decode cX10_write 68 = .ok (.dup, 1) := by decide +kernel
theorem dX10_write_69 : decode cX10_write 69 = .ok (.getfield 141, 3) := by decide +kernel
theorem dX10_write_72 : decode cX10_write 72 = .ok (.iload_n 3, 1) := by decide +kernel
theorem dX10_write_73 : decode cX10_write 73 = .ok (.iadd, 1) := by decide +kernel
theorem dX10_write_74 : decode cX10_write 74 = .ok (.putfield 141, 3) := by decide +kernel
theorem dX10_write_77 : decode cX10_write 77 = .ok (.aload_n 0, 1) := by decide +kernel
theorem dX10_write_78 : decode cX10_write 78 = .ok (.getfield 141, 3) := by decide +kernel
theorem dX10_write_81 : decode cX10_write 81 = .ok (.ireturn, 1) := by decide +kernel
theorem yd_X10_write : yX10_write.cls ≠ "java/lang/invoke/MethodHandle" ∧ yX10_write.cls ≠ "java/lang/invoke/VarHandle" ∧ (parseMethodDescriptor yX10_write.desc).map (fun d => d.parameters.length) = some 2 := by decide +kernel
theorem fl_X10_141_10 : FLk RX10 141 10 19 "I" := ⟨RX10, TX10, 39, "PalaceOfRoomsModel", rfl, by decide, (fun q => by have h1 := q.1; have h2 := q.2; omega), rfl, in_X10, Or.inl q998, Or.inl rfl⟩
theorem fp_X10_141_10 : FPk RX10 141 10 19 "I" false := ⟨RX10, TX10, 39, "PalaceOfRoomsModel", tyX10, rfl, by decide, (fun q => by have h1 := q.1; have h2 := q.2; omega), rfl, in_X10, tyX10_ok, (fun a ha b hb h => Or.inl (nmX10 a ha b hb h)), rfl, (fun q => by cases q), (Or.inl q998), Or.inl rfl⟩
theorem fl_X10_62_10 : FLk RX10 62 10 20 "[I" := ⟨RX10, TX10, 39, "PalaceOfRoomsModel", rfl, by decide, (fun q => by have h1 := q.1; have h2 := q.2; omega), rfl, in_X10, Or.inl q999, Or.inl rfl⟩
abbrev rm_X10_write : Room := { frames := 1, cells := 0, slots := 0, locals := 22 }
set_option maxHeartbeats 4000000 in
theorem w_X10_write_67 {p : Program} {l : Launch} {e : Env} {s : State} {m : MethodId} {args : Array Value} {below : List Frame} {meth : Method} {c : Code} {g : Gl} (X : FX g p m c s args meth cX10_write 5 RX10 (some .int) "write") {r : Int32 × Hp} {σ : Hp} {x0 : Nat} {x3 : Int32}  {H : Heap} {locs : List Loc} {ls : Array Slot} (h : F_X10_write_67 σ x0 x3 = some r) (hV : HV g σ H) (hF : FR g locs) (hl : lv_has ls 5 [(0, .ref x0), (3, .int x3)]) : W p l e rm_X10_write s m args below meth c H locs 0 0 (MQ below (Qi g r) args s 0 0 (frN g)) (F0 m 67 ls []) := by
  unfold F_X10_write_67 at h
  refine lv_aload_n X.1 X.2.1 dX10_write_67 rfl (lv_at hl 0 rfl) ?_
  refine lv_dup X.1 X.2.1 dX10_write_68 rfl ?_
  refine r_gI X hV fl_X10_141_10 dX10_write_69 h (fun v1 h => ?_)
  refine lv_iload_n X.1 X.2.1 dX10_write_72 rfl (lv_at hl 1 rfl) ?_
  refine lv_iadd X.1 X.2.1 dX10_write_73 ?_
  refine r_pI X hV hF fp_X10_141_10 (fun q => by cases q) dX10_write_74 h (fun s1 H locs hV hF h => ?_)
  refine lv_aload_n X.1 X.2.1 dX10_write_77 rfl (lv_at hl 0 rfl) ?_
  refine r_gI X hV fl_X10_141_10 dX10_write_78 h (fun v2 h => ?_)
  exact r_iret X hV hF h dX10_write_81
set_option maxHeartbeats 4000000 in
theorem w_X10_write_31_b {p : Program} {l : Launch} {e : Env} {s : State} {m : MethodId} {args : Array Value} {below : List Frame} {meth : Method} {c : Code} {g : Gl} (X : FX g p m c s args meth cX10_write 5 RX10 (some .int) "write") {r : Int32 × Hp} {rec31 : Hp × Int32 → Option (Int32 × Hp)} {x0 : Nat} {x1 : Int64} {x3 : Int32} {σ : Hp} {x4 : Int32} (hr31 : ∀ (st : Hp × Int32), rec31 st = some r → ∀ (H : Heap) (locs : List Loc) (ls : Array Slot), HV g st.1 H → FR g locs → lv_has ls 5 [(0, .ref x0), (1, .long x1), (3, .int x3), (4, .int st.2)] → W p l e rm_X10_write s m args below meth c H locs 0 0 (MQ below (Qi g r) args s 0 0 (frN g)) (F0 m 31 ls [])) {H : Heap} {locs : List Loc} {ls : Array Slot} (h : B_X10_write_31 x0 x1 x3 rec31 σ x4 = some r) (hV : HV g σ H) (hF : FR g locs) (hl : lv_has ls 5 [(0, .ref x0), (1, .long x1), (3, .int x3), (4, .int x4)]) : W p l e rm_X10_write s m args below meth c H locs 0 0 (MQ below (Qi g r) args s 0 0 (frN g)) (F0 m 31 ls []) := by
  unfold B_X10_write_31 at h
  refine lv_iload X.1 X.2.1 dX10_write_31 (lv_at hl 3 rfl) ?_
  refine lv_iload_n X.1 X.2.1 dX10_write_33 rfl (lv_at hl 2 rfl) ?_
  refine r_ge (tgt := 67) X.1 X.2.1 dX10_write_34 (by decide) h (fun h => ?_) (fun h => ?_)
  · exact w_X10_write_67 X  h hV hF (lv_sub hl [0, 2] rfl)
  · refine lv_aload_n X.1 X.2.1 dX10_write_37 rfl (lv_at hl 0 rfl) ?_
    refine r_gR X hV fl_X10_62_10 (by decide) dX10_write_38 h (fun v1 h => ?_)
    refine lv_aload_n X.1 X.2.1 dX10_write_41 rfl (lv_at hl 0 rfl) ?_
    refine r_gI X hV fl_X10_141_10 dX10_write_42 h (fun v2 h => ?_)
    refine lv_iload X.1 X.2.1 dX10_write_45 (lv_at hl 3 rfl) ?_
    refine lv_iadd X.1 X.2.1 dX10_write_47 ?_
    refine lv_lload_n X.1 X.2.1 dX10_write_48 rfl (lv_at hl 1 rfl) ?_
    refine lv_bipush (v := 8) X.1 X.2.1 dX10_write_49 (by decide) ?_
    refine lv_iload X.1 X.2.1 dX10_write_51 (lv_at hl 3 rfl) ?_
    refine lv_imul X.1 X.2.1 dX10_write_53 ?_
    refine lv_lshr (v := x1 >>> ((8 * x4 : Int32).toInt64 &&& 63)) X.1 X.2.1 dX10_write_54 rfl ?_
    refine lv_ldc2 (v := 255) X.1 X.2.1 X.2.2.2.1 (X.2.2.2.2.1 _ q1193) dX10_write_55 ?_
    refine lv_land X.1 X.2.1 dX10_write_58 ?_
    refine lv_l2i (v := ((x1 >>> ((8 * x4 : Int32).toInt64 &&& 63)) &&& 255 : Int64).toInt32) X.1 X.2.1 dX10_write_59 rfl ?_
    refine r_is X hV hF dX10_write_60 h (fun s1 H locs hV hF h => ?_)
    refine lv_iinc (v := x4 + 1) (lv' := [(4, .int (x4 + 1)), (0, .ref x0), (1, .long x1), (3, .int x3)]) X.1 X.2.1 dX10_write_61 hl (k := 3) rfl rfl (by decide) rfl (fun ls hl => ?_)
    refine lv_goto (tgt := 31) X.1 X.2.1 dX10_write_64 (by decide) ?_
    exact hr31 (s1, x4 + 1) h _ _ _ hV hF (lv_sub hl [1, 2, 3, 0] rfl)
set_option maxHeartbeats 4000000 in
theorem w_X10_write_31 {p : Program} {l : Launch} {e : Env} {s : State} {m : MethodId} {args : Array Value} {below : List Frame} {meth : Method} {c : Code} {g : Gl} (X : FX g p m c s args meth cX10_write 5 RX10 (some .int) "write") {r : Int32 × Hp} {x0 : Nat} {x1 : Int64} {x3 : Int32}  : ∀ (n : Nat) (st : Hp × Int32), L_X10_write_31 x0 x1 x3 n st = some r → ∀ (H : Heap) (locs : List Loc) (ls : Array Slot), HV g st.1 H → FR g locs → lv_has ls 5 [(0, .ref x0), (1, .long x1), (3, .int x3), (4, .int st.2)] → W p l e rm_X10_write s m args below meth c H locs 0 0 (MQ below (Qi g r) args s 0 0 (frN g)) (F0 m 31 ls []) := by
  intro n
  induction n with
  | zero =>
    intro st h
    rw [L_X10_write_31_0] at h
    cases h
  | succ n ih =>
    intro st h H locs ls hV hF hl
    rw [L_X10_write_31_s] at h
    exact w_X10_write_31_b X  ih h hV hF hl
set_option maxHeartbeats 4000000 in
theorem c_X10_write (l : Launch) {g : Gl} {σ : Hp} {x0 : Nat} {x1 : Int64} {x3 : Int32} {r : Int32 × Hp} (h : F_X10_write σ x0 x1 x3 = some r) : Met l yX10_write (ws_ yX10_write cX10_write 5 (some .int)) rm_X10_write (va_Pc [.ref x0, .long x1, .int x3] (WV g σ)) (Qi g r) 0 0 (frN g) := by
  refine ct_of (by decide) (Nat.le_of_ble_eq_true rfl) ?_
  intro p e s m below meth c ls X hV hl
  have hF : FR g [] := FR_nil
  unfold F_X10_write at h
  have hl : lv_has ls 5 [(0, .ref x0), (1, .long x1), (3, .int x3)] := hl
  have X : FX g p m c s _ meth cX10_write 5 RX10 (some .int) "write" := X
  obtain ⟨-, h⟩ := gd_inv h
  refine lv_iload_n X.1 X.2.1 dX10_write_0 rfl (lv_at hl 2 rfl) ?_
  refine lv_iconst (v := 1) X.1 X.2.1 dX10_write_1 (by decide) ?_
  refine lv_bipush (v := 8) X.1 X.2.1 dX10_write_2 (by decide) ?_
  obtain ⟨v1, s1, hc, h⟩ := b2_inv h
  refine r_ci (va_runS (As := [.int x3, .int 1, .int 8]) (rest := []) (cfX X) (c_X10_in l hc) (va_cwS 3 X.2.2.2.2.1 (lw_S q1104 q1105 q59 q1106) rfl rfl rfl yd_X10_in ⟨Nat.le_of_ble_eq_true rfl, Nat.le_of_ble_eq_true rfl⟩) (preS X hV) rfl rfl hl.1 rfl (lv_room (Nat.le_of_ble_eq_true rfl)) dX10_write_4 ⟨(Nat.le_of_ble_eq_true rfl), (Nat.le_of_ble_eq_true rfl)⟩) hF (fun H locs hV hF => ?_)
  refine r_ifne (tgt := 13) X.1 X.2.1 dX10_write_7 (by decide) h (fun h => ?_) (fun h => ?_)
  · refine lv_aload_n X.1 X.2.1 dX10_write_13 rfl (lv_at hl 0 rfl) ?_
    refine r_gI X hV fl_X10_141_10 dX10_write_14 h (fun v2 h => ?_)
    refine lv_iload_n X.1 X.2.1 dX10_write_17 rfl (lv_at hl 2 rfl) ?_
    refine lv_iadd X.1 X.2.1 dX10_write_18 ?_
    refine lv_sipush (v := 160) X.1 X.2.1 dX10_write_19 (by decide) ?_
    refine r_le (tgt := 28) X.1 X.2.1 dX10_write_22 (by decide) h (fun h => ?_) (fun h => ?_)
    · refine lv_iconst (v := 0) X.1 X.2.1 dX10_write_28 (by decide) ?_
      refine lv_istore (lv' := [(4, .int 0), (0, .ref x0), (1, .long x1), (3, .int x3)]) X.1 X.2.1 dX10_write_29 hl (by decide) rfl (fun ls hl => ?_)
      exact w_X10_write_31 X  FU (s1, 0) h _ _ _ hV hF (lv_sub hl [1, 2, 3, 0] rfl)
    · refine lv_bipush (v := (-5)) X.1 X.2.1 dX10_write_25 (by decide) ?_
      exact r_iret X hV hF h dX10_write_27
  · refine lv_bipush (v := (-3)) X.1 X.2.1 dX10_write_10 (by decide) ?_
    exact r_iret X hV hF h dX10_write_12
/-! PalaceOfRoomsModel.erase -/
theorem dX10_erase_0 : decode cX10_erase 0 = .ok (.aload_n 0, 1) := by decide +kernel
theorem dX10_erase_1 : decode cX10_erase 1 = .ok (.getfield 141, 3) := by decide +kernel
theorem dX10_erase_4 : decode cX10_erase 4 = .ok (.istore_n 1, 1) := by decide +kernel
theorem dX10_erase_5 : decode cX10_erase 5 = .ok (.aload_n 0, 1) := by decide +kernel
theorem dX10_erase_6 : decode cX10_erase 6 = .ok (.iconst 0, 1) := by decide +kernel
theorem dX10_erase_7 : decode cX10_erase 7 = .ok (.putfield 141, 3) := by decide +kernel
theorem dX10_erase_10 : decode cX10_erase 10 = .ok (.iload_n 1, 1) := by decide +kernel
theorem dX10_erase_11 : decode cX10_erase 11 = .ok (.ireturn, 1) := by decide +kernel
theorem yd_X10_erase : yX10_erase.cls ≠ "java/lang/invoke/MethodHandle" ∧ yX10_erase.cls ≠ "java/lang/invoke/VarHandle" ∧ (parseMethodDescriptor yX10_erase.desc).map (fun d => d.parameters.length) = some 0 := by decide +kernel
abbrev rm_X10_erase : Room := { frames := 0, cells := 0, slots := 0, locals := 0 }
set_option maxHeartbeats 4000000 in
theorem c_X10_erase (l : Launch) {g : Gl} {σ : Hp} {x0 : Nat} {r : Int32 × Hp} (h : F_X10_erase σ x0 = some r) : Met l yX10_erase (ws_ yX10_erase cX10_erase 2 (some .int)) rm_X10_erase (va_Pc [.ref x0] (WV g σ)) (Qi g r) 0 0 (frN g) := by
  refine ct_of (by decide) (Nat.le_of_ble_eq_true rfl) ?_
  intro p e s m below meth c ls X hV hl
  have hF : FR g [] := FR_nil
  unfold F_X10_erase at h
  have hl : lv_has ls 2 [(0, .ref x0)] := hl
  have X : FX g p m c s _ meth cX10_erase 2 RX10 (some .int) "erase" := X
  obtain ⟨-, h⟩ := gd_inv h
  refine lv_aload_n X.1 X.2.1 dX10_erase_0 rfl (lv_at hl 0 rfl) ?_
  refine r_gI X hV fl_X10_141_10 dX10_erase_1 h (fun v1 h => ?_)
  refine lv_istore_n (lv' := [(1, .int v1), (0, .ref x0)]) X.1 X.2.1 dX10_erase_4 rfl hl (by decide) rfl (fun ls hl => ?_)
  refine lv_aload_n X.1 X.2.1 dX10_erase_5 rfl (lv_at hl 1 rfl) ?_
  refine lv_iconst (v := 0) X.1 X.2.1 dX10_erase_6 (by decide) ?_
  refine r_pI X hV hF fp_X10_141_10 (fun q => by cases q) dX10_erase_7 h (fun s1 H locs hV hF h => ?_)
  refine lv_iload_n X.1 X.2.1 dX10_erase_10 rfl (lv_at hl 0 rfl) ?_
  exact r_iret X hV hF h dX10_erase_11
