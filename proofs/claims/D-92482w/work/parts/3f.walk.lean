set_option maxRecDepth 100000
/-! PalaceOfRoomsModel.isRead -/
theorem dX10_isRead_0 : decode cX10_isRead 0 = .ok (.aload_n 0, 1) := by decide +kernel
theorem dX10_isRead_1 : decode cX10_isRead 1 = .ok (.iconst 0, 1) := by decide +kernel
theorem dX10_isRead_2 : decode cX10_isRead 2 = .ok (.putfield 146, 3) := by decide +kernel
theorem dX10_isRead_5 : decode cX10_isRead 5 = .ok (.aload_n 0, 1) := by decide +kernel
theorem dX10_isRead_6 : decode cX10_isRead 6 = .ok (.iconst 0, 1) := by decide +kernel
theorem dX10_isRead_7 : decode cX10_isRead 7 = .ok (.putfield 201, 3) := by decide +kernel
theorem dX10_isRead_10 : decode cX10_isRead 10 = .ok (.iconst 1, 1) := by decide +kernel
theorem dX10_isRead_11 : decode cX10_isRead 11 = .ok (.istore_n 1, 1) := by decide +kernel
theorem dX10_isRead_12 : decode cX10_isRead 12 = .ok (.iload_n 1, 1) := by decide +kernel
theorem dX10_isRead_13 : decode cX10_isRead 13 = .ok (.ifCond .eq 61, 3) := by decide +kernel
theorem dX10_isRead_16 : decode cX10_isRead 16 = .ok (.aload_n 0, 1) := by decide +kernel
theorem dX10_isRead_17 : decode cX10_isRead 17 = .ok (.iconst 3, 1) := by decide +kernel
theorem dX10_isRead_18 : decode cX10_isRead 18 = .ok (.aload_n 0, 1) := by decide +kernel
theorem dX10_isRead_19 : decode cX10_isRead 19 = .ok (.getfield 201, 3) := by decide +kernel
theorem dX10_isRead_22 : decode cX10_isRead 22 = .ok (.imul, 1) := by decide +kernel
theorem dX10_isRead_23 : decode cX10_isRead 23 = .ok (.invokevirtual 204, 3) := by decide +kernel
theorem dX10_isRead_26 : decode cX10_isRead 26 = .ok (.ifCond .ne 5, 3) := by decide +kernel
theorem dX10_isRead_29 : decode cX10_isRead 29 = .ok (.iconst 0, 1) := by decide +kernel
theorem dX10_isRead_30 : decode cX10_isRead 30 = .ok (.ireturn, 1) := by decide +kernel
theorem dX10_isRead_31 : decode cX10_isRead 31 = .ok (.aload_n 0, 1) := by decide +kernel
theorem dX10_isRead_32 : decode cX10_isRead 32 = .ok (.dup, 1) := by decide +kernel
theorem dX10_isRead_33 : decode cX10_isRead 33 = .ok (.getfield 201, 3) := by decide +kernel
theorem dX10_isRead_36 : decode cX10_isRead 36 = .ok (.iconst 1, 1) := by decide +kernel
theorem dX10_isRead_37 : decode cX10_isRead 37 = .ok (.iadd, 1) := by decide +kernel
theorem dX10_isRead_38 : decode cX10_isRead 38 = .ok (.putfield 201, 3) := by decide +kernel
theorem dX10_isRead_41 : decode cX10_isRead 41 = .ok (.aload_n 0, 1) := by decide +kernel
theorem dX10_isRead_42 : decode cX10_isRead 42 = .ok (.invokevirtual 177, 3) := by decide +kernel
theorem dX10_isRead_45 : decode cX10_isRead 45 = .ok (.aload_n 0, 1) := by decide +kernel
theorem dX10_isRead_46 : decode cX10_isRead 46 = .ok (.getfield 160, 3) := by decide +kernel
theorem dX10_isRead_49 : decode cX10_isRead 49 = .ok (.ldc2_w 172, 3) := by decide +kernel
theorem dX10_isRead_52 : decode cX10_isRead 52 = .ok (.lcmp, 1) := by decide +kernel
theorem dX10_isRead_53 : decode cX10_isRead 53 = .ok (.ifCond .ne 16, 3) := by decide +kernel
theorem dX10_isRead_56 : decode cX10_isRead 56 = .ok (.aload_n 0, 1) := by decide +kernel
theorem dX10_isRead_57 : decode cX10_isRead 57 = .ok (.getfield 201, 3) := by decide +kernel
theorem dX10_isRead_60 : decode cX10_isRead 60 = .ok (.bipush 10, 2) := by decide +kernel
theorem dX10_isRead_62 : decode cX10_isRead 62 = .ok (.if_icmp .ge 7, 3) := by decide +kernel
theorem dX10_isRead_65 : decode cX10_isRead 65 = .ok (.iconst 1, 1) := by decide +kernel
theorem dX10_isRead_66 : decode cX10_isRead 66 = .ok (.goto 4, 3) := by decide +kernel
theorem dX10_isRead_69 : decode cX10_isRead 69 = .ok (.iconst 0, 1) := by decide +kernel
theorem dX10_isRead_70 : decode cX10_isRead 70 = .ok (.istore_n 1, 1) := by decide +kernel
theorem dX10_isRead_71 : decode cX10_isRead 71 = .ok (.goto (-59), 3) := by decide +kernel
theorem dX10_isRead_74 : decode cX10_isRead 74 = .ok (.aload_n 0, 1) := by decide +kernel
theorem dX10_isRead_75 : decode cX10_isRead 75 = .ok (.getfield 160, 3) := by decide +kernel
theorem dX10_isRead_78 : decode cX10_isRead 78 = .ok (.ldc2_w 158, 3) := by decide +kernel
theorem dX10_isRead_81 : decode cX10_isRead 81 = .ok (.lcmp, 1) := by decide +kernel
theorem dX10_isRead_82 : decode cX10_isRead 82 = .ok (.ifCond .eq 10, 3) := by decide +kernel
theorem dX10_isRead_85 : decode cX10_isRead 85 = .ok (.aload_n 0, 1) := by decide +kernel
theorem dX10_isRead_86 : decode cX10_isRead 86 = .ok (.invokevirtual 180, 3) := by decide +kernel
theorem dX10_isRead_89 : decode cX10_isRead 89 = .ok (.ifCond .eq 7, 3) := by decide +kernel
theorem dX10_isRead_92 : decode cX10_isRead 92 = .ok (.iconst 1, 1) := by decide +kernel
theorem dX10_isRead_93 : decode cX10_isRead 93 = .ok (.goto 4, 3) := by decide +kernel
theorem dX10_isRead_96 : decode cX10_isRead 96 = .ok (.iconst 0, 1) := by decide +kernel
theorem dX10_isRead_97 : decode cX10_isRead 97 = .ok (.ireturn, 1) := by decide +kernel
theorem yd_X10_isRead : yX10_isRead.cls ≠ "java/lang/invoke/MethodHandle" ∧ yX10_isRead.cls ≠ "java/lang/invoke/VarHandle" ∧ (parseMethodDescriptor yX10_isRead.desc).map (fun d => d.parameters.length) = some 0 := by decide +kernel
theorem fl_X10_201_10 : FLk RX10 201 10 27 "I" := ⟨RX10, TX10, 39, "PalaceOfRoomsModel", rfl, by decide, (fun q => by have h1 := q.1; have h2 := q.2; omega), rfl, in_X10, Or.inl q1006, Or.inl rfl⟩
theorem fp_X10_201_10 : FPk RX10 201 10 27 "I" false := ⟨RX10, TX10, 39, "PalaceOfRoomsModel", tyX10, rfl, by decide, (fun q => by have h1 := q.1; have h2 := q.2; omega), rfl, in_X10, tyX10_ok, (fun a ha b hb h => Or.inl (nmX10 a ha b hb h)), rfl, (fun q => by cases q), (Or.inl q1006), Or.inl rfl⟩
abbrev rm_X10_isRead : Room := { frames := 4, cells := 0, slots := 0, locals := 86 }
set_option maxHeartbeats 4000000 in
theorem w_X10_isRead_74 {p : Program} {l : Launch} {e : Env} {s : State} {m : MethodId} {args : Array Value} {below : List Frame} {meth : Method} {c : Code} {g : Gl} (X : FX g p m c s args meth cX10_isRead 2 RX10 (some .boolean) "isRead") {r : Int32 × Hp} {σ : Hp} {x0 : Nat}  {H : Heap} {locs : List Loc} {ls : Array Slot} (h : F_X10_isRead_74 σ x0 = some r) (hV : HV g σ H) (hF : FR g locs) (hl : lv_has ls 2 [(0, .ref x0)]) : W p l e rm_X10_isRead s m args below meth c H locs 0 0 (MQ below (Qi g r) args s 0 0 (frN g)) (F0 m 74 ls []) := by
  unfold F_X10_isRead_74 at h
  refine lv_aload_n X.1 X.2.1 dX10_isRead_74 rfl (lv_at hl 0 rfl) ?_
  refine r_gL X hV fl_X10_160_10 dX10_isRead_75 h (fun v1 h => ?_)
  refine lv_ldc2 (v := (-2)) X.1 X.2.1 X.2.2.2.1 (X.2.2.2.2.1 _ q1214) dX10_isRead_78 ?_
  refine W.lcmp X.1 X.2.1 dX10_isRead_81 ?_
  refine r_ifeq (tgt := 92) X.1 X.2.1 dX10_isRead_82 (by decide) h (fun h => ?_) (fun h => ?_)
  · refine lv_iconst (v := 1) X.1 X.2.1 dX10_isRead_92 (by decide) ?_
    refine lv_goto (tgt := 97) X.1 X.2.1 dX10_isRead_93 (by decide) ?_
    exact r_zret X hV hF h rfl dX10_isRead_97
  · refine lv_aload_n X.1 X.2.1 dX10_isRead_85 rfl (lv_at hl 0 rfl) ?_
    obtain ⟨v2, s1, hc, h⟩ := b2_inv h
    refine r_ci (va_runV (C := RX10) (As := []) (rest := []) (cfX X) (c_X10_fails l hc) (cwV 0 X.2.2.2.2.1 (lw_V q1228 q1230 qs34 q59 q1231) rfl rfl rfl ⟨rfl, yd_X10_fails⟩ ⟨Nat.le_of_ble_eq_true rfl, Nat.le_of_ble_eq_true rfl⟩) (preV X hV (F_X10_fails_g hc) rfl) rfl rfl hl.1 rfl (lv_room (Nat.le_of_ble_eq_true rfl)) dX10_isRead_86 ⟨(Nat.le_of_ble_eq_true rfl), (Nat.le_of_ble_eq_true rfl)⟩) hF (fun H locs hV hF => ?_)
    refine r_ifeq (tgt := 96) X.1 X.2.1 dX10_isRead_89 (by decide) h (fun h => ?_) (fun h => ?_)
    · refine lv_iconst (v := 0) X.1 X.2.1 dX10_isRead_96 (by decide) ?_
      exact r_zret X hV hF h rfl dX10_isRead_97
    · refine lv_iconst (v := 1) X.1 X.2.1 dX10_isRead_92 (by decide) ?_
      refine lv_goto (tgt := 97) X.1 X.2.1 dX10_isRead_93 (by decide) ?_
      exact r_zret X hV hF h rfl dX10_isRead_97
set_option maxHeartbeats 4000000 in
theorem w_X10_isRead_12_b {p : Program} {l : Launch} {e : Env} {s : State} {m : MethodId} {args : Array Value} {below : List Frame} {meth : Method} {c : Code} {g : Gl} (X : FX g p m c s args meth cX10_isRead 2 RX10 (some .boolean) "isRead") {r : Int32 × Hp} {rec12 : Hp × Int32 → Option (Int32 × Hp)} {x0 : Nat} {σ : Hp} {x1 : Int32} (hr12 : ∀ (st : Hp × Int32), rec12 st = some r → ∀ (H : Heap) (locs : List Loc) (ls : Array Slot), HV g st.1 H → FR g locs → lv_has ls 2 [(0, .ref x0), (1, .int st.2)] → W p l e rm_X10_isRead s m args below meth c H locs 0 0 (MQ below (Qi g r) args s 0 0 (frN g)) (F0 m 12 ls [])) {H : Heap} {locs : List Loc} {ls : Array Slot} (h : B_X10_isRead_12 x0 rec12 σ x1 = some r) (hV : HV g σ H) (hF : FR g locs) (hl : lv_has ls 2 [(0, .ref x0), (1, .int x1)]) : W p l e rm_X10_isRead s m args below meth c H locs 0 0 (MQ below (Qi g r) args s 0 0 (frN g)) (F0 m 12 ls []) := by
  unfold B_X10_isRead_12 at h
  refine lv_iload_n X.1 X.2.1 dX10_isRead_12 rfl (lv_at hl 1 rfl) ?_
  refine r_ifeq (tgt := 74) X.1 X.2.1 dX10_isRead_13 (by decide) h (fun h => ?_) (fun h => ?_)
  · exact w_X10_isRead_74 X  h hV hF (lv_sub hl [0] rfl)
  · refine lv_aload_n X.1 X.2.1 dX10_isRead_16 rfl (lv_at hl 0 rfl) ?_
    refine lv_iconst (v := 3) X.1 X.2.1 dX10_isRead_17 (by decide) ?_
    refine lv_aload_n X.1 X.2.1 dX10_isRead_18 rfl (lv_at hl 0 rfl) ?_
    refine r_gI X hV fl_X10_201_10 dX10_isRead_19 h (fun v1 h => ?_)
    refine lv_imul X.1 X.2.1 dX10_isRead_22 ?_
    obtain ⟨v2, s1, hc, h⟩ := b2_inv h
    refine r_ci (va_runV (C := RX10) (As := [.int (3 * v1)]) (rest := []) (cfX X) (c_X10_isLine l hc) (cwV 1 X.2.2.2.2.1 (lw_V q1206 q1208 qs31 q59 q1209) rfl rfl rfl ⟨rfl, yd_X10_isLine⟩ ⟨Nat.le_of_ble_eq_true rfl, Nat.le_of_ble_eq_true rfl⟩) (preV X hV (F_X10_isLine_g hc) rfl) rfl rfl hl.1 rfl (lv_room (Nat.le_of_ble_eq_true rfl)) dX10_isRead_23 ⟨(Nat.le_of_ble_eq_true rfl), (Nat.le_of_ble_eq_true rfl)⟩) hF (fun H locs hV hF => ?_)
    refine r_ifne (tgt := 31) X.1 X.2.1 dX10_isRead_26 (by decide) h (fun h => ?_) (fun h => ?_)
    · refine lv_aload_n X.1 X.2.1 dX10_isRead_31 rfl (lv_at hl 0 rfl) ?_
      refine lv_dup X.1 X.2.1 dX10_isRead_32 rfl ?_
      refine r_gI X hV fl_X10_201_10 dX10_isRead_33 h (fun v3 h => ?_)
      refine lv_iconst (v := 1) X.1 X.2.1 dX10_isRead_36 (by decide) ?_
      refine lv_iadd X.1 X.2.1 dX10_isRead_37 ?_
      refine r_pI X hV hF fp_X10_201_10 (fun q => by cases q) dX10_isRead_38 h (fun s2 H locs hV hF h => ?_)
      refine lv_aload_n X.1 X.2.1 dX10_isRead_41 rfl (lv_at hl 0 rfl) ?_
      obtain ⟨s3, hc, h⟩ := b1_inv h
      refine r_cv (va_runV (C := RX10) (As := []) (rest := []) (cfX X) (c_X10_nextToken l hc) (cwV 0 X.2.2.2.2.1 (lw_V q1210 q1212 qs32 q59 q1213) rfl rfl rfl ⟨rfl, yd_X10_nextToken⟩ ⟨Nat.le_of_ble_eq_true rfl, Nat.le_of_ble_eq_true rfl⟩) (preV X hV (F_X10_nextToken_g hc) rfl) rfl rfl hl.1 rfl (lv_room (Nat.le_of_ble_eq_true rfl)) dX10_isRead_42 ⟨(Nat.le_of_ble_eq_true rfl), (Nat.le_of_ble_eq_true rfl)⟩) hF (fun H locs hV hF => ?_)
      refine lv_aload_n X.1 X.2.1 dX10_isRead_45 rfl (lv_at hl 0 rfl) ?_
      refine r_gL X hV fl_X10_160_10 dX10_isRead_46 h (fun v5 h => ?_)
      refine lv_ldc2 (v := (-3)) X.1 X.2.1 X.2.2.2.1 (X.2.2.2.2.1 _ q1219) dX10_isRead_49 ?_
      refine W.lcmp X.1 X.2.1 dX10_isRead_52 ?_
      refine r_ifne (tgt := 69) X.1 X.2.1 dX10_isRead_53 (by decide) h (fun h => ?_) (fun h => ?_)
      · refine lv_iconst (v := 0) X.1 X.2.1 dX10_isRead_69 (by decide) ?_
        refine lv_istore_n (lv' := [(1, .int 0), (0, .ref x0)]) X.1 X.2.1 dX10_isRead_70 rfl hl (by decide) rfl (fun ls hl => ?_)
        refine lv_goto (tgt := 12) X.1 X.2.1 dX10_isRead_71 (by decide) ?_
        exact hr12 (s3, 0) h _ _ _ hV hF (lv_sub hl [1, 0] rfl)
      · refine lv_aload_n X.1 X.2.1 dX10_isRead_56 rfl (lv_at hl 0 rfl) ?_
        refine r_gI X hV fl_X10_201_10 dX10_isRead_57 h (fun v6 h => ?_)
        refine lv_bipush (v := 10) X.1 X.2.1 dX10_isRead_60 (by decide) ?_
        refine r_ge (tgt := 69) X.1 X.2.1 dX10_isRead_62 (by decide) h (fun h => ?_) (fun h => ?_)
        · refine lv_iconst (v := 0) X.1 X.2.1 dX10_isRead_69 (by decide) ?_
          refine lv_istore_n (lv' := [(1, .int 0), (0, .ref x0)]) X.1 X.2.1 dX10_isRead_70 rfl hl (by decide) rfl (fun ls hl => ?_)
          refine lv_goto (tgt := 12) X.1 X.2.1 dX10_isRead_71 (by decide) ?_
          exact hr12 (s3, 0) h _ _ _ hV hF (lv_sub hl [1, 0] rfl)
        · refine lv_iconst (v := 1) X.1 X.2.1 dX10_isRead_65 (by decide) ?_
          refine lv_goto (tgt := 70) X.1 X.2.1 dX10_isRead_66 (by decide) ?_
          refine lv_istore_n (lv' := [(1, .int 1), (0, .ref x0)]) X.1 X.2.1 dX10_isRead_70 rfl hl (by decide) rfl (fun ls hl => ?_)
          refine lv_goto (tgt := 12) X.1 X.2.1 dX10_isRead_71 (by decide) ?_
          exact hr12 (s3, 1) h _ _ _ hV hF (lv_sub hl [1, 0] rfl)
    · refine lv_iconst (v := 0) X.1 X.2.1 dX10_isRead_29 (by decide) ?_
      exact r_zret X hV hF h rfl dX10_isRead_30
set_option maxHeartbeats 4000000 in
theorem w_X10_isRead_12 {p : Program} {l : Launch} {e : Env} {s : State} {m : MethodId} {args : Array Value} {below : List Frame} {meth : Method} {c : Code} {g : Gl} (X : FX g p m c s args meth cX10_isRead 2 RX10 (some .boolean) "isRead") {r : Int32 × Hp} {x0 : Nat}  : ∀ (n : Nat) (st : Hp × Int32), L_X10_isRead_12 x0 n st = some r → ∀ (H : Heap) (locs : List Loc) (ls : Array Slot), HV g st.1 H → FR g locs → lv_has ls 2 [(0, .ref x0), (1, .int st.2)] → W p l e rm_X10_isRead s m args below meth c H locs 0 0 (MQ below (Qi g r) args s 0 0 (frN g)) (F0 m 12 ls []) := by
  intro n
  induction n with
  | zero =>
    intro st h
    rw [L_X10_isRead_12_0] at h
    cases h
  | succ n ih =>
    intro st h H locs ls hV hF hl
    rw [L_X10_isRead_12_s] at h
    exact w_X10_isRead_12_b X  ih h hV hF hl
set_option maxHeartbeats 4000000 in
theorem c_X10_isRead (l : Launch) {g : Gl} {σ : Hp} {x0 : Nat} {r : Int32 × Hp} (h : F_X10_isRead σ x0 = some r) : Met l yX10_isRead (ws_ yX10_isRead cX10_isRead 2 (some .boolean)) rm_X10_isRead (va_Pc [.ref x0] (WV g σ)) (Qi g r) 0 0 (frN g) := by
  refine ct_of (by decide) (Nat.le_of_ble_eq_true rfl) ?_
  intro p e s m below meth c ls X hV hl
  have hF : FR g [] := FR_nil
  unfold F_X10_isRead at h
  have hl : lv_has ls 2 [(0, .ref x0)] := hl
  have X : FX g p m c s _ meth cX10_isRead 2 RX10 (some .boolean) "isRead" := X
  obtain ⟨-, h⟩ := gd_inv h
  refine lv_aload_n X.1 X.2.1 dX10_isRead_0 rfl (lv_at hl 0 rfl) ?_
  refine lv_iconst (v := 0) X.1 X.2.1 dX10_isRead_1 (by decide) ?_
  refine r_pI X hV hF fp_X10_146_10 (fun q => by cases q) dX10_isRead_2 h (fun s1 H locs hV hF h => ?_)
  refine lv_aload_n X.1 X.2.1 dX10_isRead_5 rfl (lv_at hl 0 rfl) ?_
  refine lv_iconst (v := 0) X.1 X.2.1 dX10_isRead_6 (by decide) ?_
  refine r_pI X hV hF fp_X10_201_10 (fun q => by cases q) dX10_isRead_7 h (fun s2 H locs hV hF h => ?_)
  refine lv_iconst (v := 1) X.1 X.2.1 dX10_isRead_10 (by decide) ?_
  refine lv_istore_n (lv' := [(1, .int 1), (0, .ref x0)]) X.1 X.2.1 dX10_isRead_11 rfl hl (by decide) rfl (fun ls hl => ?_)
  exact w_X10_isRead_12 X  FU (s2, 1) h _ _ _ hV hF (lv_sub hl [1, 0] rfl)
/-! PalaceOfRoomsModel.fault -/
theorem dX10_fault_0 : decode cX10_fault 0 = .ok (.aload_n 0, 1) := by decide +kernel
theorem dX10_fault_1 : decode cX10_fault 1 = .ok (.invokevirtual 207, 3) := by decide +kernel
theorem dX10_fault_4 : decode cX10_fault 4 = .ok (.ifCond .eq 7, 3) := by decide +kernel
theorem dX10_fault_7 : decode cX10_fault 7 = .ok (.iconst (-1), 1) := by decide +kernel
theorem dX10_fault_8 : decode cX10_fault 8 = .ok (.goto 7, 3) := by decide +kernel
theorem dX10_fault_11 : decode cX10_fault 11 = .ok (.aload_n 0, 1) := by decide +kernel
theorem dX10_fault_12 : decode cX10_fault 12 = .ok (.getfield 174, 3) := by decide +kernel
theorem dX10_fault_15 : decode cX10_fault 15 = .ok (.ireturn, 1) := by decide +kernel
theorem yd_X10_fault : yX10_fault.cls ≠ "java/lang/invoke/MethodHandle" ∧ yX10_fault.cls ≠ "java/lang/invoke/VarHandle" ∧ (parseMethodDescriptor yX10_fault.desc).map (fun d => d.parameters.length) = some 0 := by decide +kernel
theorem fl_X10_174_10 : FLk RX10 174 10 26 "I" := ⟨RX10, TX10, 39, "PalaceOfRoomsModel", rfl, by decide, (fun q => by have h1 := q.1; have h2 := q.2; omega), rfl, in_X10, Or.inl q1005, Or.inl rfl⟩
abbrev rm_X10_fault : Room := { frames := 5, cells := 0, slots := 0, locals := 107 }
set_option maxHeartbeats 4000000 in
theorem c_X10_fault (l : Launch) {g : Gl} {σ : Hp} {x0 : Nat} {r : Int32 × Hp} (h : F_X10_fault σ x0 = some r) : Met l yX10_fault (ws_ yX10_fault cX10_fault 1 (some .int)) rm_X10_fault (va_Pc [.ref x0] (WV g σ)) (Qi g r) 0 0 (frN g) := by
  refine ct_of (by decide) (Nat.le_of_ble_eq_true rfl) ?_
  intro p e s m below meth c ls X hV hl
  have hF : FR g [] := FR_nil
  unfold F_X10_fault at h
  have hl : lv_has ls 1 [(0, .ref x0)] := hl
  have X : FX g p m c s _ meth cX10_fault 1 RX10 (some .int) "fault" := X
  obtain ⟨-, h⟩ := gd_inv h
  refine lv_aload_n X.1 X.2.1 dX10_fault_0 rfl (lv_at hl 0 rfl) ?_
  obtain ⟨v1, s1, hc, h⟩ := b2_inv h
  refine r_ci (va_runV (C := RX10) (As := []) (rest := []) (cfX X) (c_X10_isRead l hc) (cwV 0 X.2.2.2.2.1 (lw_V q1202 q1204 qs30 q59 q1205) rfl rfl rfl ⟨rfl, yd_X10_isRead⟩ ⟨Nat.le_of_ble_eq_true rfl, Nat.le_of_ble_eq_true rfl⟩) (preV X hV (F_X10_isRead_g hc) rfl) rfl rfl hl.1 rfl (lv_room (Nat.le_of_ble_eq_true rfl)) dX10_fault_1 ⟨(Nat.le_of_ble_eq_true rfl), (Nat.le_of_ble_eq_true rfl)⟩) hF (fun H locs hV hF => ?_)
  refine r_ifeq (tgt := 11) X.1 X.2.1 dX10_fault_4 (by decide) h (fun h => ?_) (fun h => ?_)
  · refine lv_aload_n X.1 X.2.1 dX10_fault_11 rfl (lv_at hl 0 rfl) ?_
    refine r_gI X hV fl_X10_174_10 dX10_fault_12 h (fun v2 h => ?_)
    exact r_iret X hV hF h dX10_fault_15
  · refine lv_iconst (v := (-1)) X.1 X.2.1 dX10_fault_7 (by decide) ?_
    refine lv_goto (tgt := 15) X.1 X.2.1 dX10_fault_8 (by decide) ?_
    exact r_iret X hV hF h dX10_fault_15
/-! PalaceOfRoomsModel.rules -/
theorem dX10_rules_0 : decode cX10_rules 0 = .ok (.aload_n 0, 1) := by decide +kernel
theorem dX10_rules_1 : decode cX10_rules 1 = .ok (.invokevirtual 207, 3) := by decide +kernel
theorem dX10_rules_4 : decode cX10_rules 4 = .ok (.ifCond .ne 6, 3) := by decide +kernel
theorem dX10_rules_7 : decode cX10_rules 7 = .ok (.bipush (-4), 2) := by decide +kernel
theorem dX10_rules_9 : decode cX10_rules 9 = .ok (.ireturn, 1) := by decide +kernel
theorem dX10_rules_10 : decode cX10_rules 10 = .ok (.iconst 0, 1) := by decide +kernel
theorem dX10_rules_11 : decode cX10_rules 11 = .ok (.istore_n 1, 1) := by decide +kernel
theorem dX10_rules_12 : decode cX10_rules 12 = .ok (.iload_n 1, 1) := by decide +kernel
theorem dX10_rules_13 : decode cX10_rules 13 = .ok (.bipush 30, 2) := by decide +kernel
theorem dX10_rules_15 : decode cX10_rules 15 = .ok (.if_icmp .ge 21, 3) := by decide +kernel
theorem dX10_rules_18 : decode cX10_rules 18 = .ok (.aload_n 0, 1) := by decide +kernel
theorem dX10_rules_19 : decode cX10_rules 19 = .ok (.getfield 68, 3) := by decide +kernel
theorem dX10_rules_22 : decode cX10_rules 22 = .ok (.iload_n 1, 1) := by decide +kernel
theorem dX10_rules_23 : decode cX10_rules 23 = .ok (.aload_n 0, 1) := by decide +kernel
theorem dX10_rules_24 : decode cX10_rules 24 = .ok (.getfield 65, 3) := by decide +kernel
theorem dX10_rules_27 : decode cX10_rules 27 = .ok (.iload_n 1, 1) := by decide +kernel
theorem dX10_rules_28 : decode cX10_rules 28 = .ok (.iaload, 1) := by decide +kernel
theorem dX10_rules_29 : decode cX10_rules 29 = .ok (.iastore, 1) := by decide +kernel
theorem dX10_rules_30 : decode cX10_rules 30 = .ok (.iinc 1 1, 3) := by decide +kernel
theorem dX10_rules_33 : decode cX10_rules 33 = .ok (.goto (-21), 3) := by decide +kernel
theorem dX10_rules_36 : decode cX10_rules 36 = .ok (.aload_n 0, 1) := by decide +kernel
theorem dX10_rules_37 : decode cX10_rules 37 = .ok (.aload_n 0, 1) := by decide +kernel
theorem dX10_rules_38 : decode cX10_rules 38 = .ok (.getfield 201, 3) := by decide +kernel
theorem dX10_rules_41 : decode cX10_rules 41 = .ok (.putfield 210, 3) := by decide +kernel
theorem dX10_rules_44 : decode cX10_rules 44 = .ok (.aload_n 0, 1) := by decide +kernel
theorem dX10_rules_45 : decode cX10_rules 45 = .ok (.iconst 0, 1) := by decide +kernel
theorem dX10_rules_46 : decode cX10_rules 46 = .ok (.putfield 141, 3) := by decide +kernel
theorem dX10_rules_49 : decode cX10_rules 49 = .ok (.aload_n 0, 1) := by decide +kernel
theorem dX10_rules_50 : decode cX10_rules 50 = .ok (.getfield 210, 3) := by decide +kernel
theorem dX10_rules_53 : decode cX10_rules 53 = .ok (.ireturn, 1) := by decide +kernel
theorem yd_X10_rules : yX10_rules.cls ≠ "java/lang/invoke/MethodHandle" ∧ yX10_rules.cls ≠ "java/lang/invoke/VarHandle" ∧ (parseMethodDescriptor yX10_rules.desc).map (fun d => d.parameters.length) = some 0 := by decide +kernel
theorem fp_X10_210_10 : FPk RX10 210 10 29 "I" false := ⟨RX10, TX10, 39, "PalaceOfRoomsModel", tyX10, rfl, by decide, (fun q => by have h1 := q.1; have h2 := q.2; omega), rfl, in_X10, tyX10_ok, (fun a ha b hb h => Or.inl (nmX10 a ha b hb h)), rfl, (fun q => by cases q), (Or.inl q1008), Or.inl rfl⟩
theorem fl_X10_210_10 : FLk RX10 210 10 29 "I" := ⟨RX10, TX10, 39, "PalaceOfRoomsModel", rfl, by decide, (fun q => by have h1 := q.1; have h2 := q.2; omega), rfl, in_X10, Or.inl q1008, Or.inl rfl⟩
theorem fl_X10_68_10 : FLk RX10 68 10 30 "[I" := ⟨RX10, TX10, 39, "PalaceOfRoomsModel", rfl, by decide, (fun q => by have h1 := q.1; have h2 := q.2; omega), rfl, in_X10, Or.inl q1009, Or.inl rfl⟩
abbrev rm_X10_rules : Room := { frames := 5, cells := 0, slots := 0, locals := 107 }
set_option maxHeartbeats 4000000 in
theorem w_X10_rules_36 {p : Program} {l : Launch} {e : Env} {s : State} {m : MethodId} {args : Array Value} {below : List Frame} {meth : Method} {c : Code} {g : Gl} (X : FX g p m c s args meth cX10_rules 2 RX10 (some .int) "rules") {r : Int32 × Hp} {σ : Hp} {x0 : Nat}  {H : Heap} {locs : List Loc} {ls : Array Slot} (h : F_X10_rules_36 σ x0 = some r) (hV : HV g σ H) (hF : FR g locs) (hl : lv_has ls 2 [(0, .ref x0)]) : W p l e rm_X10_rules s m args below meth c H locs 0 0 (MQ below (Qi g r) args s 0 0 (frN g)) (F0 m 36 ls []) := by
  unfold F_X10_rules_36 at h
  refine lv_aload_n X.1 X.2.1 dX10_rules_36 rfl (lv_at hl 0 rfl) ?_
  refine lv_aload_n X.1 X.2.1 dX10_rules_37 rfl (lv_at hl 0 rfl) ?_
  refine r_gI X hV fl_X10_201_10 dX10_rules_38 h (fun v1 h => ?_)
  refine r_pI X hV hF fp_X10_210_10 (fun q => by cases q) dX10_rules_41 h (fun s1 H locs hV hF h => ?_)
  refine lv_aload_n X.1 X.2.1 dX10_rules_44 rfl (lv_at hl 0 rfl) ?_
  refine lv_iconst (v := 0) X.1 X.2.1 dX10_rules_45 (by decide) ?_
  refine r_pI X hV hF fp_X10_141_10 (fun q => by cases q) dX10_rules_46 h (fun s2 H locs hV hF h => ?_)
  refine lv_aload_n X.1 X.2.1 dX10_rules_49 rfl (lv_at hl 0 rfl) ?_
  refine r_gI X hV fl_X10_210_10 dX10_rules_50 h (fun v2 h => ?_)
  exact r_iret X hV hF h dX10_rules_53
set_option maxHeartbeats 4000000 in
theorem w_X10_rules_12_b {p : Program} {l : Launch} {e : Env} {s : State} {m : MethodId} {args : Array Value} {below : List Frame} {meth : Method} {c : Code} {g : Gl} (X : FX g p m c s args meth cX10_rules 2 RX10 (some .int) "rules") {r : Int32 × Hp} {rec12 : Hp × Int32 → Option (Int32 × Hp)} {x0 : Nat} {σ : Hp} {x1 : Int32} (hr12 : ∀ (st : Hp × Int32), rec12 st = some r → ∀ (H : Heap) (locs : List Loc) (ls : Array Slot), HV g st.1 H → FR g locs → lv_has ls 2 [(0, .ref x0), (1, .int st.2)] → W p l e rm_X10_rules s m args below meth c H locs 0 0 (MQ below (Qi g r) args s 0 0 (frN g)) (F0 m 12 ls [])) {H : Heap} {locs : List Loc} {ls : Array Slot} (h : B_X10_rules_12 x0 rec12 σ x1 = some r) (hV : HV g σ H) (hF : FR g locs) (hl : lv_has ls 2 [(0, .ref x0), (1, .int x1)]) : W p l e rm_X10_rules s m args below meth c H locs 0 0 (MQ below (Qi g r) args s 0 0 (frN g)) (F0 m 12 ls []) := by
  unfold B_X10_rules_12 at h
  refine lv_iload_n X.1 X.2.1 dX10_rules_12 rfl (lv_at hl 1 rfl) ?_
  refine lv_bipush (v := 30) X.1 X.2.1 dX10_rules_13 (by decide) ?_
  refine r_ge (tgt := 36) X.1 X.2.1 dX10_rules_15 (by decide) h (fun h => ?_) (fun h => ?_)
  · exact w_X10_rules_36 X  h hV hF (lv_sub hl [0] rfl)
  · refine lv_aload_n X.1 X.2.1 dX10_rules_18 rfl (lv_at hl 0 rfl) ?_
    refine r_gR X hV fl_X10_68_10 (by decide) dX10_rules_19 h (fun v1 h => ?_)
    refine lv_iload_n X.1 X.2.1 dX10_rules_22 rfl (lv_at hl 1 rfl) ?_
    refine lv_aload_n X.1 X.2.1 dX10_rules_23 rfl (lv_at hl 0 rfl) ?_
    refine r_gR X hV fl_X10_65_10 (by decide) dX10_rules_24 h (fun v2 h => ?_)
    refine lv_iload_n X.1 X.2.1 dX10_rules_27 rfl (lv_at hl 1 rfl) ?_
    refine r_ia X hV dX10_rules_28 h (fun v3 h => ?_)
    refine r_is X hV hF dX10_rules_29 h (fun s1 H locs hV hF h => ?_)
    refine lv_iinc (v := x1 + 1) (lv' := [(1, .int (x1 + 1)), (0, .ref x0)]) X.1 X.2.1 dX10_rules_30 hl (k := 1) rfl rfl (by decide) rfl (fun ls hl => ?_)
    refine lv_goto (tgt := 12) X.1 X.2.1 dX10_rules_33 (by decide) ?_
    exact hr12 (s1, x1 + 1) h _ _ _ hV hF (lv_sub hl [1, 0] rfl)
set_option maxHeartbeats 4000000 in
theorem w_X10_rules_12 {p : Program} {l : Launch} {e : Env} {s : State} {m : MethodId} {args : Array Value} {below : List Frame} {meth : Method} {c : Code} {g : Gl} (X : FX g p m c s args meth cX10_rules 2 RX10 (some .int) "rules") {r : Int32 × Hp} {x0 : Nat}  : ∀ (n : Nat) (st : Hp × Int32), L_X10_rules_12 x0 n st = some r → ∀ (H : Heap) (locs : List Loc) (ls : Array Slot), HV g st.1 H → FR g locs → lv_has ls 2 [(0, .ref x0), (1, .int st.2)] → W p l e rm_X10_rules s m args below meth c H locs 0 0 (MQ below (Qi g r) args s 0 0 (frN g)) (F0 m 12 ls []) := by
  intro n
  induction n with
  | zero =>
    intro st h
    rw [L_X10_rules_12_0] at h
    cases h
  | succ n ih =>
    intro st h H locs ls hV hF hl
    rw [L_X10_rules_12_s] at h
    exact w_X10_rules_12_b X  ih h hV hF hl
set_option maxHeartbeats 4000000 in
theorem c_X10_rules (l : Launch) {g : Gl} {σ : Hp} {x0 : Nat} {r : Int32 × Hp} (h : F_X10_rules σ x0 = some r) : Met l yX10_rules (ws_ yX10_rules cX10_rules 2 (some .int)) rm_X10_rules (va_Pc [.ref x0] (WV g σ)) (Qi g r) 0 0 (frN g) := by
  refine ct_of (by decide) (Nat.le_of_ble_eq_true rfl) ?_
  intro p e s m below meth c ls X hV hl
  have hF : FR g [] := FR_nil
  unfold F_X10_rules at h
  have hl : lv_has ls 2 [(0, .ref x0)] := hl
  have X : FX g p m c s _ meth cX10_rules 2 RX10 (some .int) "rules" := X
  obtain ⟨-, h⟩ := gd_inv h
  refine lv_aload_n X.1 X.2.1 dX10_rules_0 rfl (lv_at hl 0 rfl) ?_
  obtain ⟨v1, s1, hc, h⟩ := b2_inv h
  refine r_ci (va_runV (C := RX10) (As := []) (rest := []) (cfX X) (c_X10_isRead l hc) (cwV 0 X.2.2.2.2.1 (lw_V q1202 q1204 qs30 q59 q1205) rfl rfl rfl ⟨rfl, yd_X10_isRead⟩ ⟨Nat.le_of_ble_eq_true rfl, Nat.le_of_ble_eq_true rfl⟩) (preV X hV (F_X10_isRead_g hc) rfl) rfl rfl hl.1 rfl (lv_room (Nat.le_of_ble_eq_true rfl)) dX10_rules_1 ⟨(Nat.le_of_ble_eq_true rfl), (Nat.le_of_ble_eq_true rfl)⟩) hF (fun H locs hV hF => ?_)
  refine r_ifne (tgt := 10) X.1 X.2.1 dX10_rules_4 (by decide) h (fun h => ?_) (fun h => ?_)
  · refine lv_iconst (v := 0) X.1 X.2.1 dX10_rules_10 (by decide) ?_
    refine lv_istore_n (lv' := [(1, .int 0), (0, .ref x0)]) X.1 X.2.1 dX10_rules_11 rfl hl (by decide) rfl (fun ls hl => ?_)
    exact w_X10_rules_12 X  FU (s1, 0) h _ _ _ hV hF (lv_sub hl [1, 0] rfl)
  · refine lv_bipush (v := (-4)) X.1 X.2.1 dX10_rules_7 (by decide) ?_
    exact r_iret X hV hF h dX10_rules_9
/-! PalaceOfRoomsModel.standIn -/
theorem dX10_standIn_0 : decode cX10_standIn 0 = .ok (.iconst 0, 1) := by decide +kernel
theorem dX10_standIn_1 : decode cX10_standIn 1 = .ok (.istore_n 2, 1) := by decide +kernel
theorem dX10_standIn_2 : decode cX10_standIn 2 = .ok (.bipush 6, 2) := by decide +kernel
theorem dX10_standIn_4 : decode cX10_standIn 4 = .ok (.iload_n 1, 1) := by decide +kernel
theorem dX10_standIn_5 : decode cX10_standIn 5 = .ok (.imul, 1) := by decide +kernel
theorem dX10_standIn_6 : decode cX10_standIn 6 = .ok (.istore_n 3, 1) := by decide +kernel
theorem dX10_standIn_7 : decode cX10_standIn 7 = .ok (.iload_n 3, 1) := by decide +kernel
theorem dX10_standIn_8 : decode cX10_standIn 8 = .ok (.bipush 6, 2) := by decide +kernel
theorem dX10_standIn_10 : decode cX10_standIn 10 = .ok (.iload_n 1, 1) := by decide +kernel
theorem dX10_standIn_11 : decode cX10_standIn 11 = .ok (.imul, 1) := by decide +kernel
theorem dX10_standIn_12 : decode cX10_standIn 12 = .ok (.bipush 6, 2) := by decide +kernel
theorem dX10_standIn_14 : decode cX10_standIn 14 = .ok (.iadd, 1) := by decide +kernel
theorem dX10_standIn_15 : decode cX10_standIn 15 = .ok (.if_icmp .ge 27, 3) := by decide +kernel
theorem dX10_standIn_18 : decode cX10_standIn 18 = .ok (.iload_n 2, 1) := by decide +kernel
theorem dX10_standIn_19 : decode cX10_standIn 19 = .ok (.aload_n 0, 1) := by decide +kernel
theorem dX10_standIn_20 : decode cX10_standIn 20 = .ok (.getfield 32, 3) := by decide +kernel
theorem dX10_standIn_23 : decode cX10_standIn 23 = .ok (.iload_n 3, 1) := by decide +kernel
theorem dX10_standIn_24 : decode cX10_standIn 24 = .ok (.iaload, 1) := by decide +kernel
theorem dX10_standIn_25 : decode cX10_standIn 25 = .ok (.iconst (-1), 1) := by decide +kernel
theorem dX10_standIn_26 : decode cX10_standIn 26 = .ok (.if_icmp .ne 7, 3) := by decide +kernel
theorem dX10_standIn_29 : decode cX10_standIn 29 = .ok (.iconst 0, 1) := by decide +kernel
theorem dX10_standIn_30 : decode cX10_standIn 30 = .ok (.goto 4, 3) := by decide +kernel
theorem dX10_standIn_33 : decode cX10_standIn 33 = .ok (.iconst 1, 1) := by decide +kernel
theorem dX10_standIn_34 : decode cX10_standIn 34 = .ok (.iadd, 1) := by decide +kernel
theorem dX10_standIn_35 : decode cX10_standIn 35 = .ok (.istore_n 2, 1) := by decide +kernel
theorem dX10_standIn_36 : decode cX10_standIn 36 = .ok (.iinc 3 1, 3) := by decide +kernel
theorem dX10_standIn_39 : decode cX10_standIn 39 = .ok (.goto (-32), 3) := by decide +kernel
theorem dX10_standIn_42 : decode cX10_standIn 42 = .ok (.iload_n 2, 1) := by decide +kernel
theorem dX10_standIn_43 : decode cX10_standIn 43 = .ok (.ireturn, 1) := by decide +kernel
theorem yd_X10_standIn : yX10_standIn.cls ≠ "java/lang/invoke/MethodHandle" ∧ yX10_standIn.cls ≠ "java/lang/invoke/VarHandle" ∧ (parseMethodDescriptor yX10_standIn.desc).map (fun d => d.parameters.length) = some 1 := by decide +kernel
abbrev rm_X10_standIn : Room := { frames := 0, cells := 0, slots := 0, locals := 0 }
set_option maxHeartbeats 4000000 in
theorem w_X10_standIn_7_b {p : Program} {l : Launch} {e : Env} {s : State} {m : MethodId} {args : Array Value} {below : List Frame} {meth : Method} {c : Code} {g : Gl} (X : FX g p m c s args meth cX10_standIn 4 RX10 (some .int) "standIn") {r : Int32 × Hp} {rec7 : Int32 × Int32 → Option (Int32 × Hp)} {σ : Hp} {x0 : Nat} {x1 : Int32} {x2 : Int32} {x3 : Int32} (hr7 : ∀ (st : Int32 × Int32), rec7 st = some r → ∀ (H : Heap) (locs : List Loc) (ls : Array Slot), HV g σ H → FR g locs → lv_has ls 4 [(0, .ref x0), (1, .int x1), (2, .int st.1), (3, .int st.2)] → W p l e rm_X10_standIn s m args below meth c H locs 0 0 (MQ below (Qi g r) args s 0 0 (frN g)) (F0 m 7 ls [])) {H : Heap} {locs : List Loc} {ls : Array Slot} (h : B_X10_standIn_7 σ x0 x1 rec7 x2 x3 = some r) (hV : HV g σ H) (hF : FR g locs) (hl : lv_has ls 4 [(0, .ref x0), (1, .int x1), (2, .int x2), (3, .int x3)]) : W p l e rm_X10_standIn s m args below meth c H locs 0 0 (MQ below (Qi g r) args s 0 0 (frN g)) (F0 m 7 ls []) := by
  unfold B_X10_standIn_7 at h
  refine lv_iload_n X.1 X.2.1 dX10_standIn_7 rfl (lv_at hl 3 rfl) ?_
  refine lv_bipush (v := 6) X.1 X.2.1 dX10_standIn_8 (by decide) ?_
  refine lv_iload_n X.1 X.2.1 dX10_standIn_10 rfl (lv_at hl 1 rfl) ?_
  refine lv_imul X.1 X.2.1 dX10_standIn_11 ?_
  refine lv_bipush (v := 6) X.1 X.2.1 dX10_standIn_12 (by decide) ?_
  refine lv_iadd X.1 X.2.1 dX10_standIn_14 ?_
  refine r_ge (tgt := 42) X.1 X.2.1 dX10_standIn_15 (by decide) h (fun h => ?_) (fun h => ?_)
  · refine lv_iload_n X.1 X.2.1 dX10_standIn_42 rfl (lv_at hl 2 rfl) ?_
    exact r_iret X hV hF h dX10_standIn_43
  · refine lv_iload_n X.1 X.2.1 dX10_standIn_18 rfl (lv_at hl 2 rfl) ?_
    refine lv_aload_n X.1 X.2.1 dX10_standIn_19 rfl (lv_at hl 0 rfl) ?_
    refine r_gR X hV fl_X10_32_10 (by decide) dX10_standIn_20 h (fun v1 h => ?_)
    refine lv_iload_n X.1 X.2.1 dX10_standIn_23 rfl (lv_at hl 3 rfl) ?_
    refine r_ia X hV dX10_standIn_24 h (fun v2 h => ?_)
    refine lv_iconst (v := (-1)) X.1 X.2.1 dX10_standIn_25 (by decide) ?_
    refine r_ne (tgt := 33) X.1 X.2.1 dX10_standIn_26 (by decide) h (fun h => ?_) (fun h => ?_)
    · refine lv_iconst (v := 1) X.1 X.2.1 dX10_standIn_33 (by decide) ?_
      refine lv_iadd X.1 X.2.1 dX10_standIn_34 ?_
      refine lv_istore_n (lv' := [(2, .int (x2 + 1)), (0, .ref x0), (1, .int x1), (3, .int x3)]) X.1 X.2.1 dX10_standIn_35 rfl hl (by decide) rfl (fun ls hl => ?_)
      refine lv_iinc (v := x3 + 1) (lv' := [(3, .int (x3 + 1)), (2, .int (x2 + 1)), (0, .ref x0), (1, .int x1)]) X.1 X.2.1 dX10_standIn_36 hl (k := 3) rfl rfl (by decide) rfl (fun ls hl => ?_)
      refine lv_goto (tgt := 7) X.1 X.2.1 dX10_standIn_39 (by decide) ?_
      exact hr7 (x2 + 1, x3 + 1) h _ _ _ hV hF (lv_sub hl [2, 3, 1, 0] rfl)
    · refine lv_iconst (v := 0) X.1 X.2.1 dX10_standIn_29 (by decide) ?_
      refine lv_goto (tgt := 34) X.1 X.2.1 dX10_standIn_30 (by decide) ?_
      refine lv_iadd X.1 X.2.1 dX10_standIn_34 ?_
      refine lv_istore_n (lv' := [(2, .int (x2 + 0)), (0, .ref x0), (1, .int x1), (3, .int x3)]) X.1 X.2.1 dX10_standIn_35 rfl hl (by decide) rfl (fun ls hl => ?_)
      refine lv_iinc (v := x3 + 1) (lv' := [(3, .int (x3 + 1)), (2, .int (x2 + 0)), (0, .ref x0), (1, .int x1)]) X.1 X.2.1 dX10_standIn_36 hl (k := 3) rfl rfl (by decide) rfl (fun ls hl => ?_)
      refine lv_goto (tgt := 7) X.1 X.2.1 dX10_standIn_39 (by decide) ?_
      exact hr7 (x2 + 0, x3 + 1) h _ _ _ hV hF (lv_sub hl [2, 3, 1, 0] rfl)
set_option maxHeartbeats 4000000 in
theorem w_X10_standIn_7 {p : Program} {l : Launch} {e : Env} {s : State} {m : MethodId} {args : Array Value} {below : List Frame} {meth : Method} {c : Code} {g : Gl} (X : FX g p m c s args meth cX10_standIn 4 RX10 (some .int) "standIn") {r : Int32 × Hp} {σ : Hp} {x0 : Nat} {x1 : Int32}  : ∀ (n : Nat) (st : Int32 × Int32), L_X10_standIn_7 σ x0 x1 n st = some r → ∀ (H : Heap) (locs : List Loc) (ls : Array Slot), HV g σ H → FR g locs → lv_has ls 4 [(0, .ref x0), (1, .int x1), (2, .int st.1), (3, .int st.2)] → W p l e rm_X10_standIn s m args below meth c H locs 0 0 (MQ below (Qi g r) args s 0 0 (frN g)) (F0 m 7 ls []) := by
  intro n
  induction n with
  | zero =>
    intro st h
    rw [L_X10_standIn_7_0] at h
    cases h
  | succ n ih =>
    intro st h H locs ls hV hF hl
    rw [L_X10_standIn_7_s] at h
    exact w_X10_standIn_7_b X  ih h hV hF hl
set_option maxHeartbeats 4000000 in
theorem c_X10_standIn (l : Launch) {g : Gl} {σ : Hp} {x0 : Nat} {x1 : Int32} {r : Int32 × Hp} (h : F_X10_standIn σ x0 x1 = some r) : Met l yX10_standIn (ws_ yX10_standIn cX10_standIn 4 (some .int)) rm_X10_standIn (va_Pc [.ref x0, .int x1] (WV g σ)) (Qi g r) 0 0 (frN g) := by
  refine ct_of (by decide) (Nat.le_of_ble_eq_true rfl) ?_
  intro p e s m below meth c ls X hV hl
  have hF : FR g [] := FR_nil
  unfold F_X10_standIn at h
  have hl : lv_has ls 4 [(0, .ref x0), (1, .int x1)] := hl
  have X : FX g p m c s _ meth cX10_standIn 4 RX10 (some .int) "standIn" := X
  obtain ⟨-, h⟩ := gd_inv h
  refine lv_iconst (v := 0) X.1 X.2.1 dX10_standIn_0 (by decide) ?_
  refine lv_istore_n (lv' := [(2, .int 0), (0, .ref x0), (1, .int x1)]) X.1 X.2.1 dX10_standIn_1 rfl hl (by decide) rfl (fun ls hl => ?_)
  refine lv_bipush (v := 6) X.1 X.2.1 dX10_standIn_2 (by decide) ?_
  refine lv_iload_n X.1 X.2.1 dX10_standIn_4 rfl (lv_at hl 2 rfl) ?_
  refine lv_imul X.1 X.2.1 dX10_standIn_5 ?_
  refine lv_istore_n (lv' := [(3, .int (6 * x1)), (2, .int 0), (0, .ref x0), (1, .int x1)]) X.1 X.2.1 dX10_standIn_6 rfl hl (by decide) rfl (fun ls hl => ?_)
  exact w_X10_standIn_7 X  FU (0, 6 * x1) h _ _ _ hV hF (lv_sub hl [2, 3, 1, 0] rfl)
/-! PalaceOfRoomsModel.lastOf -/
theorem dX10_lastOf_0 : decode cX10_lastOf 0 = .ok (.iload_n 3, 1) := by decide +kernel
theorem dX10_lastOf_1 : decode cX10_lastOf 1 = .ok (.istore 4, 2) := by decide +kernel
theorem dX10_lastOf_3 : decode cX10_lastOf 3 = .ok (.iconst 0, 1) := by decide +kernel
theorem dX10_lastOf_4 : decode cX10_lastOf 4 = .ok (.istore 5, 2) := by decide +kernel
theorem dX10_lastOf_6 : decode cX10_lastOf 6 = .ok (.iload 5, 2) := by decide +kernel
theorem dX10_lastOf_8 : decode cX10_lastOf 8 = .ok (.aload_n 0, 1) := by decide +kernel
theorem dX10_lastOf_9 : decode cX10_lastOf 9 = .ok (.getfield 210, 3) := by decide +kernel
theorem dX10_lastOf_12 : decode cX10_lastOf 12 = .ok (.if_icmp .ge 55, 3) := by decide +kernel
theorem dX10_lastOf_15 : decode cX10_lastOf 15 = .ok (.aload_n 0, 1) := by decide +kernel
theorem dX10_lastOf_16 : decode cX10_lastOf 16 = .ok (.getfield 68, 3) := by decide +kernel
theorem dX10_lastOf_19 : decode cX10_lastOf 19 = .ok (.iconst 3, 1) := by decide +kernel
theorem dX10_lastOf_20 : decode cX10_lastOf 20 = .ok (.iload 5, 2) := by decide +kernel
theorem dX10_lastOf_22 : decode cX10_lastOf 22 = .ok (.imul, 1) := by decide +kernel
theorem dX10_lastOf_23 : decode cX10_lastOf 23 = .ok (.iaload, 1) := by decide +kernel
theorem dX10_lastOf_24 : decode cX10_lastOf 24 = .ok (.iload_n 1, 1) := by decide +kernel
theorem dX10_lastOf_25 : decode cX10_lastOf 25 = .ok (.if_icmp .ne 32, 3) := by decide +kernel
theorem dX10_lastOf_28 : decode cX10_lastOf 28 = .ok (.aload_n 0, 1) := by decide +kernel
theorem dX10_lastOf_29 : decode cX10_lastOf 29 = .ok (.getfield 68, 3) := by decide +kernel
theorem dX10_lastOf_32 : decode cX10_lastOf 32 = .ok (.iconst 3, 1) := by decide +kernel
theorem dX10_lastOf_33 : decode cX10_lastOf 33 = .ok (.iload 5, 2) := by decide +kernel
theorem dX10_lastOf_35 : decode cX10_lastOf 35 = .ok (.imul, 1) := by decide +kernel
theorem dX10_lastOf_36 : decode cX10_lastOf 36 = .ok (.iconst 1, 1) := by decide +kernel
theorem dX10_lastOf_37 : decode cX10_lastOf 37 = .ok (.iadd, 1) := by decide +kernel
theorem dX10_lastOf_38 : decode cX10_lastOf 38 = .ok (.iaload, 1) := by decide +kernel
theorem dX10_lastOf_39 : decode cX10_lastOf 39 = .ok (.iload_n 2, 1) := by decide +kernel
theorem dX10_lastOf_40 : decode cX10_lastOf 40 = .ok (.if_icmp .ne 17, 3) := by decide +kernel
theorem dX10_lastOf_43 : decode cX10_lastOf 43 = .ok (.aload_n 0, 1) := by decide +kernel
theorem dX10_lastOf_44 : decode cX10_lastOf 44 = .ok (.getfield 68, 3) := by decide +kernel
theorem dX10_lastOf_47 : decode cX10_lastOf 47 = .ok (.iconst 3, 1) := by decide +kernel
theorem dX10_lastOf_48 : decode cX10_lastOf 48 = .ok (.iload 5, 2) := by decide +kernel
theorem dX10_lastOf_50 : decode cX10_lastOf 50 = .ok (.imul, 1) := by decide +kernel
theorem dX10_lastOf_51 : decode cX10_lastOf 51 = .ok (.iconst 2, 1) := by decide +kernel
theorem dX10_lastOf_52 : decode cX10_lastOf 52 = .ok (.iadd, 1) := by decide +kernel
theorem dX10_lastOf_53 : decode cX10_lastOf 53 = .ok (.iaload, 1) := by decide +kernel
theorem dX10_lastOf_54 : decode cX10_lastOf 54 = .ok (.goto 5, 3) := by decide +kernel
theorem dX10_lastOf_57 : decode cX10_lastOf 57 = .ok (.iload 4, 2) := by decide +kernel
theorem dX10_lastOf_59 : decode cX10_lastOf 59 = .ok (.istore 4, 2) := by decide +kernel
theorem dX10_lastOf_61 : decode cX10_lastOf 61 = .ok (.iinc 5 1, 3) := by decide +kernel
theorem dX10_lastOf_64 : decode cX10_lastOf 64 = .ok (.goto (-58), 3) := by decide +kernel
theorem dX10_lastOf_67 : decode cX10_lastOf 67 = .ok (.iload 4, 2) := by decide +kernel
theorem dX10_lastOf_69 : decode cX10_lastOf 69 = .ok (.ireturn, 1) := by decide +kernel
theorem yd_X10_lastOf : yX10_lastOf.cls ≠ "java/lang/invoke/MethodHandle" ∧ yX10_lastOf.cls ≠ "java/lang/invoke/VarHandle" ∧ (parseMethodDescriptor yX10_lastOf.desc).map (fun d => d.parameters.length) = some 3 := by decide +kernel
abbrev rm_X10_lastOf : Room := { frames := 0, cells := 0, slots := 0, locals := 0 }
set_option maxHeartbeats 4000000 in
theorem w_X10_lastOf_6_b {p : Program} {l : Launch} {e : Env} {s : State} {m : MethodId} {args : Array Value} {below : List Frame} {meth : Method} {c : Code} {g : Gl} (X : FX g p m c s args meth cX10_lastOf 6 RX10 (some .int) "lastOf") {r : Int32 × Hp} {rec6 : Int32 × Int32 → Option (Int32 × Hp)} {σ : Hp} {x0 : Nat} {x1 : Int32} {x2 : Int32} {x4 : Int32} {x5 : Int32} (hr6 : ∀ (st : Int32 × Int32), rec6 st = some r → ∀ (H : Heap) (locs : List Loc) (ls : Array Slot), HV g σ H → FR g locs → lv_has ls 6 [(0, .ref x0), (1, .int x1), (2, .int x2), (4, .int st.1), (5, .int st.2)] → W p l e rm_X10_lastOf s m args below meth c H locs 0 0 (MQ below (Qi g r) args s 0 0 (frN g)) (F0 m 6 ls [])) {H : Heap} {locs : List Loc} {ls : Array Slot} (h : B_X10_lastOf_6 σ x0 x1 x2 rec6 x4 x5 = some r) (hV : HV g σ H) (hF : FR g locs) (hl : lv_has ls 6 [(0, .ref x0), (1, .int x1), (2, .int x2), (4, .int x4), (5, .int x5)]) : W p l e rm_X10_lastOf s m args below meth c H locs 0 0 (MQ below (Qi g r) args s 0 0 (frN g)) (F0 m 6 ls []) := by
  unfold B_X10_lastOf_6 at h
  refine lv_iload X.1 X.2.1 dX10_lastOf_6 (lv_at hl 4 rfl) ?_
  refine lv_aload_n X.1 X.2.1 dX10_lastOf_8 rfl (lv_at hl 0 rfl) ?_
  refine r_gI X hV fl_X10_210_10 dX10_lastOf_9 h (fun v1 h => ?_)
  refine r_ge (tgt := 67) X.1 X.2.1 dX10_lastOf_12 (by decide) h (fun h => ?_) (fun h => ?_)
  · refine lv_iload X.1 X.2.1 dX10_lastOf_67 (lv_at hl 3 rfl) ?_
    exact r_iret X hV hF h dX10_lastOf_69
  · refine lv_aload_n X.1 X.2.1 dX10_lastOf_15 rfl (lv_at hl 0 rfl) ?_
    refine r_gR X hV fl_X10_68_10 (by decide) dX10_lastOf_16 h (fun v2 h => ?_)
    refine lv_iconst (v := 3) X.1 X.2.1 dX10_lastOf_19 (by decide) ?_
    refine lv_iload X.1 X.2.1 dX10_lastOf_20 (lv_at hl 4 rfl) ?_
    refine lv_imul X.1 X.2.1 dX10_lastOf_22 ?_
    refine r_ia X hV dX10_lastOf_23 h (fun v3 h => ?_)
    refine lv_iload_n X.1 X.2.1 dX10_lastOf_24 rfl (lv_at hl 1 rfl) ?_
    refine r_ne (tgt := 57) X.1 X.2.1 dX10_lastOf_25 (by decide) h (fun h => ?_) (fun h => ?_)
    · refine lv_iload X.1 X.2.1 dX10_lastOf_57 (lv_at hl 3 rfl) ?_
      refine lv_istore (lv' := [(4, .int x4), (0, .ref x0), (1, .int x1), (2, .int x2), (5, .int x5)]) X.1 X.2.1 dX10_lastOf_59 hl (by decide) rfl (fun ls hl => ?_)
      refine lv_iinc (v := x5 + 1) (lv' := [(5, .int (x5 + 1)), (4, .int x4), (0, .ref x0), (1, .int x1), (2, .int x2)]) X.1 X.2.1 dX10_lastOf_61 hl (k := 4) rfl rfl (by decide) rfl (fun ls hl => ?_)
      refine lv_goto (tgt := 6) X.1 X.2.1 dX10_lastOf_64 (by decide) ?_
      exact hr6 (x4, x5 + 1) h _ _ _ hV hF (lv_sub hl [2, 3, 4, 1, 0] rfl)
    · refine lv_aload_n X.1 X.2.1 dX10_lastOf_28 rfl (lv_at hl 0 rfl) ?_
      refine r_gR X hV fl_X10_68_10 (by decide) dX10_lastOf_29 h (fun v4 h => ?_)
      refine lv_iconst (v := 3) X.1 X.2.1 dX10_lastOf_32 (by decide) ?_
      refine lv_iload X.1 X.2.1 dX10_lastOf_33 (lv_at hl 4 rfl) ?_
      refine lv_imul X.1 X.2.1 dX10_lastOf_35 ?_
      refine lv_iconst (v := 1) X.1 X.2.1 dX10_lastOf_36 (by decide) ?_
      refine lv_iadd X.1 X.2.1 dX10_lastOf_37 ?_
      refine r_ia X hV dX10_lastOf_38 h (fun v5 h => ?_)
      refine lv_iload_n X.1 X.2.1 dX10_lastOf_39 rfl (lv_at hl 2 rfl) ?_
      refine r_ne (tgt := 57) X.1 X.2.1 dX10_lastOf_40 (by decide) h (fun h => ?_) (fun h => ?_)
      · refine lv_iload X.1 X.2.1 dX10_lastOf_57 (lv_at hl 3 rfl) ?_
        refine lv_istore (lv' := [(4, .int x4), (0, .ref x0), (1, .int x1), (2, .int x2), (5, .int x5)]) X.1 X.2.1 dX10_lastOf_59 hl (by decide) rfl (fun ls hl => ?_)
        refine lv_iinc (v := x5 + 1) (lv' := [(5, .int (x5 + 1)), (4, .int x4), (0, .ref x0), (1, .int x1), (2, .int x2)]) X.1 X.2.1 dX10_lastOf_61 hl (k := 4) rfl rfl (by decide) rfl (fun ls hl => ?_)
        refine lv_goto (tgt := 6) X.1 X.2.1 dX10_lastOf_64 (by decide) ?_
        exact hr6 (x4, x5 + 1) h _ _ _ hV hF (lv_sub hl [2, 3, 4, 1, 0] rfl)
      · refine lv_aload_n X.1 X.2.1 dX10_lastOf_43 rfl (lv_at hl 0 rfl) ?_
        refine r_gR X hV fl_X10_68_10 (by decide) dX10_lastOf_44 h (fun v6 h => ?_)
        refine lv_iconst (v := 3) X.1 X.2.1 dX10_lastOf_47 (by decide) ?_
        refine lv_iload X.1 X.2.1 dX10_lastOf_48 (lv_at hl 4 rfl) ?_
        refine lv_imul X.1 X.2.1 dX10_lastOf_50 ?_
        refine lv_iconst (v := 2) X.1 X.2.1 dX10_lastOf_51 (by decide) ?_
        refine lv_iadd X.1 X.2.1 dX10_lastOf_52 ?_
        refine r_ia X hV dX10_lastOf_53 h (fun v7 h => ?_)
        refine lv_goto (tgt := 59) X.1 X.2.1 dX10_lastOf_54 (by decide) ?_
        refine lv_istore (lv' := [(4, .int v7), (0, .ref x0), (1, .int x1), (2, .int x2), (5, .int x5)]) X.1 X.2.1 dX10_lastOf_59 hl (by decide) rfl (fun ls hl => ?_)
        refine lv_iinc (v := x5 + 1) (lv' := [(5, .int (x5 + 1)), (4, .int v7), (0, .ref x0), (1, .int x1), (2, .int x2)]) X.1 X.2.1 dX10_lastOf_61 hl (k := 4) rfl rfl (by decide) rfl (fun ls hl => ?_)
        refine lv_goto (tgt := 6) X.1 X.2.1 dX10_lastOf_64 (by decide) ?_
        exact hr6 (v7, x5 + 1) h _ _ _ hV hF (lv_sub hl [2, 3, 4, 1, 0] rfl)
set_option maxHeartbeats 4000000 in
theorem w_X10_lastOf_6 {p : Program} {l : Launch} {e : Env} {s : State} {m : MethodId} {args : Array Value} {below : List Frame} {meth : Method} {c : Code} {g : Gl} (X : FX g p m c s args meth cX10_lastOf 6 RX10 (some .int) "lastOf") {r : Int32 × Hp} {σ : Hp} {x0 : Nat} {x1 : Int32} {x2 : Int32}  : ∀ (n : Nat) (st : Int32 × Int32), L_X10_lastOf_6 σ x0 x1 x2 n st = some r → ∀ (H : Heap) (locs : List Loc) (ls : Array Slot), HV g σ H → FR g locs → lv_has ls 6 [(0, .ref x0), (1, .int x1), (2, .int x2), (4, .int st.1), (5, .int st.2)] → W p l e rm_X10_lastOf s m args below meth c H locs 0 0 (MQ below (Qi g r) args s 0 0 (frN g)) (F0 m 6 ls []) := by
  intro n
  induction n with
  | zero =>
    intro st h
    rw [L_X10_lastOf_6_0] at h
    cases h
  | succ n ih =>
    intro st h H locs ls hV hF hl
    rw [L_X10_lastOf_6_s] at h
    exact w_X10_lastOf_6_b X  ih h hV hF hl
set_option maxHeartbeats 4000000 in
theorem c_X10_lastOf (l : Launch) {g : Gl} {σ : Hp} {x0 : Nat} {x1 : Int32} {x2 : Int32} {x3 : Int32} {r : Int32 × Hp} (h : F_X10_lastOf σ x0 x1 x2 x3 = some r) : Met l yX10_lastOf (ws_ yX10_lastOf cX10_lastOf 6 (some .int)) rm_X10_lastOf (va_Pc [.ref x0, .int x1, .int x2, .int x3] (WV g σ)) (Qi g r) 0 0 (frN g) := by
  refine ct_of (by decide) (Nat.le_of_ble_eq_true rfl) ?_
  intro p e s m below meth c ls X hV hl
  have hF : FR g [] := FR_nil
  unfold F_X10_lastOf at h
  have hl : lv_has ls 6 [(0, .ref x0), (1, .int x1), (2, .int x2), (3, .int x3)] := hl
  have X : FX g p m c s _ meth cX10_lastOf 6 RX10 (some .int) "lastOf" := X
  obtain ⟨-, h⟩ := gd_inv h
  refine lv_iload_n X.1 X.2.1 dX10_lastOf_0 rfl (lv_at hl 3 rfl) ?_
  refine lv_istore (lv' := [(4, .int x3), (0, .ref x0), (1, .int x1), (2, .int x2), (3, .int x3)]) X.1 X.2.1 dX10_lastOf_1 hl (by decide) rfl (fun ls hl => ?_)
  refine lv_iconst (v := 0) X.1 X.2.1 dX10_lastOf_3 (by decide) ?_
  refine lv_istore (lv' := [(5, .int 0), (4, .int x3), (0, .ref x0), (1, .int x1), (2, .int x2), (3, .int x3)]) X.1 X.2.1 dX10_lastOf_4 hl (by decide) rfl (fun ls hl => ?_)
  exact w_X10_lastOf_6 X  FU (x3, 0) h _ _ _ hV hF (lv_sub hl [2, 3, 4, 1, 0] rfl)
/-! PalaceOfRoomsModel.isTooLike -/
theorem dX10_isTooLike_0 : decode cX10_isTooLike 0 = .ok (.aload_n 0, 1) := by decide +kernel
theorem dX10_isTooLike_1 : decode cX10_isTooLike 1 = .ok (.getfield 32, 3) := by decide +kernel
theorem dX10_isTooLike_4 : decode cX10_isTooLike 4 = .ok (.iload_n 2, 1) := by decide +kernel
theorem dX10_isTooLike_5 : decode cX10_isTooLike 5 = .ok (.iaload, 1) := by decide +kernel
theorem dX10_isTooLike_6 : decode cX10_isTooLike 6 = .ok (.iconst (-1), 1) := by decide +kernel
theorem dX10_isTooLike_7 : decode cX10_isTooLike 7 = .ok (.if_icmp .eq 22, 3) := by decide +kernel
theorem dX10_isTooLike_10 : decode cX10_isTooLike 10 = .ok (.aload_n 0, 1) := by decide +kernel
theorem dX10_isTooLike_11 : decode cX10_isTooLike 11 = .ok (.aload_n 0, 1) := by decide +kernel
theorem dX10_isTooLike_12 : decode cX10_isTooLike 12 = .ok (.getfield 32, 3) := by decide +kernel
theorem dX10_isTooLike_15 : decode cX10_isTooLike 15 = .ok (.iload_n 2, 1) := by decide +kernel
theorem dX10_isTooLike_16 : decode cX10_isTooLike 16 = .ok (.iaload, 1) := by decide +kernel
theorem dX10_isTooLike_17 : decode cX10_isTooLike 17 = .ok (.iload_n 1, 1) := by decide +kernel
theorem dX10_isTooLike_18 : decode cX10_isTooLike 18 = .ok (.invokevirtual 115, 3) := by decide +kernel
theorem dX10_isTooLike_21 : decode cX10_isTooLike 21 = .ok (.iload_n 3, 1) := by decide +kernel
theorem dX10_isTooLike_22 : decode cX10_isTooLike 22 = .ok (.if_icmp .le 7, 3) := by decide +kernel
theorem dX10_isTooLike_25 : decode cX10_isTooLike 25 = .ok (.iconst 1, 1) := by decide +kernel
theorem dX10_isTooLike_26 : decode cX10_isTooLike 26 = .ok (.goto 4, 3) := by decide +kernel
theorem dX10_isTooLike_29 : decode cX10_isTooLike 29 = .ok (.iconst 0, 1) := by decide +kernel
theorem dX10_isTooLike_30 : decode cX10_isTooLike 30 = .ok (.ireturn, 1) := by decide +kernel
theorem yd_X10_isTooLike : yX10_isTooLike.cls ≠ "java/lang/invoke/MethodHandle" ∧ yX10_isTooLike.cls ≠ "java/lang/invoke/VarHandle" ∧ (parseMethodDescriptor yX10_isTooLike.desc).map (fun d => d.parameters.length) = some 3 := by decide +kernel
abbrev rm_X10_isTooLike : Room := { frames := 1, cells := 0, slots := 0, locals := 25 }
set_option maxHeartbeats 4000000 in
theorem c_X10_isTooLike (l : Launch) {g : Gl} {σ : Hp} {x0 : Nat} {x1 : Int32} {x2 : Int32} {x3 : Int32} {r : Int32 × Hp} (h : F_X10_isTooLike σ x0 x1 x2 x3 = some r) : Met l yX10_isTooLike (ws_ yX10_isTooLike cX10_isTooLike 4 (some .boolean)) rm_X10_isTooLike (va_Pc [.ref x0, .int x1, .int x2, .int x3] (WV g σ)) (Qi g r) 0 0 (frN g) := by
  refine ct_of (by decide) (Nat.le_of_ble_eq_true rfl) ?_
  intro p e s m below meth c ls X hV hl
  have hF : FR g [] := FR_nil
  unfold F_X10_isTooLike at h
  have hl : lv_has ls 4 [(0, .ref x0), (1, .int x1), (2, .int x2), (3, .int x3)] := hl
  have X : FX g p m c s _ meth cX10_isTooLike 4 RX10 (some .boolean) "isTooLike" := X
  obtain ⟨-, h⟩ := gd_inv h
  refine lv_aload_n X.1 X.2.1 dX10_isTooLike_0 rfl (lv_at hl 0 rfl) ?_
  refine r_gR X hV fl_X10_32_10 (by decide) dX10_isTooLike_1 h (fun v1 h => ?_)
  refine lv_iload_n X.1 X.2.1 dX10_isTooLike_4 rfl (lv_at hl 2 rfl) ?_
  refine r_ia X hV dX10_isTooLike_5 h (fun v2 h => ?_)
  refine lv_iconst (v := (-1)) X.1 X.2.1 dX10_isTooLike_6 (by decide) ?_
  refine r_eq (tgt := 29) X.1 X.2.1 dX10_isTooLike_7 (by decide) h (fun h => ?_) (fun h => ?_)
  · refine lv_iconst (v := 0) X.1 X.2.1 dX10_isTooLike_29 (by decide) ?_
    exact r_zret X hV hF h rfl dX10_isTooLike_30
  · refine lv_aload_n X.1 X.2.1 dX10_isTooLike_10 rfl (lv_at hl 0 rfl) ?_
    refine lv_aload_n X.1 X.2.1 dX10_isTooLike_11 rfl (lv_at hl 0 rfl) ?_
    refine r_gR X hV fl_X10_32_10 (by decide) dX10_isTooLike_12 h (fun v3 h => ?_)
    refine lv_iload_n X.1 X.2.1 dX10_isTooLike_15 rfl (lv_at hl 2 rfl) ?_
    refine r_ia X hV dX10_isTooLike_16 h (fun v4 h => ?_)
    refine lv_iload_n X.1 X.2.1 dX10_isTooLike_17 rfl (lv_at hl 1 rfl) ?_
    obtain ⟨v5, s1, hc, h⟩ := b2_inv h
    refine r_ci (va_runV (C := RX10) (As := [.int v4, .int x1]) (rest := []) (cfX X) (c_X10_likeness l hc) (cwV 2 X.2.2.2.2.1 (lw_V q1130 q1132 qs24 q59 q1133) rfl rfl rfl ⟨rfl, yd_X10_likeness⟩ ⟨Nat.le_of_ble_eq_true rfl, Nat.le_of_ble_eq_true rfl⟩) (preV X hV (F_X10_likeness_g hc) rfl) rfl rfl hl.1 rfl (lv_room (Nat.le_of_ble_eq_true rfl)) dX10_isTooLike_18 ⟨(Nat.le_of_ble_eq_true rfl), (Nat.le_of_ble_eq_true rfl)⟩) hF (fun H locs hV hF => ?_)
    refine lv_iload_n X.1 X.2.1 dX10_isTooLike_21 rfl (lv_at hl 3 rfl) ?_
    refine r_le (tgt := 29) X.1 X.2.1 dX10_isTooLike_22 (by decide) h (fun h => ?_) (fun h => ?_)
    · refine lv_iconst (v := 0) X.1 X.2.1 dX10_isTooLike_29 (by decide) ?_
      exact r_zret X hV hF h rfl dX10_isTooLike_30
    · refine lv_iconst (v := 1) X.1 X.2.1 dX10_isTooLike_25 (by decide) ?_
      refine lv_goto (tgt := 30) X.1 X.2.1 dX10_isTooLike_26 (by decide) ?_
      exact r_zret X hV hF h rfl dX10_isTooLike_30
/-! PalaceOfRoomsModel.bars -/
theorem dX10_bars_0 : decode cX10_bars 0 = .ok (.iload_n 1, 1) := by decide +kernel
theorem dX10_bars_1 : decode cX10_bars 1 = .ok (.invokestatic 112, 3) := by decide +kernel
theorem dX10_bars_4 : decode cX10_bars 4 = .ok (.ifCond .eq 10, 3) := by decide +kernel
theorem dX10_bars_7 : decode cX10_bars 7 = .ok (.iload_n 2, 1) := by decide +kernel
theorem dX10_bars_8 : decode cX10_bars 8 = .ok (.invokestatic 118, 3) := by decide +kernel
theorem dX10_bars_11 : decode cX10_bars 11 = .ok (.ifCond .ne 6, 3) := by decide +kernel
theorem dX10_bars_14 : decode cX10_bars 14 = .ok (.bipush (-2), 2) := by decide +kernel
theorem dX10_bars_16 : decode cX10_bars 16 = .ok (.ireturn, 1) := by decide +kernel
theorem dX10_bars_17 : decode cX10_bars 17 = .ok (.aload_n 0, 1) := by decide +kernel
theorem dX10_bars_18 : decode cX10_bars 18 = .ok (.iload_n 2, 1) := by decide +kernel
theorem dX10_bars_19 : decode cX10_bars 19 = .ok (.bipush 6, 2) := by decide +kernel
theorem dX10_bars_21 : decode cX10_bars 21 = .ok (.idiv, 1) := by decide +kernel
theorem dX10_bars_22 : decode cX10_bars 22 = .ok (.invokevirtual 213, 3) := by decide +kernel
theorem dX10_bars_25 : decode cX10_bars 25 = .ok (.aload_n 0, 1) := by decide +kernel
theorem dX10_bars_26 : decode cX10_bars 26 = .ok (.iconst 0, 1) := by decide +kernel
theorem dX10_bars_27 : decode cX10_bars 27 = .ok (.iload_n 2, 1) := by decide +kernel
theorem dX10_bars_28 : decode cX10_bars 28 = .ok (.bipush 6, 2) := by decide +kernel
theorem dX10_bars_30 : decode cX10_bars 30 = .ok (.idiv, 1) := by decide +kernel
theorem dX10_bars_31 : decode cX10_bars 31 = .ok (.bipush 100, 2) := by decide +kernel
theorem dX10_bars_33 : decode cX10_bars 33 = .ok (.invokevirtual 216, 3) := by decide +kernel
theorem dX10_bars_36 : decode cX10_bars 36 = .ok (.if_icmp .lt 7, 3) := by decide +kernel
theorem dX10_bars_39 : decode cX10_bars 39 = .ok (.iconst 1, 1) := by decide +kernel
theorem dX10_bars_40 : decode cX10_bars 40 = .ok (.goto 4, 3) := by decide +kernel
theorem dX10_bars_43 : decode cX10_bars 43 = .ok (.iconst 0, 1) := by decide +kernel
theorem dX10_bars_44 : decode cX10_bars 44 = .ok (.istore_n 3, 1) := by decide +kernel
theorem dX10_bars_45 : decode cX10_bars 45 = .ok (.aload_n 0, 1) := by decide +kernel
theorem dX10_bars_46 : decode cX10_bars 46 = .ok (.iconst 2, 1) := by decide +kernel
theorem dX10_bars_47 : decode cX10_bars 47 = .ok (.iconst 0, 1) := by decide +kernel
theorem dX10_bars_48 : decode cX10_bars 48 = .ok (.bipush 100, 2) := by decide +kernel
theorem dX10_bars_50 : decode cX10_bars 50 = .ok (.invokevirtual 216, 3) := by decide +kernel
theorem dX10_bars_53 : decode cX10_bars 53 = .ok (.istore 4, 2) := by decide +kernel
theorem dX10_bars_55 : decode cX10_bars 55 = .ok (.iload_n 3, 1) := by decide +kernel
theorem dX10_bars_56 : decode cX10_bars 56 = .ok (.aload_n 0, 1) := by decide +kernel
theorem dX10_bars_57 : decode cX10_bars 57 = .ok (.getfield 44, 3) := by decide +kernel
theorem dX10_bars_60 : decode cX10_bars 60 = .ok (.iload_n 2, 1) := by decide +kernel
theorem dX10_bars_61 : decode cX10_bars 61 = .ok (.iaload, 1) := by decide +kernel
theorem dX10_bars_62 : decode cX10_bars 62 = .ok (.iconst (-1), 1) := by decide +kernel
theorem dX10_bars_63 : decode cX10_bars 63 = .ok (.if_icmp .eq 28, 3) := by decide +kernel
theorem dX10_bars_66 : decode cX10_bars 66 = .ok (.aload_n 0, 1) := by decide +kernel
theorem dX10_bars_67 : decode cX10_bars 67 = .ok (.getfield 125, 3) := by decide +kernel
theorem dX10_bars_70 : decode cX10_bars 70 = .ok (.aload_n 0, 1) := by decide +kernel
theorem dX10_bars_71 : decode cX10_bars 71 = .ok (.getfield 44, 3) := by decide +kernel
theorem dX10_bars_74 : decode cX10_bars 74 = .ok (.iload_n 2, 1) := by decide +kernel
theorem dX10_bars_75 : decode cX10_bars 75 = .ok (.iaload, 1) := by decide +kernel
theorem dX10_bars_76 : decode cX10_bars 76 = .ok (.isub, 1) := by decide +kernel
theorem dX10_bars_77 : decode cX10_bars 77 = .ok (.aload_n 0, 1) := by decide +kernel
theorem dX10_bars_78 : decode cX10_bars 78 = .ok (.iconst 1, 1) := by decide +kernel
theorem dX10_bars_79 : decode cX10_bars 79 = .ok (.iconst 0, 1) := by decide +kernel
theorem dX10_bars_80 : decode cX10_bars 80 = .ok (.iconst 0, 1) := by decide +kernel
theorem dX10_bars_81 : decode cX10_bars 81 = .ok (.invokevirtual 216, 3) := by decide +kernel
theorem dX10_bars_84 : decode cX10_bars 84 = .ok (.if_icmp .ge 7, 3) := by decide +kernel
theorem dX10_bars_87 : decode cX10_bars 87 = .ok (.iconst 2, 1) := by decide +kernel
theorem dX10_bars_88 : decode cX10_bars 88 = .ok (.goto 4, 3) := by decide +kernel
theorem dX10_bars_91 : decode cX10_bars 91 = .ok (.iconst 0, 1) := by decide +kernel
theorem dX10_bars_92 : decode cX10_bars 92 = .ok (.iadd, 1) := by decide +kernel
theorem dX10_bars_93 : decode cX10_bars 93 = .ok (.istore_n 3, 1) := by decide +kernel
theorem dX10_bars_94 : decode cX10_bars 94 = .ok (.iload_n 2, 1) := by decide +kernel
theorem dX10_bars_95 : decode cX10_bars 95 = .ok (.bipush 6, 2) := by decide +kernel
theorem dX10_bars_97 : decode cX10_bars 97 = .ok (.irem, 1) := by decide +kernel
theorem dX10_bars_98 : decode cX10_bars 98 = .ok (.ifCond .le 16, 3) := by decide +kernel
theorem dX10_bars_101 : decode cX10_bars 101 = .ok (.aload_n 0, 1) := by decide +kernel
theorem dX10_bars_102 : decode cX10_bars 102 = .ok (.iload_n 1, 1) := by decide +kernel
theorem dX10_bars_103 : decode cX10_bars 103 = .ok (.iload_n 2, 1) := by decide +kernel
theorem dX10_bars_104 : decode cX10_bars 104 = .ok (.iconst 1, 1) := by decide +kernel
theorem dX10_bars_105 : decode cX10_bars 105 = .ok (.isub, 1) := by decide +kernel
theorem dX10_bars_106 : decode cX10_bars 106 = .ok (.iload 4, 2) := by decide +kernel
theorem dX10_bars_108 : decode cX10_bars 108 = .ok (.invokevirtual 220, 3) := by decide +kernel
theorem dX10_bars_111 : decode cX10_bars 111 = .ok (.ifCond .ne 24, 3) := by decide +kernel
theorem dX10_bars_114 : decode cX10_bars 114 = .ok (.iload_n 2, 1) := by decide +kernel
theorem dX10_bars_115 : decode cX10_bars 115 = .ok (.bipush 6, 2) := by decide +kernel
theorem dX10_bars_117 : decode cX10_bars 117 = .ok (.irem, 1) := by decide +kernel
theorem dX10_bars_118 : decode cX10_bars 118 = .ok (.iconst 5, 1) := by decide +kernel
theorem dX10_bars_119 : decode cX10_bars 119 = .ok (.if_icmp .ge 20, 3) := by decide +kernel
theorem dX10_bars_122 : decode cX10_bars 122 = .ok (.aload_n 0, 1) := by decide +kernel
theorem dX10_bars_123 : decode cX10_bars 123 = .ok (.iload_n 1, 1) := by decide +kernel
theorem dX10_bars_124 : decode cX10_bars 124 = .ok (.iload_n 2, 1) := by decide +kernel
theorem dX10_bars_125 : decode cX10_bars 125 = .ok (.iconst 1, 1) := by decide +kernel
theorem dX10_bars_126 : decode cX10_bars 126 = .ok (.iadd, 1) := by decide +kernel
theorem dX10_bars_127 : decode cX10_bars 127 = .ok (.iload 4, 2) := by decide +kernel
theorem dX10_bars_129 : decode cX10_bars 129 = .ok (.invokevirtual 220, 3) := by decide +kernel
theorem dX10_bars_132 : decode cX10_bars 132 = .ok (.ifCond .eq 7, 3) := by decide +kernel
theorem dX10_bars_135 : decode cX10_bars 135 = .ok (.iconst 1, 1) := by decide +kernel
theorem dX10_bars_136 : decode cX10_bars 136 = .ok (.goto 4, 3) := by decide +kernel
theorem dX10_bars_139 : decode cX10_bars 139 = .ok (.iconst 0, 1) := by decide +kernel
theorem dX10_bars_140 : decode cX10_bars 140 = .ok (.istore 5, 2) := by decide +kernel
theorem dX10_bars_142 : decode cX10_bars 142 = .ok (.iload_n 3, 1) := by decide +kernel
theorem dX10_bars_143 : decode cX10_bars 143 = .ok (.iload 5, 2) := by decide +kernel
theorem dX10_bars_145 : decode cX10_bars 145 = .ok (.ifCond .eq 7, 3) := by decide +kernel
theorem dX10_bars_148 : decode cX10_bars 148 = .ok (.iconst 4, 1) := by decide +kernel
theorem dX10_bars_149 : decode cX10_bars 149 = .ok (.goto 4, 3) := by decide +kernel
theorem dX10_bars_152 : decode cX10_bars 152 = .ok (.iconst 0, 1) := by decide +kernel
theorem dX10_bars_153 : decode cX10_bars 153 = .ok (.iadd, 1) := by decide +kernel
theorem dX10_bars_154 : decode cX10_bars 154 = .ok (.ireturn, 1) := by decide +kernel
theorem yd_X10_bars : yX10_bars.cls ≠ "java/lang/invoke/MethodHandle" ∧ yX10_bars.cls ≠ "java/lang/invoke/VarHandle" ∧ (parseMethodDescriptor yX10_bars.desc).map (fun d => d.parameters.length) = some 2 := by decide +kernel
abbrev rm_X10_bars : Room := { frames := 2, cells := 0, slots := 0, locals := 48 }
set_option maxHeartbeats 4000000 in
theorem w_X10_bars_135 {p : Program} {l : Launch} {e : Env} {s : State} {m : MethodId} {args : Array Value} {below : List Frame} {meth : Method} {c : Code} {g : Gl} (X : FX g p m c s args meth cX10_bars 6 RX10 (some .int) "bars") {r : Int32 × Hp} {σ : Hp} {x3 : Int32}  {H : Heap} {locs : List Loc} {ls : Array Slot} (h : F_X10_bars_135 σ x3 = some r) (hV : HV g σ H) (hF : FR g locs) (hl : lv_has ls 6 [(3, .int x3)]) : W p l e rm_X10_bars s m args below meth c H locs 0 0 (MQ below (Qi g r) args s 0 0 (frN g)) (F0 m 135 ls []) := by
  unfold F_X10_bars_135 at h
  refine lv_iconst (v := 1) X.1 X.2.1 dX10_bars_135 (by decide) ?_
  refine lv_goto (tgt := 140) X.1 X.2.1 dX10_bars_136 (by decide) ?_
  refine lv_istore (lv' := [(5, .int 1), (3, .int x3)]) X.1 X.2.1 dX10_bars_140 hl (by decide) rfl (fun ls hl => ?_)
  refine lv_iload_n X.1 X.2.1 dX10_bars_142 rfl (lv_at hl 1 rfl) ?_
  refine lv_iload X.1 X.2.1 dX10_bars_143 (lv_at hl 0 rfl) ?_
  refine r_ifeq (tgt := 152) X.1 X.2.1 dX10_bars_145 (by decide) h (fun h => ?_) (fun h => ?_)
  · refine lv_iconst (v := 0) X.1 X.2.1 dX10_bars_152 (by decide) ?_
    refine lv_iadd X.1 X.2.1 dX10_bars_153 ?_
    exact r_iret X hV hF h dX10_bars_154
  · refine lv_iconst (v := 4) X.1 X.2.1 dX10_bars_148 (by decide) ?_
    refine lv_goto (tgt := 153) X.1 X.2.1 dX10_bars_149 (by decide) ?_
    refine lv_iadd X.1 X.2.1 dX10_bars_153 ?_
    exact r_iret X hV hF h dX10_bars_154
set_option maxHeartbeats 4000000 in
theorem w_X10_bars_114 {p : Program} {l : Launch} {e : Env} {s : State} {m : MethodId} {args : Array Value} {below : List Frame} {meth : Method} {c : Code} {g : Gl} (X : FX g p m c s args meth cX10_bars 6 RX10 (some .int) "bars") {r : Int32 × Hp} {σ : Hp} {x0 : Nat} {x1 : Int32} {x2 : Int32} {x3 : Int32} {x4 : Int32}  {H : Heap} {locs : List Loc} {ls : Array Slot} (h : F_X10_bars_114 σ x0 x1 x2 x3 x4 = some r) (hV : HV g σ H) (hF : FR g locs) (hl : lv_has ls 6 [(0, .ref x0), (1, .int x1), (2, .int x2), (3, .int x3), (4, .int x4)]) : W p l e rm_X10_bars s m args below meth c H locs 0 0 (MQ below (Qi g r) args s 0 0 (frN g)) (F0 m 114 ls []) := by
  unfold F_X10_bars_114 at h
  refine lv_iload_n X.1 X.2.1 dX10_bars_114 rfl (lv_at hl 2 rfl) ?_
  refine lv_bipush (v := 6) X.1 X.2.1 dX10_bars_115 (by decide) ?_
  refine lv_irem X.1 X.2.1 dX10_bars_117 (by decide) ?_
  refine lv_iconst (v := 5) X.1 X.2.1 dX10_bars_118 (by decide) ?_
  refine r_ge (tgt := 139) X.1 X.2.1 dX10_bars_119 (by decide) h (fun h => ?_) (fun h => ?_)
  · refine lv_iconst (v := 0) X.1 X.2.1 dX10_bars_139 (by decide) ?_
    refine lv_istore (lv' := [(5, .int 0), (0, .ref x0), (1, .int x1), (2, .int x2), (3, .int x3), (4, .int x4)]) X.1 X.2.1 dX10_bars_140 hl (by decide) rfl (fun ls hl => ?_)
    refine lv_iload_n X.1 X.2.1 dX10_bars_142 rfl (lv_at hl 4 rfl) ?_
    refine lv_iload X.1 X.2.1 dX10_bars_143 (lv_at hl 0 rfl) ?_
    refine r_ifeq (tgt := 152) X.1 X.2.1 dX10_bars_145 (by decide) h (fun h => ?_) (fun h => ?_)
    · refine lv_iconst (v := 0) X.1 X.2.1 dX10_bars_152 (by decide) ?_
      refine lv_iadd X.1 X.2.1 dX10_bars_153 ?_
      exact r_iret X hV hF h dX10_bars_154
    · refine lv_iconst (v := 4) X.1 X.2.1 dX10_bars_148 (by decide) ?_
      refine lv_goto (tgt := 153) X.1 X.2.1 dX10_bars_149 (by decide) ?_
      refine lv_iadd X.1 X.2.1 dX10_bars_153 ?_
      exact r_iret X hV hF h dX10_bars_154
  · refine lv_aload_n X.1 X.2.1 dX10_bars_122 rfl (lv_at hl 0 rfl) ?_
    refine lv_iload_n X.1 X.2.1 dX10_bars_123 rfl (lv_at hl 1 rfl) ?_
    refine lv_iload_n X.1 X.2.1 dX10_bars_124 rfl (lv_at hl 2 rfl) ?_
    refine lv_iconst (v := 1) X.1 X.2.1 dX10_bars_125 (by decide) ?_
    refine lv_iadd X.1 X.2.1 dX10_bars_126 ?_
    refine lv_iload X.1 X.2.1 dX10_bars_127 (lv_at hl 4 rfl) ?_
    obtain ⟨v1, s1, hc, h⟩ := b2_inv h
    refine r_ci (va_runV (C := RX10) (As := [.int x1, .int (x2 + 1), .int x4]) (rest := []) (cfX X) (c_X10_isTooLike l hc) (cwV 3 X.2.2.2.2.1 (lw_V q1253 q1255 qs38 q59 q1256) rfl rfl rfl ⟨rfl, yd_X10_isTooLike⟩ ⟨Nat.le_of_ble_eq_true rfl, Nat.le_of_ble_eq_true rfl⟩) (preV X hV (F_X10_isTooLike_g hc) rfl) rfl rfl hl.1 rfl (lv_room (Nat.le_of_ble_eq_true rfl)) dX10_bars_129 ⟨(Nat.le_of_ble_eq_true rfl), (Nat.le_of_ble_eq_true rfl)⟩) hF (fun H locs hV hF => ?_)
    refine r_ifeq (tgt := 139) X.1 X.2.1 dX10_bars_132 (by decide) h (fun h => ?_) (fun h => ?_)
    · refine lv_iconst (v := 0) X.1 X.2.1 dX10_bars_139 (by decide) ?_
      refine lv_istore (lv' := [(5, .int 0), (0, .ref x0), (1, .int x1), (2, .int x2), (3, .int x3), (4, .int x4)]) X.1 X.2.1 dX10_bars_140 hl (by decide) rfl (fun ls hl => ?_)
      refine lv_iload_n X.1 X.2.1 dX10_bars_142 rfl (lv_at hl 4 rfl) ?_
      refine lv_iload X.1 X.2.1 dX10_bars_143 (lv_at hl 0 rfl) ?_
      refine r_ifeq (tgt := 152) X.1 X.2.1 dX10_bars_145 (by decide) h (fun h => ?_) (fun h => ?_)
      · refine lv_iconst (v := 0) X.1 X.2.1 dX10_bars_152 (by decide) ?_
        refine lv_iadd X.1 X.2.1 dX10_bars_153 ?_
        exact r_iret X hV hF h dX10_bars_154
      · refine lv_iconst (v := 4) X.1 X.2.1 dX10_bars_148 (by decide) ?_
        refine lv_goto (tgt := 153) X.1 X.2.1 dX10_bars_149 (by decide) ?_
        refine lv_iadd X.1 X.2.1 dX10_bars_153 ?_
        exact r_iret X hV hF h dX10_bars_154
    · exact w_X10_bars_135 X  h hV hF (lv_sub hl [3] rfl)
set_option maxHeartbeats 4000000 in
theorem w_X10_bars_92 {p : Program} {l : Launch} {e : Env} {s : State} {m : MethodId} {args : Array Value} {below : List Frame} {meth : Method} {c : Code} {g : Gl} (X : FX g p m c s args meth cX10_bars 6 RX10 (some .int) "bars") {r : Int32 × Hp} {σ : Hp} {x0 : Nat} {x1 : Int32} {x2 : Int32} {x4 : Int32} {y0 : Int32} {y1 : Int32}  {H : Heap} {locs : List Loc} {ls : Array Slot} (h : F_X10_bars_92 σ x0 x1 x2 x4 y0 y1 = some r) (hV : HV g σ H) (hF : FR g locs) (hl : lv_has ls 6 [(0, .ref x0), (1, .int x1), (2, .int x2), (4, .int x4)]) : W p l e rm_X10_bars s m args below meth c H locs 0 0 (MQ below (Qi g r) args s 0 0 (frN g)) (F0 m 92 ls [.int y0, .int y1]) := by
  unfold F_X10_bars_92 at h
  refine lv_iadd X.1 X.2.1 dX10_bars_92 ?_
  refine lv_istore_n (lv' := [(3, .int (y1 + y0)), (0, .ref x0), (1, .int x1), (2, .int x2), (4, .int x4)]) X.1 X.2.1 dX10_bars_93 rfl hl (by decide) rfl (fun ls hl => ?_)
  refine lv_iload_n X.1 X.2.1 dX10_bars_94 rfl (lv_at hl 3 rfl) ?_
  refine lv_bipush (v := 6) X.1 X.2.1 dX10_bars_95 (by decide) ?_
  refine lv_irem X.1 X.2.1 dX10_bars_97 (by decide) ?_
  refine r_ifle (tgt := 114) X.1 X.2.1 dX10_bars_98 (by decide) h (fun h => ?_) (fun h => ?_)
  · exact w_X10_bars_114 X  h hV hF (lv_sub hl [1, 2, 3, 0, 4] rfl)
  · refine lv_aload_n X.1 X.2.1 dX10_bars_101 rfl (lv_at hl 1 rfl) ?_
    refine lv_iload_n X.1 X.2.1 dX10_bars_102 rfl (lv_at hl 2 rfl) ?_
    refine lv_iload_n X.1 X.2.1 dX10_bars_103 rfl (lv_at hl 3 rfl) ?_
    refine lv_iconst (v := 1) X.1 X.2.1 dX10_bars_104 (by decide) ?_
    refine lv_isub X.1 X.2.1 dX10_bars_105 ?_
    refine lv_iload X.1 X.2.1 dX10_bars_106 (lv_at hl 4 rfl) ?_
    obtain ⟨v1, s1, hc, h⟩ := b2_inv h
    refine r_ci (va_runV (C := RX10) (As := [.int x1, .int (x2 - 1), .int x4]) (rest := []) (cfX X) (c_X10_isTooLike l hc) (cwV 3 X.2.2.2.2.1 (lw_V q1253 q1255 qs38 q59 q1256) rfl rfl rfl ⟨rfl, yd_X10_isTooLike⟩ ⟨Nat.le_of_ble_eq_true rfl, Nat.le_of_ble_eq_true rfl⟩) (preV X hV (F_X10_isTooLike_g hc) rfl) rfl rfl hl.1 rfl (lv_room (Nat.le_of_ble_eq_true rfl)) dX10_bars_108 ⟨(Nat.le_of_ble_eq_true rfl), (Nat.le_of_ble_eq_true rfl)⟩) hF (fun H locs hV hF => ?_)
    refine r_ifne (tgt := 135) X.1 X.2.1 dX10_bars_111 (by decide) h (fun h => ?_) (fun h => ?_)
    · exact w_X10_bars_135 X  h hV hF (lv_sub hl [0] rfl)
    · exact w_X10_bars_114 X  h hV hF (lv_sub hl [1, 2, 3, 0, 4] rfl)
set_option maxHeartbeats 4000000 in
theorem w_X10_bars_91 {p : Program} {l : Launch} {e : Env} {s : State} {m : MethodId} {args : Array Value} {below : List Frame} {meth : Method} {c : Code} {g : Gl} (X : FX g p m c s args meth cX10_bars 6 RX10 (some .int) "bars") {r : Int32 × Hp} {σ : Hp} {x0 : Nat} {x1 : Int32} {x2 : Int32} {x4 : Int32} {y0 : Int32}  {H : Heap} {locs : List Loc} {ls : Array Slot} (h : F_X10_bars_91 σ x0 x1 x2 x4 y0 = some r) (hV : HV g σ H) (hF : FR g locs) (hl : lv_has ls 6 [(0, .ref x0), (1, .int x1), (2, .int x2), (4, .int x4)]) : W p l e rm_X10_bars s m args below meth c H locs 0 0 (MQ below (Qi g r) args s 0 0 (frN g)) (F0 m 91 ls [.int y0]) := by
  unfold F_X10_bars_91 at h
  refine lv_iconst (v := 0) X.1 X.2.1 dX10_bars_91 (by decide) ?_
  exact w_X10_bars_92 X  h hV hF (lv_sub hl [0, 1, 2, 3] rfl)
set_option maxHeartbeats 4000000 in
theorem w_X10_bars_44 {p : Program} {l : Launch} {e : Env} {s : State} {m : MethodId} {args : Array Value} {below : List Frame} {meth : Method} {c : Code} {g : Gl} (X : FX g p m c s args meth cX10_bars 6 RX10 (some .int) "bars") {r : Int32 × Hp} {σ : Hp} {x0 : Nat} {x1 : Int32} {x2 : Int32} {y0 : Int32}  {H : Heap} {locs : List Loc} {ls : Array Slot} (h : F_X10_bars_44 σ x0 x1 x2 y0 = some r) (hV : HV g σ H) (hF : FR g locs) (hl : lv_has ls 6 [(0, .ref x0), (1, .int x1), (2, .int x2)]) : W p l e rm_X10_bars s m args below meth c H locs 0 0 (MQ below (Qi g r) args s 0 0 (frN g)) (F0 m 44 ls [.int y0]) := by
  unfold F_X10_bars_44 at h
  refine lv_istore_n (lv' := [(3, .int y0), (0, .ref x0), (1, .int x1), (2, .int x2)]) X.1 X.2.1 dX10_bars_44 rfl hl (by decide) rfl (fun ls hl => ?_)
  refine lv_aload_n X.1 X.2.1 dX10_bars_45 rfl (lv_at hl 1 rfl) ?_
  refine lv_iconst (v := 2) X.1 X.2.1 dX10_bars_46 (by decide) ?_
  refine lv_iconst (v := 0) X.1 X.2.1 dX10_bars_47 (by decide) ?_
  refine lv_bipush (v := 100) X.1 X.2.1 dX10_bars_48 (by decide) ?_
  obtain ⟨v1, s1, hc, h⟩ := b2_inv h
  refine r_ci (va_runV (C := RX10) (As := [.int 2, .int 0, .int 100]) (rest := []) (cfX X) (c_X10_lastOf l hc) (cwV 3 X.2.2.2.2.1 (lw_V q1249 q1251 qs37 q59 q1252) rfl rfl rfl ⟨rfl, yd_X10_lastOf⟩ ⟨Nat.le_of_ble_eq_true rfl, Nat.le_of_ble_eq_true rfl⟩) (preV X hV (F_X10_lastOf_g hc) rfl) rfl rfl hl.1 rfl (lv_room (Nat.le_of_ble_eq_true rfl)) dX10_bars_50 ⟨(Nat.le_of_ble_eq_true rfl), (Nat.le_of_ble_eq_true rfl)⟩) hF (fun H locs hV hF => ?_)
  refine lv_istore (lv' := [(4, .int v1), (3, .int y0), (0, .ref x0), (1, .int x1), (2, .int x2)]) X.1 X.2.1 dX10_bars_53 hl (by decide) rfl (fun ls hl => ?_)
  refine lv_iload_n X.1 X.2.1 dX10_bars_55 rfl (lv_at hl 1 rfl) ?_
  refine lv_aload_n X.1 X.2.1 dX10_bars_56 rfl (lv_at hl 2 rfl) ?_
  refine r_gR X hV fl_X10_44_10 (by decide) dX10_bars_57 h (fun v2 h => ?_)
  refine lv_iload_n X.1 X.2.1 dX10_bars_60 rfl (lv_at hl 4 rfl) ?_
  refine r_ia X hV dX10_bars_61 h (fun v3 h => ?_)
  refine lv_iconst (v := (-1)) X.1 X.2.1 dX10_bars_62 (by decide) ?_
  refine r_eq (tgt := 91) X.1 X.2.1 dX10_bars_63 (by decide) h (fun h => ?_) (fun h => ?_)
  · exact w_X10_bars_91 X  h hV hF (lv_sub hl [2, 3, 4, 0] rfl)
  · refine lv_aload_n X.1 X.2.1 dX10_bars_66 rfl (lv_at hl 2 rfl) ?_
    refine r_gI X hV fl_X10_125_10 dX10_bars_67 h (fun v4 h => ?_)
    refine lv_aload_n X.1 X.2.1 dX10_bars_70 rfl (lv_at hl 2 rfl) ?_
    refine r_gR X hV fl_X10_44_10 (by decide) dX10_bars_71 h (fun v5 h => ?_)
    refine lv_iload_n X.1 X.2.1 dX10_bars_74 rfl (lv_at hl 4 rfl) ?_
    refine r_ia X hV dX10_bars_75 h (fun v6 h => ?_)
    refine lv_isub X.1 X.2.1 dX10_bars_76 ?_
    refine lv_aload_n X.1 X.2.1 dX10_bars_77 rfl (lv_at hl 2 rfl) ?_
    refine lv_iconst (v := 1) X.1 X.2.1 dX10_bars_78 (by decide) ?_
    refine lv_iconst (v := 0) X.1 X.2.1 dX10_bars_79 (by decide) ?_
    refine lv_iconst (v := 0) X.1 X.2.1 dX10_bars_80 (by decide) ?_
    obtain ⟨v7, s2, hc, h⟩ := b2_inv h
    refine r_ci (va_runV (C := RX10) (As := [.int 1, .int 0, .int 0]) (rest := [.int (v4 - v6), .int y0]) (cfX X) (c_X10_lastOf l hc) (cwV 3 X.2.2.2.2.1 (lw_V q1249 q1251 qs37 q59 q1252) rfl rfl rfl ⟨rfl, yd_X10_lastOf⟩ ⟨Nat.le_of_ble_eq_true rfl, Nat.le_of_ble_eq_true rfl⟩) (preV X hV (F_X10_lastOf_g hc) rfl) rfl rfl hl.1 rfl (lv_room (Nat.le_of_ble_eq_true rfl)) dX10_bars_81 ⟨(Nat.le_of_ble_eq_true rfl), (Nat.le_of_ble_eq_true rfl)⟩) hF (fun H locs hV hF => ?_)
    refine r_ge (tgt := 91) X.1 X.2.1 dX10_bars_84 (by decide) h (fun h => ?_) (fun h => ?_)
    · exact w_X10_bars_91 X  h hV hF (lv_sub hl [2, 3, 4, 0] rfl)
    · refine lv_iconst (v := 2) X.1 X.2.1 dX10_bars_87 (by decide) ?_
      refine lv_goto (tgt := 92) X.1 X.2.1 dX10_bars_88 (by decide) ?_
      exact w_X10_bars_92 X  h hV hF (lv_sub hl [2, 3, 4, 0] rfl)
set_option maxHeartbeats 4000000 in
theorem c_X10_bars (l : Launch) {g : Gl} {σ : Hp} {x0 : Nat} {x1 : Int32} {x2 : Int32} {r : Int32 × Hp} (h : F_X10_bars σ x0 x1 x2 = some r) : Met l yX10_bars (ws_ yX10_bars cX10_bars 6 (some .int)) rm_X10_bars (va_Pc [.ref x0, .int x1, .int x2] (WV g σ)) (Qi g r) 0 0 (frN g) := by
  refine ct_of (by decide) (Nat.le_of_ble_eq_true rfl) ?_
  intro p e s m below meth c ls X hV hl
  have hF : FR g [] := FR_nil
  unfold F_X10_bars at h
  have hl : lv_has ls 6 [(0, .ref x0), (1, .int x1), (2, .int x2)] := hl
  have X : FX g p m c s _ meth cX10_bars 6 RX10 (some .int) "bars" := X
  obtain ⟨-, h⟩ := gd_inv h
  refine lv_iload_n X.1 X.2.1 dX10_bars_0 rfl (lv_at hl 1 rfl) ?_
  obtain ⟨v1, s1, hc, h⟩ := b2_inv h
  refine r_ci (va_runS (As := [.int x1]) (rest := []) (cfX X) (c_X10_isThing l hc) (va_cwS 1 X.2.2.2.2.1 (lw_S q1123 q1124 q59 q1125) rfl rfl rfl yd_X10_isThing ⟨Nat.le_of_ble_eq_true rfl, Nat.le_of_ble_eq_true rfl⟩) (preS X hV) rfl rfl hl.1 rfl (lv_room (Nat.le_of_ble_eq_true rfl)) dX10_bars_1 ⟨(Nat.le_of_ble_eq_true rfl), (Nat.le_of_ble_eq_true rfl)⟩) hF (fun H locs hV hF => ?_)
  refine r_ifeq (tgt := 14) X.1 X.2.1 dX10_bars_4 (by decide) h (fun h => ?_) (fun h => ?_)
  · refine lv_bipush (v := (-2)) X.1 X.2.1 dX10_bars_14 (by decide) ?_
    exact r_iret X hV hF h dX10_bars_16
  · refine lv_iload_n X.1 X.2.1 dX10_bars_7 rfl (lv_at hl 2 rfl) ?_
    obtain ⟨v2, s2, hc, h⟩ := b2_inv h
    refine r_ci (va_runS (As := [.int x2]) (rest := []) (cfX X) (c_X10_isCorner l hc) (va_cwS 1 X.2.2.2.2.1 (lw_S q1146 q1147 q59 q1148) rfl rfl rfl yd_X10_isCorner ⟨Nat.le_of_ble_eq_true rfl, Nat.le_of_ble_eq_true rfl⟩) (preS X hV) rfl rfl hl.1 rfl (lv_room (Nat.le_of_ble_eq_true rfl)) dX10_bars_8 ⟨(Nat.le_of_ble_eq_true rfl), (Nat.le_of_ble_eq_true rfl)⟩) hF (fun H locs hV hF => ?_)
    refine r_ifne (tgt := 17) X.1 X.2.1 dX10_bars_11 (by decide) h (fun h => ?_) (fun h => ?_)
    · refine lv_aload_n X.1 X.2.1 dX10_bars_17 rfl (lv_at hl 0 rfl) ?_
      refine lv_iload_n X.1 X.2.1 dX10_bars_18 rfl (lv_at hl 2 rfl) ?_
      refine lv_bipush (v := 6) X.1 X.2.1 dX10_bars_19 (by decide) ?_
      refine lv_idiv X.1 X.2.1 dX10_bars_21 (by decide) ?_
      obtain ⟨v3, s3, hc, h⟩ := b2_inv h
      refine r_ci (va_runV (C := RX10) (As := [.int (x2 / 6)]) (rest := []) (cfX X) (c_X10_standIn l hc) (cwV 1 X.2.2.2.2.1 (lw_V q1245 q1247 qs36 q59 q1248) rfl rfl rfl ⟨rfl, yd_X10_standIn⟩ ⟨Nat.le_of_ble_eq_true rfl, Nat.le_of_ble_eq_true rfl⟩) (preV X hV (F_X10_standIn_g hc) rfl) rfl rfl hl.1 rfl (lv_room (Nat.le_of_ble_eq_true rfl)) dX10_bars_22 ⟨(Nat.le_of_ble_eq_true rfl), (Nat.le_of_ble_eq_true rfl)⟩) hF (fun H locs hV hF => ?_)
      refine lv_aload_n X.1 X.2.1 dX10_bars_25 rfl (lv_at hl 0 rfl) ?_
      refine lv_iconst (v := 0) X.1 X.2.1 dX10_bars_26 (by decide) ?_
      refine lv_iload_n X.1 X.2.1 dX10_bars_27 rfl (lv_at hl 2 rfl) ?_
      refine lv_bipush (v := 6) X.1 X.2.1 dX10_bars_28 (by decide) ?_
      refine lv_idiv X.1 X.2.1 dX10_bars_30 (by decide) ?_
      refine lv_bipush (v := 100) X.1 X.2.1 dX10_bars_31 (by decide) ?_
      obtain ⟨v4, s4, hc, h⟩ := b2_inv h
      refine r_ci (va_runV (C := RX10) (As := [.int 0, .int (x2 / 6), .int 100]) (rest := [.int v3]) (cfX X) (c_X10_lastOf l hc) (cwV 3 X.2.2.2.2.1 (lw_V q1249 q1251 qs37 q59 q1252) rfl rfl rfl ⟨rfl, yd_X10_lastOf⟩ ⟨Nat.le_of_ble_eq_true rfl, Nat.le_of_ble_eq_true rfl⟩) (preV X hV (F_X10_lastOf_g hc) rfl) rfl rfl hl.1 rfl (lv_room (Nat.le_of_ble_eq_true rfl)) dX10_bars_33 ⟨(Nat.le_of_ble_eq_true rfl), (Nat.le_of_ble_eq_true rfl)⟩) hF (fun H locs hV hF => ?_)
      refine r_lt (tgt := 43) X.1 X.2.1 dX10_bars_36 (by decide) h (fun h => ?_) (fun h => ?_)
      · refine lv_iconst (v := 0) X.1 X.2.1 dX10_bars_43 (by decide) ?_
        exact w_X10_bars_44 X  h hV hF (lv_sub hl [0, 1, 2] rfl)
      · refine lv_iconst (v := 1) X.1 X.2.1 dX10_bars_39 (by decide) ?_
        refine lv_goto (tgt := 44) X.1 X.2.1 dX10_bars_40 (by decide) ?_
        exact w_X10_bars_44 X  h hV hF (lv_sub hl [0, 1, 2] rfl)
    · refine lv_bipush (v := (-2)) X.1 X.2.1 dX10_bars_14 (by decide) ?_
      exact r_iret X hV hF h dX10_bars_16
/-! PalaceOfRoomsModel.due -/
theorem dX10_due_0 : decode cX10_due 0 = .ok (.iconst 0, 1) := by decide +kernel
theorem dX10_due_1 : decode cX10_due 1 = .ok (.istore_n 1, 1) := by decide +kernel
theorem dX10_due_2 : decode cX10_due 2 = .ok (.iconst 0, 1) := by decide +kernel
theorem dX10_due_3 : decode cX10_due 3 = .ok (.istore_n 2, 1) := by decide +kernel
theorem dX10_due_4 : decode cX10_due 4 = .ok (.iload_n 2, 1) := by decide +kernel
theorem dX10_due_5 : decode cX10_due 5 = .ok (.bipush 8, 2) := by decide +kernel
theorem dX10_due_7 : decode cX10_due 7 = .ok (.if_icmp .ge 68, 3) := by decide +kernel
theorem dX10_due_10 : decode cX10_due 10 = .ok (.aload_n 0, 1) := by decide +kernel
theorem dX10_due_11 : decode cX10_due 11 = .ok (.iconst 3, 1) := by decide +kernel
theorem dX10_due_12 : decode cX10_due 12 = .ok (.iload_n 2, 1) := by decide +kernel
theorem dX10_due_13 : decode cX10_due 13 = .ok (.iconst 0, 1) := by decide +kernel
theorem dX10_due_14 : decode cX10_due 14 = .ok (.invokevirtual 216, 3) := by decide +kernel
theorem dX10_due_17 : decode cX10_due 17 = .ok (.istore_n 3, 1) := by decide +kernel
theorem dX10_due_18 : decode cX10_due 18 = .ok (.iload_n 3, 1) := by decide +kernel
theorem dX10_due_19 : decode cX10_due 19 = .ok (.ifCond .le 32, 3) := by decide +kernel
theorem dX10_due_22 : decode cX10_due 22 = .ok (.aload_n 0, 1) := by decide +kernel
theorem dX10_due_23 : decode cX10_due 23 = .ok (.getfield 47, 3) := by decide +kernel
theorem dX10_due_26 : decode cX10_due 26 = .ok (.iload_n 2, 1) := by decide +kernel
theorem dX10_due_27 : decode cX10_due 27 = .ok (.iaload, 1) := by decide +kernel
theorem dX10_due_28 : decode cX10_due 28 = .ok (.iconst (-1), 1) := by decide +kernel
theorem dX10_due_29 : decode cX10_due 29 = .ok (.if_icmp .eq 18, 3) := by decide +kernel
theorem dX10_due_32 : decode cX10_due 32 = .ok (.aload_n 0, 1) := by decide +kernel
theorem dX10_due_33 : decode cX10_due 33 = .ok (.getfield 125, 3) := by decide +kernel
theorem dX10_due_36 : decode cX10_due 36 = .ok (.aload_n 0, 1) := by decide +kernel
theorem dX10_due_37 : decode cX10_due 37 = .ok (.getfield 47, 3) := by decide +kernel
theorem dX10_due_40 : decode cX10_due 40 = .ok (.iload_n 2, 1) := by decide +kernel
theorem dX10_due_41 : decode cX10_due 41 = .ok (.iaload, 1) := by decide +kernel
theorem dX10_due_42 : decode cX10_due 42 = .ok (.isub, 1) := by decide +kernel
theorem dX10_due_43 : decode cX10_due 43 = .ok (.iload_n 3, 1) := by decide +kernel
theorem dX10_due_44 : decode cX10_due 44 = .ok (.if_icmp .lt 7, 3) := by decide +kernel
theorem dX10_due_47 : decode cX10_due 47 = .ok (.iconst 1, 1) := by decide +kernel
theorem dX10_due_48 : decode cX10_due 48 = .ok (.goto 4, 3) := by decide +kernel
theorem dX10_due_51 : decode cX10_due 51 = .ok (.iconst 0, 1) := by decide +kernel
theorem dX10_due_52 : decode cX10_due 52 = .ok (.istore 4, 2) := by decide +kernel
theorem dX10_due_54 : decode cX10_due 54 = .ok (.iload_n 1, 1) := by decide +kernel
theorem dX10_due_55 : decode cX10_due 55 = .ok (.iload 4, 2) := by decide +kernel
theorem dX10_due_57 : decode cX10_due 57 = .ok (.ifCond .eq 9, 3) := by decide +kernel
theorem dX10_due_60 : decode cX10_due 60 = .ok (.iconst 1, 1) := by decide +kernel
theorem dX10_due_61 : decode cX10_due 61 = .ok (.iload_n 2, 1) := by decide +kernel
theorem dX10_due_62 : decode cX10_due 62 = .ok (.ishl, 1) := by decide +kernel
theorem dX10_due_63 : decode cX10_due 63 = .ok (.goto 4, 3) := by decide +kernel
theorem dX10_due_66 : decode cX10_due 66 = .ok (.iconst 0, 1) := by decide +kernel
theorem dX10_due_67 : decode cX10_due 67 = .ok (.ior, 1) := by decide +kernel
theorem dX10_due_68 : decode cX10_due 68 = .ok (.istore_n 1, 1) := by decide +kernel
theorem dX10_due_69 : decode cX10_due 69 = .ok (.iinc 2 1, 3) := by decide +kernel
theorem dX10_due_72 : decode cX10_due 72 = .ok (.goto (-68), 3) := by decide +kernel
theorem dX10_due_75 : decode cX10_due 75 = .ok (.iload_n 1, 1) := by decide +kernel
theorem dX10_due_76 : decode cX10_due 76 = .ok (.ireturn, 1) := by decide +kernel
theorem yd_X10_due : yX10_due.cls ≠ "java/lang/invoke/MethodHandle" ∧ yX10_due.cls ≠ "java/lang/invoke/VarHandle" ∧ (parseMethodDescriptor yX10_due.desc).map (fun d => d.parameters.length) = some 0 := by decide +kernel
abbrev rm_X10_due : Room := { frames := 1, cells := 0, slots := 0, locals := 25 }
set_option maxHeartbeats 4000000 in
theorem w_X10_due_52 {p : Program} {l : Launch} {e : Env} {s : State} {m : MethodId} {args : Array Value} {below : List Frame} {meth : Method} {c : Code} {g : Gl} (X : FX g p m c s args meth cX10_due 5 RX10 (some .int) "due") {r : Int32 × Hp} {rec4 : Hp × Int32 × Int32 → Option (Int32 × Hp)} {σ : Hp} {x0 : Nat} {x1 : Int32} {x2 : Int32} {y0 : Int32} (hr4 : ∀ (st : Hp × Int32 × Int32), rec4 st = some r → ∀ (H : Heap) (locs : List Loc) (ls : Array Slot), HV g st.1 H → FR g locs → lv_has ls 5 [(0, .ref x0), (1, .int st.2.1), (2, .int st.2.2)] → W p l e rm_X10_due s m args below meth c H locs 0 0 (MQ below (Qi g r) args s 0 0 (frN g)) (F0 m 4 ls [])) {H : Heap} {locs : List Loc} {ls : Array Slot} (h : F_X10_due_52 rec4 σ x0 x1 x2 y0 = some r) (hV : HV g σ H) (hF : FR g locs) (hl : lv_has ls 5 [(0, .ref x0), (1, .int x1), (2, .int x2)]) : W p l e rm_X10_due s m args below meth c H locs 0 0 (MQ below (Qi g r) args s 0 0 (frN g)) (F0 m 52 ls [.int y0]) := by
  unfold F_X10_due_52 at h
  refine lv_istore (lv' := [(4, .int y0), (0, .ref x0), (1, .int x1), (2, .int x2)]) X.1 X.2.1 dX10_due_52 hl (by decide) rfl (fun ls hl => ?_)
  refine lv_iload_n X.1 X.2.1 dX10_due_54 rfl (lv_at hl 2 rfl) ?_
  refine lv_iload X.1 X.2.1 dX10_due_55 (lv_at hl 0 rfl) ?_
  refine r_ifeq (tgt := 66) X.1 X.2.1 dX10_due_57 (by decide) h (fun h => ?_) (fun h => ?_)
  · refine lv_iconst (v := 0) X.1 X.2.1 dX10_due_66 (by decide) ?_
    refine lv_ior X.1 X.2.1 dX10_due_67 ?_
    refine lv_istore_n (lv' := [(1, .int (x1 ||| 0)), (4, .int y0), (0, .ref x0), (2, .int x2)]) X.1 X.2.1 dX10_due_68 rfl hl (by decide) rfl (fun ls hl => ?_)
    refine lv_iinc (v := x2 + 1) (lv' := [(2, .int (x2 + 1)), (1, .int (x1 ||| 0)), (4, .int y0), (0, .ref x0)]) X.1 X.2.1 dX10_due_69 hl (k := 3) rfl rfl (by decide) rfl (fun ls hl => ?_)
    refine lv_goto (tgt := 4) X.1 X.2.1 dX10_due_72 (by decide) ?_
    exact hr4 (σ, x1 ||| 0, x2 + 1) h _ _ _ hV hF (lv_sub hl [3, 1, 0] rfl)
  · refine lv_iconst (v := 1) X.1 X.2.1 dX10_due_60 (by decide) ?_
    refine lv_iload_n X.1 X.2.1 dX10_due_61 rfl (lv_at hl 3 rfl) ?_
    refine lv_ishl X.1 X.2.1 dX10_due_62 ?_
    refine lv_goto (tgt := 67) X.1 X.2.1 dX10_due_63 (by decide) ?_
    refine lv_ior X.1 X.2.1 dX10_due_67 ?_
    refine lv_istore_n (lv' := [(1, .int (x1 ||| (1 <<< (x2 &&& 31)))), (4, .int y0), (0, .ref x0), (2, .int x2)]) X.1 X.2.1 dX10_due_68 rfl hl (by decide) rfl (fun ls hl => ?_)
    refine lv_iinc (v := x2 + 1) (lv' := [(2, .int (x2 + 1)), (1, .int (x1 ||| (1 <<< (x2 &&& 31)))), (4, .int y0), (0, .ref x0)]) X.1 X.2.1 dX10_due_69 hl (k := 3) rfl rfl (by decide) rfl (fun ls hl => ?_)
    refine lv_goto (tgt := 4) X.1 X.2.1 dX10_due_72 (by decide) ?_
    exact hr4 (σ, x1 ||| (1 <<< (x2 &&& 31)), x2 + 1) h _ _ _ hV hF (lv_sub hl [3, 1, 0] rfl)
set_option maxHeartbeats 4000000 in
theorem w_X10_due_51 {p : Program} {l : Launch} {e : Env} {s : State} {m : MethodId} {args : Array Value} {below : List Frame} {meth : Method} {c : Code} {g : Gl} (X : FX g p m c s args meth cX10_due 5 RX10 (some .int) "due") {r : Int32 × Hp} {rec4 : Hp × Int32 × Int32 → Option (Int32 × Hp)} {σ : Hp} {x0 : Nat} {x1 : Int32} {x2 : Int32} (hr4 : ∀ (st : Hp × Int32 × Int32), rec4 st = some r → ∀ (H : Heap) (locs : List Loc) (ls : Array Slot), HV g st.1 H → FR g locs → lv_has ls 5 [(0, .ref x0), (1, .int st.2.1), (2, .int st.2.2)] → W p l e rm_X10_due s m args below meth c H locs 0 0 (MQ below (Qi g r) args s 0 0 (frN g)) (F0 m 4 ls [])) {H : Heap} {locs : List Loc} {ls : Array Slot} (h : F_X10_due_51 rec4 σ x0 x1 x2 = some r) (hV : HV g σ H) (hF : FR g locs) (hl : lv_has ls 5 [(0, .ref x0), (1, .int x1), (2, .int x2)]) : W p l e rm_X10_due s m args below meth c H locs 0 0 (MQ below (Qi g r) args s 0 0 (frN g)) (F0 m 51 ls []) := by
  unfold F_X10_due_51 at h
  refine lv_iconst (v := 0) X.1 X.2.1 dX10_due_51 (by decide) ?_
  exact w_X10_due_52 X hr4 h hV hF (lv_sub hl [0, 1, 2] rfl)
set_option maxHeartbeats 4000000 in
theorem w_X10_due_47 {p : Program} {l : Launch} {e : Env} {s : State} {m : MethodId} {args : Array Value} {below : List Frame} {meth : Method} {c : Code} {g : Gl} (X : FX g p m c s args meth cX10_due 5 RX10 (some .int) "due") {r : Int32 × Hp} {rec4 : Hp × Int32 × Int32 → Option (Int32 × Hp)} {σ : Hp} {x0 : Nat} {x1 : Int32} {x2 : Int32} (hr4 : ∀ (st : Hp × Int32 × Int32), rec4 st = some r → ∀ (H : Heap) (locs : List Loc) (ls : Array Slot), HV g st.1 H → FR g locs → lv_has ls 5 [(0, .ref x0), (1, .int st.2.1), (2, .int st.2.2)] → W p l e rm_X10_due s m args below meth c H locs 0 0 (MQ below (Qi g r) args s 0 0 (frN g)) (F0 m 4 ls [])) {H : Heap} {locs : List Loc} {ls : Array Slot} (h : F_X10_due_47 rec4 σ x0 x1 x2 = some r) (hV : HV g σ H) (hF : FR g locs) (hl : lv_has ls 5 [(0, .ref x0), (1, .int x1), (2, .int x2)]) : W p l e rm_X10_due s m args below meth c H locs 0 0 (MQ below (Qi g r) args s 0 0 (frN g)) (F0 m 47 ls []) := by
  unfold F_X10_due_47 at h
  refine lv_iconst (v := 1) X.1 X.2.1 dX10_due_47 (by decide) ?_
  refine lv_goto (tgt := 52) X.1 X.2.1 dX10_due_48 (by decide) ?_
  exact w_X10_due_52 X hr4 h hV hF (lv_sub hl [0, 1, 2] rfl)
set_option maxHeartbeats 4000000 in
theorem w_X10_due_4_b {p : Program} {l : Launch} {e : Env} {s : State} {m : MethodId} {args : Array Value} {below : List Frame} {meth : Method} {c : Code} {g : Gl} (X : FX g p m c s args meth cX10_due 5 RX10 (some .int) "due") {r : Int32 × Hp} {rec4 : Hp × Int32 × Int32 → Option (Int32 × Hp)} {x0 : Nat} {σ : Hp} {x1 : Int32} {x2 : Int32} (hr4 : ∀ (st : Hp × Int32 × Int32), rec4 st = some r → ∀ (H : Heap) (locs : List Loc) (ls : Array Slot), HV g st.1 H → FR g locs → lv_has ls 5 [(0, .ref x0), (1, .int st.2.1), (2, .int st.2.2)] → W p l e rm_X10_due s m args below meth c H locs 0 0 (MQ below (Qi g r) args s 0 0 (frN g)) (F0 m 4 ls [])) {H : Heap} {locs : List Loc} {ls : Array Slot} (h : B_X10_due_4 x0 rec4 σ x1 x2 = some r) (hV : HV g σ H) (hF : FR g locs) (hl : lv_has ls 5 [(0, .ref x0), (1, .int x1), (2, .int x2)]) : W p l e rm_X10_due s m args below meth c H locs 0 0 (MQ below (Qi g r) args s 0 0 (frN g)) (F0 m 4 ls []) := by
  unfold B_X10_due_4 at h
  refine lv_iload_n X.1 X.2.1 dX10_due_4 rfl (lv_at hl 2 rfl) ?_
  refine lv_bipush (v := 8) X.1 X.2.1 dX10_due_5 (by decide) ?_
  refine r_ge (tgt := 75) X.1 X.2.1 dX10_due_7 (by decide) h (fun h => ?_) (fun h => ?_)
  · refine lv_iload_n X.1 X.2.1 dX10_due_75 rfl (lv_at hl 1 rfl) ?_
    exact r_iret X hV hF h dX10_due_76
  · refine lv_aload_n X.1 X.2.1 dX10_due_10 rfl (lv_at hl 0 rfl) ?_
    refine lv_iconst (v := 3) X.1 X.2.1 dX10_due_11 (by decide) ?_
    refine lv_iload_n X.1 X.2.1 dX10_due_12 rfl (lv_at hl 2 rfl) ?_
    refine lv_iconst (v := 0) X.1 X.2.1 dX10_due_13 (by decide) ?_
    obtain ⟨v1, s1, hc, h⟩ := b2_inv h
    refine r_ci (va_runV (C := RX10) (As := [.int 3, .int x2, .int 0]) (rest := []) (cfX X) (c_X10_lastOf l hc) (cwV 3 X.2.2.2.2.1 (lw_V q1249 q1251 qs37 q59 q1252) rfl rfl rfl ⟨rfl, yd_X10_lastOf⟩ ⟨Nat.le_of_ble_eq_true rfl, Nat.le_of_ble_eq_true rfl⟩) (preV X hV (F_X10_lastOf_g hc) rfl) rfl rfl hl.1 rfl (lv_room (Nat.le_of_ble_eq_true rfl)) dX10_due_14 ⟨(Nat.le_of_ble_eq_true rfl), (Nat.le_of_ble_eq_true rfl)⟩) hF (fun H locs hV hF => ?_)
    refine lv_istore_n (lv' := [(3, .int v1), (0, .ref x0), (1, .int x1), (2, .int x2)]) X.1 X.2.1 dX10_due_17 rfl hl (by decide) rfl (fun ls hl => ?_)
    refine lv_iload_n X.1 X.2.1 dX10_due_18 rfl (lv_at hl 0 rfl) ?_
    refine r_ifle (tgt := 51) X.1 X.2.1 dX10_due_19 (by decide) h (fun h => ?_) (fun h => ?_)
    · exact w_X10_due_51 X hr4 h hV hF (lv_sub hl [1, 2, 3] rfl)
    · refine lv_aload_n X.1 X.2.1 dX10_due_22 rfl (lv_at hl 1 rfl) ?_
      refine r_gR X hV fl_X10_47_10 (by decide) dX10_due_23 h (fun v2 h => ?_)
      refine lv_iload_n X.1 X.2.1 dX10_due_26 rfl (lv_at hl 3 rfl) ?_
      refine r_ia X hV dX10_due_27 h (fun v3 h => ?_)
      refine lv_iconst (v := (-1)) X.1 X.2.1 dX10_due_28 (by decide) ?_
      refine r_eq (tgt := 47) X.1 X.2.1 dX10_due_29 (by decide) h (fun h => ?_) (fun h => ?_)
      · exact w_X10_due_47 X hr4 h hV hF (lv_sub hl [1, 2, 3] rfl)
      · refine lv_aload_n X.1 X.2.1 dX10_due_32 rfl (lv_at hl 1 rfl) ?_
        refine r_gI X hV fl_X10_125_10 dX10_due_33 h (fun v4 h => ?_)
        refine lv_aload_n X.1 X.2.1 dX10_due_36 rfl (lv_at hl 1 rfl) ?_
        refine r_gR X hV fl_X10_47_10 (by decide) dX10_due_37 h (fun v5 h => ?_)
        refine lv_iload_n X.1 X.2.1 dX10_due_40 rfl (lv_at hl 3 rfl) ?_
        refine r_ia X hV dX10_due_41 h (fun v6 h => ?_)
        refine lv_isub X.1 X.2.1 dX10_due_42 ?_
        refine lv_iload_n X.1 X.2.1 dX10_due_43 rfl (lv_at hl 0 rfl) ?_
        refine r_lt (tgt := 51) X.1 X.2.1 dX10_due_44 (by decide) h (fun h => ?_) (fun h => ?_)
        · exact w_X10_due_51 X hr4 h hV hF (lv_sub hl [1, 2, 3] rfl)
        · exact w_X10_due_47 X hr4 h hV hF (lv_sub hl [1, 2, 3] rfl)
set_option maxHeartbeats 4000000 in
theorem w_X10_due_4 {p : Program} {l : Launch} {e : Env} {s : State} {m : MethodId} {args : Array Value} {below : List Frame} {meth : Method} {c : Code} {g : Gl} (X : FX g p m c s args meth cX10_due 5 RX10 (some .int) "due") {r : Int32 × Hp} {x0 : Nat}  : ∀ (n : Nat) (st : Hp × Int32 × Int32), L_X10_due_4 x0 n st = some r → ∀ (H : Heap) (locs : List Loc) (ls : Array Slot), HV g st.1 H → FR g locs → lv_has ls 5 [(0, .ref x0), (1, .int st.2.1), (2, .int st.2.2)] → W p l e rm_X10_due s m args below meth c H locs 0 0 (MQ below (Qi g r) args s 0 0 (frN g)) (F0 m 4 ls []) := by
  intro n
  induction n with
  | zero =>
    intro st h
    rw [L_X10_due_4_0] at h
    cases h
  | succ n ih =>
    intro st h H locs ls hV hF hl
    rw [L_X10_due_4_s] at h
    exact w_X10_due_4_b X  ih h hV hF hl
set_option maxHeartbeats 4000000 in
theorem c_X10_due (l : Launch) {g : Gl} {σ : Hp} {x0 : Nat} {r : Int32 × Hp} (h : F_X10_due σ x0 = some r) : Met l yX10_due (ws_ yX10_due cX10_due 5 (some .int)) rm_X10_due (va_Pc [.ref x0] (WV g σ)) (Qi g r) 0 0 (frN g) := by
  refine ct_of (by decide) (Nat.le_of_ble_eq_true rfl) ?_
  intro p e s m below meth c ls X hV hl
  have hF : FR g [] := FR_nil
  unfold F_X10_due at h
  have hl : lv_has ls 5 [(0, .ref x0)] := hl
  have X : FX g p m c s _ meth cX10_due 5 RX10 (some .int) "due" := X
  obtain ⟨-, h⟩ := gd_inv h
  refine lv_iconst (v := 0) X.1 X.2.1 dX10_due_0 (by decide) ?_
  refine lv_istore_n (lv' := [(1, .int 0), (0, .ref x0)]) X.1 X.2.1 dX10_due_1 rfl hl (by decide) rfl (fun ls hl => ?_)
  refine lv_iconst (v := 0) X.1 X.2.1 dX10_due_2 (by decide) ?_
  refine lv_istore_n (lv' := [(2, .int 0), (1, .int 0), (0, .ref x0)]) X.1 X.2.1 dX10_due_3 rfl hl (by decide) rfl (fun ls hl => ?_)
  exact w_X10_due_4 X  FU (σ, 0, 0) h _ _ _ hV hF (lv_sub hl [2, 1, 0] rfl)
