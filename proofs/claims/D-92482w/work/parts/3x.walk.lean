set_option maxRecDepth 100000
/-! PalaceOfRooms$Pupil.likeliest -/
theorem dX9_likeliest_0 : decode cX9_likeliest 0 = .ok (.iconst 0, 1) := by decide +kernel
theorem dX9_likeliest_1 : decode cX9_likeliest 1 = .ok (.istore_n 1, 1) := by decide +kernel
theorem dX9_likeliest_2 : decode cX9_likeliest 2 = .ok (.iconst (-1), 1) := by decide +kernel
theorem dX9_likeliest_3 : decode cX9_likeliest 3 = .ok (.istore_n 2, 1) := by decide +kernel
theorem dX9_likeliest_4 : decode cX9_likeliest 4 = .ok (.iconst 1, 1) := by decide +kernel
theorem dX9_likeliest_5 : decode cX9_likeliest 5 = .ok (.istore_n 3, 1) := by decide +kernel
theorem dX9_likeliest_6 : decode cX9_likeliest 6 = .ok (.iload_n 3, 1) := by decide +kernel
theorem dX9_likeliest_7 : decode cX9_likeliest 7 = .ok (.bipush 9, 2) := by decide +kernel
theorem dX9_likeliest_9 : decode cX9_likeliest 9 = .ok (.if_icmp .gt 53, 3) := by decide +kernel
theorem dX9_likeliest_12 : decode cX9_likeliest 12 = .ok (.bipush 10, 2) := by decide +kernel
theorem dX9_likeliest_14 : decode cX9_likeliest 14 = .ok (.istore 4, 2) := by decide +kernel
theorem dX9_likeliest_16 : decode cX9_likeliest 16 = .ok (.iload 4, 2) := by decide +kernel
theorem dX9_likeliest_18 : decode cX9_likeliest 18 = .ok (.bipush 90, 2) := by decide +kernel
theorem dX9_likeliest_20 : decode cX9_likeliest 20 = .ok (.if_icmp .gt 36, 3) := by decide +kernel
theorem dX9_likeliest_23 : decode cX9_likeliest 23 = .ok (.aload_n 0, 1) := by decide +kernel
theorem dX9_likeliest_24 : decode cX9_likeliest 24 = .ok (.iload_n 3, 1) := by decide +kernel
theorem dX9_likeliest_25 : decode cX9_likeliest 25 = .ok (.iload 4, 2) := by decide +kernel
theorem dX9_likeliest_27 : decode cX9_likeliest 27 = .ok (.invokevirtual 27, 3) := by decide +kernel
theorem dX9_likeliest_30 : decode cX9_likeliest 30 = .ok (.iload_n 2, 1) := by decide +kernel
theorem dX9_likeliest_31 : decode cX9_likeliest 31 = .ok (.if_icmp .le 19, 3) := by decide +kernel
theorem dX9_likeliest_34 : decode cX9_likeliest 34 = .ok (.aload_n 0, 1) := by decide +kernel
theorem dX9_likeliest_35 : decode cX9_likeliest 35 = .ok (.iload_n 3, 1) := by decide +kernel
theorem dX9_likeliest_36 : decode cX9_likeliest 36 = .ok (.iload 4, 2) := by decide +kernel
theorem dX9_likeliest_38 : decode cX9_likeliest 38 = .ok (.invokevirtual 27, 3) := by decide +kernel
theorem dX9_likeliest_41 : decode cX9_likeliest 41 = .ok (.istore_n 2, 1) := by decide +kernel
theorem dX9_likeliest_42 : decode cX9_likeliest 42 = .ok (.bipush 100, 2) := by decide +kernel
theorem dX9_likeliest_44 : decode cX9_likeliest 44 = .ok (.iload_n 3, 1) := by decide +kernel
theorem dX9_likeliest_45 : decode cX9_likeliest 45 = .ok (.imul, 1) := by decide +kernel
theorem dX9_likeliest_46 : decode cX9_likeliest 46 = .ok (.iload 4, 2) := by decide +kernel
theorem dX9_likeliest_48 : decode cX9_likeliest 48 = .ok (.iadd, 1) := by decide +kernel
theorem dX9_likeliest_49 : decode cX9_likeliest 49 = .ok (.istore_n 1, 1) := by decide +kernel
theorem dX9_likeliest_50 : decode cX9_likeliest 50 = .ok (.iinc 4 10, 3) := by decide +kernel
theorem dX9_likeliest_53 : decode cX9_likeliest 53 = .ok (.goto (-37), 3) := by decide +kernel
theorem dX9_likeliest_56 : decode cX9_likeliest 56 = .ok (.iinc 3 1, 3) := by decide +kernel
theorem dX9_likeliest_59 : decode cX9_likeliest 59 = .ok (.goto (-53), 3) := by decide +kernel
theorem dX9_likeliest_62 : decode cX9_likeliest 62 = .ok (.iload_n 1, 1) := by decide +kernel
theorem dX9_likeliest_63 : decode cX9_likeliest 63 = .ok (.ireturn, 1) := by decide +kernel
theorem yd_X9_likeliest : yX9_likeliest.cls ≠ "java/lang/invoke/MethodHandle" ∧ yX9_likeliest.cls ≠ "java/lang/invoke/VarHandle" ∧ (parseMethodDescriptor yX9_likeliest.desc).map (fun d => d.parameters.length) = some 0 := by decide +kernel
abbrev rm_X9_likeliest : Room := { frames := 2, cells := 0, slots := 0, locals := 46 }
set_option maxHeartbeats 4000000 in
theorem w_X9_likeliest_16_b {p : Program} {l : Launch} {e : Env} {s : State} {m : MethodId} {args : Array Value} {below : List Frame} {meth : Method} {c : Code} {g : Gl} (X : FX g p m c s args meth cX9_likeliest 5 RX9 (some .int) "likeliest") {r : Int32 × Hp} {rec6 : Hp × Int32 × Int32 × Int32 → Option (Int32 × Hp)} {rec16 : Hp × Int32 × Int32 × Int32 → Option (Int32 × Hp)} {x0 : Nat} {x3 : Int32} {σ : Hp} {x1 : Int32} {x2 : Int32} {x4 : Int32} (hr6 : ∀ (st : Hp × Int32 × Int32 × Int32), rec6 st = some r → ∀ (H : Heap) (locs : List Loc) (ls : Array Slot), HV g st.1 H → FR g locs → lv_has ls 5 [(0, .ref x0), (1, .int st.2.1), (2, .int st.2.2.1), (3, .int st.2.2.2)] → W p l e rm_X9_likeliest s m args below meth c H locs 0 0 (MQ below (Qi g r) args s 0 0 (frN g)) (F0 m 6 ls [])) (hr16 : ∀ (st : Hp × Int32 × Int32 × Int32), rec16 st = some r → ∀ (H : Heap) (locs : List Loc) (ls : Array Slot), HV g st.1 H → FR g locs → lv_has ls 5 [(0, .ref x0), (1, .int st.2.1), (2, .int st.2.2.1), (3, .int x3), (4, .int st.2.2.2)] → W p l e rm_X9_likeliest s m args below meth c H locs 0 0 (MQ below (Qi g r) args s 0 0 (frN g)) (F0 m 16 ls [])) {H : Heap} {locs : List Loc} {ls : Array Slot} (h : B_X9_likeliest_16 rec6 x0 x3 rec16 σ x1 x2 x4 = some r) (hV : HV g σ H) (hF : FR g locs) (hl : lv_has ls 5 [(0, .ref x0), (1, .int x1), (2, .int x2), (3, .int x3), (4, .int x4)]) : W p l e rm_X9_likeliest s m args below meth c H locs 0 0 (MQ below (Qi g r) args s 0 0 (frN g)) (F0 m 16 ls []) := by
  unfold B_X9_likeliest_16 at h
  refine lv_iload X.1 X.2.1 dX9_likeliest_16 (lv_at hl 4 rfl) ?_
  refine lv_bipush (v := 90) X.1 X.2.1 dX9_likeliest_18 (by decide) ?_
  refine r_gt (tgt := 56) X.1 X.2.1 dX9_likeliest_20 (by decide) h (fun h => ?_) (fun h => ?_)
  · refine lv_iinc (v := x3 + 1) (lv' := [(3, .int (x3 + 1)), (0, .ref x0), (1, .int x1), (2, .int x2), (4, .int x4)]) X.1 X.2.1 dX9_likeliest_56 hl (k := 3) rfl rfl (by decide) rfl (fun ls hl => ?_)
    refine lv_goto (tgt := 6) X.1 X.2.1 dX9_likeliest_59 (by decide) ?_
    exact hr6 (σ, x1, x2, x3 + 1) h _ _ _ hV hF (lv_sub hl [1, 2, 3, 0] rfl)
  · refine lv_aload_n X.1 X.2.1 dX9_likeliest_23 rfl (lv_at hl 0 rfl) ?_
    refine lv_iload_n X.1 X.2.1 dX9_likeliest_24 rfl (lv_at hl 3 rfl) ?_
    refine lv_iload X.1 X.2.1 dX9_likeliest_25 (lv_at hl 4 rfl) ?_
    obtain ⟨v1, s1, hc, h⟩ := b2_inv h
    refine r_ci (va_runV (C := RX9) (As := [.int x3, .int x4]) (rest := []) (cfX X) (c_X9_agrees l hc) (cwV 2 X.2.2.2.2.1 (lw_V q939 q940 q941 q58 q942) rfl rfl rfl ⟨rfl, yd_X9_agrees⟩ ⟨Nat.le_of_ble_eq_true rfl, Nat.le_of_ble_eq_true rfl⟩) (preV X hV (F_X9_agrees_g hc) rfl) rfl rfl hl.1 rfl (lv_room (Nat.le_of_ble_eq_true rfl)) dX9_likeliest_27 ⟨(Nat.le_of_ble_eq_true rfl), (Nat.le_of_ble_eq_true rfl)⟩) hF (fun H locs hV hF => ?_)
    refine lv_iload_n X.1 X.2.1 dX9_likeliest_30 rfl (lv_at hl 2 rfl) ?_
    refine r_le (tgt := 50) X.1 X.2.1 dX9_likeliest_31 (by decide) h (fun h => ?_) (fun h => ?_)
    · refine lv_iinc (v := x4 + 10) (lv' := [(4, .int (x4 + 10)), (0, .ref x0), (1, .int x1), (2, .int x2), (3, .int x3)]) X.1 X.2.1 dX9_likeliest_50 hl (k := 4) rfl rfl (by decide) rfl (fun ls hl => ?_)
      refine lv_goto (tgt := 16) X.1 X.2.1 dX9_likeliest_53 (by decide) ?_
      exact hr16 (s1, x1, x2, x4 + 10) h _ _ _ hV hF (lv_sub hl [1, 2, 3, 4, 0] rfl)
    · refine lv_aload_n X.1 X.2.1 dX9_likeliest_34 rfl (lv_at hl 0 rfl) ?_
      refine lv_iload_n X.1 X.2.1 dX9_likeliest_35 rfl (lv_at hl 3 rfl) ?_
      refine lv_iload X.1 X.2.1 dX9_likeliest_36 (lv_at hl 4 rfl) ?_
      obtain ⟨v2, s2, hc, h⟩ := b2_inv h
      refine r_ci (va_runV (C := RX9) (As := [.int x3, .int x4]) (rest := []) (cfX X) (c_X9_agrees l hc) (cwV 2 X.2.2.2.2.1 (lw_V q939 q940 q941 q58 q942) rfl rfl rfl ⟨rfl, yd_X9_agrees⟩ ⟨Nat.le_of_ble_eq_true rfl, Nat.le_of_ble_eq_true rfl⟩) (preV X hV (F_X9_agrees_g hc) rfl) rfl rfl hl.1 rfl (lv_room (Nat.le_of_ble_eq_true rfl)) dX9_likeliest_38 ⟨(Nat.le_of_ble_eq_true rfl), (Nat.le_of_ble_eq_true rfl)⟩) hF (fun H locs hV hF => ?_)
      refine lv_istore_n (lv' := [(2, .int v2), (0, .ref x0), (1, .int x1), (3, .int x3), (4, .int x4)]) X.1 X.2.1 dX9_likeliest_41 rfl hl (by decide) rfl (fun ls hl => ?_)
      refine lv_bipush (v := 100) X.1 X.2.1 dX9_likeliest_42 (by decide) ?_
      refine lv_iload_n X.1 X.2.1 dX9_likeliest_44 rfl (lv_at hl 3 rfl) ?_
      refine lv_imul X.1 X.2.1 dX9_likeliest_45 ?_
      refine lv_iload X.1 X.2.1 dX9_likeliest_46 (lv_at hl 4 rfl) ?_
      refine lv_iadd X.1 X.2.1 dX9_likeliest_48 ?_
      refine lv_istore_n (lv' := [(1, .int ((100 * x3) + x4)), (2, .int v2), (0, .ref x0), (3, .int x3), (4, .int x4)]) X.1 X.2.1 dX9_likeliest_49 rfl hl (by decide) rfl (fun ls hl => ?_)
      refine lv_iinc (v := x4 + 10) (lv' := [(4, .int (x4 + 10)), (1, .int ((100 * x3) + x4)), (2, .int v2), (0, .ref x0), (3, .int x3)]) X.1 X.2.1 dX9_likeliest_50 hl (k := 4) rfl rfl (by decide) rfl (fun ls hl => ?_)
      refine lv_goto (tgt := 16) X.1 X.2.1 dX9_likeliest_53 (by decide) ?_
      exact hr16 (s2, (100 * x3) + x4, v2, x4 + 10) h _ _ _ hV hF (lv_sub hl [3, 1, 2, 4, 0] rfl)
set_option maxHeartbeats 4000000 in
theorem w_X9_likeliest_16 {p : Program} {l : Launch} {e : Env} {s : State} {m : MethodId} {args : Array Value} {below : List Frame} {meth : Method} {c : Code} {g : Gl} (X : FX g p m c s args meth cX9_likeliest 5 RX9 (some .int) "likeliest") {r : Int32 × Hp} {rec6 : Hp × Int32 × Int32 × Int32 → Option (Int32 × Hp)} {x0 : Nat} {x3 : Int32} (hr6 : ∀ (st : Hp × Int32 × Int32 × Int32), rec6 st = some r → ∀ (H : Heap) (locs : List Loc) (ls : Array Slot), HV g st.1 H → FR g locs → lv_has ls 5 [(0, .ref x0), (1, .int st.2.1), (2, .int st.2.2.1), (3, .int st.2.2.2)] → W p l e rm_X9_likeliest s m args below meth c H locs 0 0 (MQ below (Qi g r) args s 0 0 (frN g)) (F0 m 6 ls [])) : ∀ (n : Nat) (st : Hp × Int32 × Int32 × Int32), L_X9_likeliest_16 rec6 x0 x3 n st = some r → ∀ (H : Heap) (locs : List Loc) (ls : Array Slot), HV g st.1 H → FR g locs → lv_has ls 5 [(0, .ref x0), (1, .int st.2.1), (2, .int st.2.2.1), (3, .int x3), (4, .int st.2.2.2)] → W p l e rm_X9_likeliest s m args below meth c H locs 0 0 (MQ below (Qi g r) args s 0 0 (frN g)) (F0 m 16 ls []) := by
  intro n
  induction n with
  | zero =>
    intro st h
    rw [L_X9_likeliest_16_0] at h
    cases h
  | succ n ih =>
    intro st h H locs ls hV hF hl
    rw [L_X9_likeliest_16_s] at h
    exact w_X9_likeliest_16_b X hr6 ih h hV hF hl
set_option maxHeartbeats 4000000 in
theorem w_X9_likeliest_6_b {p : Program} {l : Launch} {e : Env} {s : State} {m : MethodId} {args : Array Value} {below : List Frame} {meth : Method} {c : Code} {g : Gl} (X : FX g p m c s args meth cX9_likeliest 5 RX9 (some .int) "likeliest") {r : Int32 × Hp} {rec6 : Hp × Int32 × Int32 × Int32 → Option (Int32 × Hp)} {x0 : Nat} {σ : Hp} {x1 : Int32} {x2 : Int32} {x3 : Int32} (hr6 : ∀ (st : Hp × Int32 × Int32 × Int32), rec6 st = some r → ∀ (H : Heap) (locs : List Loc) (ls : Array Slot), HV g st.1 H → FR g locs → lv_has ls 5 [(0, .ref x0), (1, .int st.2.1), (2, .int st.2.2.1), (3, .int st.2.2.2)] → W p l e rm_X9_likeliest s m args below meth c H locs 0 0 (MQ below (Qi g r) args s 0 0 (frN g)) (F0 m 6 ls [])) {H : Heap} {locs : List Loc} {ls : Array Slot} (h : B_X9_likeliest_6 x0 rec6 σ x1 x2 x3 = some r) (hV : HV g σ H) (hF : FR g locs) (hl : lv_has ls 5 [(0, .ref x0), (1, .int x1), (2, .int x2), (3, .int x3)]) : W p l e rm_X9_likeliest s m args below meth c H locs 0 0 (MQ below (Qi g r) args s 0 0 (frN g)) (F0 m 6 ls []) := by
  unfold B_X9_likeliest_6 at h
  refine lv_iload_n X.1 X.2.1 dX9_likeliest_6 rfl (lv_at hl 3 rfl) ?_
  refine lv_bipush (v := 9) X.1 X.2.1 dX9_likeliest_7 (by decide) ?_
  refine r_gt (tgt := 62) X.1 X.2.1 dX9_likeliest_9 (by decide) h (fun h => ?_) (fun h => ?_)
  · refine lv_iload_n X.1 X.2.1 dX9_likeliest_62 rfl (lv_at hl 1 rfl) ?_
    exact r_iret X hV hF h dX9_likeliest_63
  · refine lv_bipush (v := 10) X.1 X.2.1 dX9_likeliest_12 (by decide) ?_
    refine lv_istore (lv' := [(4, .int 10), (0, .ref x0), (1, .int x1), (2, .int x2), (3, .int x3)]) X.1 X.2.1 dX9_likeliest_14 hl (by decide) rfl (fun ls hl => ?_)
    exact w_X9_likeliest_16 X hr6 FU (σ, x1, x2, 10) h _ _ _ hV hF (lv_sub hl [1, 2, 3, 4, 0] rfl)
set_option maxHeartbeats 4000000 in
theorem w_X9_likeliest_6 {p : Program} {l : Launch} {e : Env} {s : State} {m : MethodId} {args : Array Value} {below : List Frame} {meth : Method} {c : Code} {g : Gl} (X : FX g p m c s args meth cX9_likeliest 5 RX9 (some .int) "likeliest") {r : Int32 × Hp} {x0 : Nat}  : ∀ (n : Nat) (st : Hp × Int32 × Int32 × Int32), L_X9_likeliest_6 x0 n st = some r → ∀ (H : Heap) (locs : List Loc) (ls : Array Slot), HV g st.1 H → FR g locs → lv_has ls 5 [(0, .ref x0), (1, .int st.2.1), (2, .int st.2.2.1), (3, .int st.2.2.2)] → W p l e rm_X9_likeliest s m args below meth c H locs 0 0 (MQ below (Qi g r) args s 0 0 (frN g)) (F0 m 6 ls []) := by
  intro n
  induction n with
  | zero =>
    intro st h
    rw [L_X9_likeliest_6_0] at h
    cases h
  | succ n ih =>
    intro st h H locs ls hV hF hl
    rw [L_X9_likeliest_6_s] at h
    exact w_X9_likeliest_6_b X  ih h hV hF hl
set_option maxHeartbeats 4000000 in
theorem c_X9_likeliest (l : Launch) {g : Gl} {σ : Hp} {x0 : Nat} {r : Int32 × Hp} (h : F_X9_likeliest σ x0 = some r) : Met l yX9_likeliest (ws_ yX9_likeliest cX9_likeliest 5 (some .int)) rm_X9_likeliest (va_Pc [.ref x0] (WV g σ)) (Qi g r) 0 0 (frN g) := by
  refine ct_of (by decide) (Nat.le_of_ble_eq_true rfl) ?_
  intro p e s m below meth c ls X hV hl
  have hF : FR g [] := FR_nil
  unfold F_X9_likeliest at h
  have hl : lv_has ls 5 [(0, .ref x0)] := hl
  have X : FX g p m c s _ meth cX9_likeliest 5 RX9 (some .int) "likeliest" := X
  obtain ⟨-, h⟩ := gd_inv h
  refine lv_iconst (v := 0) X.1 X.2.1 dX9_likeliest_0 (by decide) ?_
  refine lv_istore_n (lv' := [(1, .int 0), (0, .ref x0)]) X.1 X.2.1 dX9_likeliest_1 rfl hl (by decide) rfl (fun ls hl => ?_)
  refine lv_iconst (v := (-1)) X.1 X.2.1 dX9_likeliest_2 (by decide) ?_
  refine lv_istore_n (lv' := [(2, .int (-1)), (1, .int 0), (0, .ref x0)]) X.1 X.2.1 dX9_likeliest_3 rfl hl (by decide) rfl (fun ls hl => ?_)
  refine lv_iconst (v := 1) X.1 X.2.1 dX9_likeliest_4 (by decide) ?_
  refine lv_istore_n (lv' := [(3, .int 1), (2, .int (-1)), (1, .int 0), (0, .ref x0)]) X.1 X.2.1 dX9_likeliest_5 rfl hl (by decide) rfl (fun ls hl => ?_)
  exact w_X9_likeliest_6 X  FU (σ, 0, (-1), 1) h _ _ _ hV hF (lv_sub hl [3, 2, 1, 0] rfl)
/-! PalaceOfRooms.pupil -/
theorem dX0_pupil_0 : decode cX0_pupil 0 = .ok (.iload_n 1, 1) := by decide +kernel
theorem dX0_pupil_1 : decode cX0_pupil 1 = .ok (.invokestatic 303, 3) := by decide +kernel
theorem dX0_pupil_4 : decode cX0_pupil 4 = .ok (.ifCond .ne 6, 3) := by decide +kernel
theorem dX0_pupil_7 : decode cX0_pupil 7 = .ok (.bipush (-2), 2) := by decide +kernel
theorem dX0_pupil_9 : decode cX0_pupil 9 = .ok (.ireturn, 1) := by decide +kernel
theorem dX0_pupil_10 : decode cX0_pupil 10 = .ok (.aload_n 0, 1) := by decide +kernel
theorem dX0_pupil_11 : decode cX0_pupil 11 = .ok (.getfield 101, 3) := by decide +kernel
theorem dX0_pupil_14 : decode cX0_pupil 14 = .ok (.iload_n 1, 1) := by decide +kernel
theorem dX0_pupil_15 : decode cX0_pupil 15 = .ok (.aaload, 1) := by decide +kernel
theorem dX0_pupil_16 : decode cX0_pupil 16 = .ok (.astore_n 3, 1) := by decide +kernel
theorem dX0_pupil_17 : decode cX0_pupil 17 = .ok (.iload_n 2, 1) := by decide +kernel
theorem dX0_pupil_18 : decode cX0_pupil 18 = .ok (.tableswitch 64 0 3 #[30, 35, 40, 59], 30) := by decide +kernel
theorem dX0_pupil_48 : decode cX0_pupil 48 = .ok (.aload_n 3, 1) := by decide +kernel
theorem dX0_pupil_49 : decode cX0_pupil 49 = .ok (.invokevirtual 314, 3) := by decide +kernel
theorem dX0_pupil_52 : decode cX0_pupil 52 = .ok (.ireturn, 1) := by decide +kernel
theorem dX0_pupil_53 : decode cX0_pupil 53 = .ok (.aload_n 3, 1) := by decide +kernel
theorem dX0_pupil_54 : decode cX0_pupil 54 = .ok (.invokevirtual 317, 3) := by decide +kernel
theorem dX0_pupil_57 : decode cX0_pupil 57 = .ok (.ireturn, 1) := by decide +kernel
theorem dX0_pupil_58 : decode cX0_pupil 58 = .ok (.aload_n 3, 1) := by decide +kernel
theorem dX0_pupil_59 : decode cX0_pupil 59 = .ok (.aload_n 3, 1) := by decide +kernel
theorem dX0_pupil_60 : decode cX0_pupil 60 = .ok (.invokevirtual 317, 3) := by decide +kernel
theorem dX0_pupil_63 : decode cX0_pupil 63 = .ok (.bipush 100, 2) := by decide +kernel
theorem dX0_pupil_65 : decode cX0_pupil 65 = .ok (.idiv, 1) := by decide +kernel
theorem dX0_pupil_66 : decode cX0_pupil 66 = .ok (.aload_n 3, 1) := by decide +kernel
theorem dX0_pupil_67 : decode cX0_pupil 67 = .ok (.invokevirtual 317, 3) := by decide +kernel
theorem dX0_pupil_70 : decode cX0_pupil 70 = .ok (.bipush 100, 2) := by decide +kernel
theorem dX0_pupil_72 : decode cX0_pupil 72 = .ok (.irem, 1) := by decide +kernel
theorem dX0_pupil_73 : decode cX0_pupil 73 = .ok (.invokevirtual 320, 3) := by decide +kernel
theorem dX0_pupil_76 : decode cX0_pupil 76 = .ok (.ireturn, 1) := by decide +kernel
theorem dX0_pupil_77 : decode cX0_pupil 77 = .ok (.aload_n 3, 1) := by decide +kernel
theorem dX0_pupil_78 : decode cX0_pupil 78 = .ok (.invokevirtual 323, 3) := by decide +kernel
theorem dX0_pupil_81 : decode cX0_pupil 81 = .ok (.ireturn, 1) := by decide +kernel
theorem dX0_pupil_82 : decode cX0_pupil 82 = .ok (.bipush (-3), 2) := by decide +kernel
theorem dX0_pupil_84 : decode cX0_pupil 84 = .ok (.ireturn, 1) := by decide +kernel
theorem yd_X0_pupil : yX0_pupil.cls ≠ "java/lang/invoke/MethodHandle" ∧ yX0_pupil.cls ≠ "java/lang/invoke/VarHandle" ∧ (parseMethodDescriptor yX0_pupil.desc).map (fun d => d.parameters.length) = some 2 := by decide +kernel
abbrev rm_X0_pupil : Room := { frames := 4, cells := 0, slots := 0, locals := 92 }
set_option maxHeartbeats 4000000 in
theorem c_X0_pupil (l : Launch) {g : Gl} {σ : Hp} {x0 : Nat} {x1 : Int32} {x2 : Int32} {r : Int32 × Hp} (h : F_X0_pupil σ x0 x1 x2 = some r) : Met l yX0_pupil (ws_ yX0_pupil cX0_pupil 4 (some .int)) rm_X0_pupil (va_Pc [.ref x0, .int x1, .int x2] (WV g σ)) (Qi g r) 0 0 (frN g) := by
  refine ct_of (by decide) (Nat.le_of_ble_eq_true rfl) ?_
  intro p e s m below meth c ls X hV hl
  have hF : FR g [] := FR_nil
  unfold F_X0_pupil at h
  have hl : lv_has ls 4 [(0, .ref x0), (1, .int x1), (2, .int x2)] := hl
  have X : FX g p m c s _ meth cX0_pupil 4 RX0 (some .int) "pupil" := X
  obtain ⟨-, h⟩ := gd_inv h
  refine lv_iload_n X.1 X.2.1 dX0_pupil_0 rfl (lv_at hl 1 rfl) ?_
  obtain ⟨v1, s1, hc, h⟩ := b2_inv h
  refine r_ci (va_runS (As := [.int x1]) (rest := []) (cfX X) (c_X0_isPupil l hc) (va_cwS 1 X.2.2.2.2.1 (lw_S q927 q928 q49 q929) rfl rfl rfl yd_X0_isPupil ⟨Nat.le_of_ble_eq_true rfl, Nat.le_of_ble_eq_true rfl⟩) (preS X hV) rfl rfl hl.1 rfl (lv_room (Nat.le_of_ble_eq_true rfl)) dX0_pupil_1 ⟨(Nat.le_of_ble_eq_true rfl), (Nat.le_of_ble_eq_true rfl)⟩) hF (fun H locs hV hF => ?_)
  refine r_ifne (tgt := 10) X.1 X.2.1 dX0_pupil_4 (by decide) h (fun h => ?_) (fun h => ?_)
  · refine lv_aload_n X.1 X.2.1 dX0_pupil_10 rfl (lv_at hl 0 rfl) ?_
    refine r_gR X hV fl_X0_101_0 (by decide) dX0_pupil_11 h (fun v2 h => ?_)
    refine lv_iload_n X.1 X.2.1 dX0_pupil_14 rfl (lv_at hl 1 rfl) ?_
    refine r_aa X hV dX0_pupil_15 (by decide) h (fun v3 h => ?_)
    refine lv_astore_n (lv' := [(3, .ref v3), (0, .ref x0), (1, .int x1), (2, .int x2)]) X.1 X.2.1 dX0_pupil_16 rfl hl (by decide) rfl (fun ls hl => ?_)
    refine lv_iload_n X.1 X.2.1 dX0_pupil_17 rfl (lv_at hl 3 rfl) ?_
    refine r_case (tgt := 48) (off := 30) 0 X.1 X.2.1 dX0_pupil_18 (by decide) (by decide) rfl (by decide) h (fun h => ?_) (fun n0 h => ?_)
    · refine lv_aload_n X.1 X.2.1 dX0_pupil_48 rfl (lv_at hl 0 rfl) ?_
      obtain ⟨v4, s2, hc, h⟩ := b2_inv h
      refine r_ci (va_runV (C := RX9) (As := []) (rest := []) (cfX X) (c_X9_mayBe l hc) (cwV 0 X.2.2.2.2.1 (lw_V q935 q936 q937 q58 q938) rfl rfl rfl ⟨rfl, yd_X9_mayBe⟩ ⟨Nat.le_of_ble_eq_true rfl, Nat.le_of_ble_eq_true rfl⟩) (preV X hV (F_X9_mayBe_g hc) rfl) rfl rfl hl.1 rfl (lv_room (Nat.le_of_ble_eq_true rfl)) dX0_pupil_49 ⟨(Nat.le_of_ble_eq_true rfl), (Nat.le_of_ble_eq_true rfl)⟩) hF (fun H locs hV hF => ?_)
      exact r_iret X hV hF h dX0_pupil_52
    refine r_case (tgt := 53) (off := 35) 1 X.1 X.2.1 dX0_pupil_18 (by decide) (by decide) rfl (by decide) h (fun h => ?_) (fun n1 h => ?_)
    · refine lv_aload_n X.1 X.2.1 dX0_pupil_53 rfl (lv_at hl 0 rfl) ?_
      obtain ⟨v5, s3, hc, h⟩ := b2_inv h
      refine r_ci (va_runV (C := RX9) (As := []) (rest := []) (cfX X) (c_X9_likeliest l hc) (cwV 0 X.2.2.2.2.1 (lw_V q946 q947 q948 q58 q949) rfl rfl rfl ⟨rfl, yd_X9_likeliest⟩ ⟨Nat.le_of_ble_eq_true rfl, Nat.le_of_ble_eq_true rfl⟩) (preV X hV (F_X9_likeliest_g hc) rfl) rfl rfl hl.1 rfl (lv_room (Nat.le_of_ble_eq_true rfl)) dX0_pupil_54 ⟨(Nat.le_of_ble_eq_true rfl), (Nat.le_of_ble_eq_true rfl)⟩) hF (fun H locs hV hF => ?_)
      exact r_iret X hV hF h dX0_pupil_57
    refine r_case (tgt := 58) (off := 40) 2 X.1 X.2.1 dX0_pupil_18 (by decide) (by decide) rfl (by decide) h (fun h => ?_) (fun n2 h => ?_)
    · refine lv_aload_n X.1 X.2.1 dX0_pupil_58 rfl (lv_at hl 0 rfl) ?_
      refine lv_aload_n X.1 X.2.1 dX0_pupil_59 rfl (lv_at hl 0 rfl) ?_
      obtain ⟨v6, s4, hc, h⟩ := b2_inv h
      refine r_ci (va_runV (C := RX9) (As := []) (rest := [.ref v3]) (cfX X) (c_X9_likeliest l hc) (cwV 0 X.2.2.2.2.1 (lw_V q946 q947 q948 q58 q949) rfl rfl rfl ⟨rfl, yd_X9_likeliest⟩ ⟨Nat.le_of_ble_eq_true rfl, Nat.le_of_ble_eq_true rfl⟩) (preV X hV (F_X9_likeliest_g hc) rfl) rfl rfl hl.1 rfl (lv_room (Nat.le_of_ble_eq_true rfl)) dX0_pupil_60 ⟨(Nat.le_of_ble_eq_true rfl), (Nat.le_of_ble_eq_true rfl)⟩) hF (fun H locs hV hF => ?_)
      refine lv_bipush (v := 100) X.1 X.2.1 dX0_pupil_63 (by decide) ?_
      refine lv_idiv X.1 X.2.1 dX0_pupil_65 (by decide) ?_
      refine lv_aload_n X.1 X.2.1 dX0_pupil_66 rfl (lv_at hl 0 rfl) ?_
      obtain ⟨v7, s5, hc, h⟩ := b2_inv h
      refine r_ci (va_runV (C := RX9) (As := []) (rest := [.int (v6 / 100), .ref v3]) (cfX X) (c_X9_likeliest l hc) (cwV 0 X.2.2.2.2.1 (lw_V q946 q947 q948 q58 q949) rfl rfl rfl ⟨rfl, yd_X9_likeliest⟩ ⟨Nat.le_of_ble_eq_true rfl, Nat.le_of_ble_eq_true rfl⟩) (preV X hV (F_X9_likeliest_g hc) rfl) rfl rfl hl.1 rfl (lv_room (Nat.le_of_ble_eq_true rfl)) dX0_pupil_67 ⟨(Nat.le_of_ble_eq_true rfl), (Nat.le_of_ble_eq_true rfl)⟩) hF (fun H locs hV hF => ?_)
      refine lv_bipush (v := 100) X.1 X.2.1 dX0_pupil_70 (by decide) ?_
      refine lv_irem X.1 X.2.1 dX0_pupil_72 (by decide) ?_
      obtain ⟨v8, s6, hc, h⟩ := b2_inv h
      refine r_ci (va_runV (C := RX9) (As := [.int (v6 / 100), .int (v7 - v7 / 100 * 100)]) (rest := []) (cfX X) (c_X9_agrees l hc) (cwV 2 X.2.2.2.2.1 (lw_V q950 q940 q941 q58 q942) rfl rfl rfl ⟨rfl, yd_X9_agrees⟩ ⟨Nat.le_of_ble_eq_true rfl, Nat.le_of_ble_eq_true rfl⟩) (preV X hV (F_X9_agrees_g hc) rfl) rfl rfl hl.1 rfl (lv_room (Nat.le_of_ble_eq_true rfl)) dX0_pupil_73 ⟨(Nat.le_of_ble_eq_true rfl), (Nat.le_of_ble_eq_true rfl)⟩) hF (fun H locs hV hF => ?_)
      exact r_iret X hV hF h dX0_pupil_76
    refine r_case (tgt := 77) (off := 59) 3 X.1 X.2.1 dX0_pupil_18 (by decide) (by decide) rfl (by decide) h (fun h => ?_) (fun n3 h => ?_)
    · refine lv_aload_n X.1 X.2.1 dX0_pupil_77 rfl (lv_at hl 0 rfl) ?_
      obtain ⟨v9, s7, hc, h⟩ := b2_inv h
      refine r_ci (va_runV (C := RX9) (As := []) (rest := []) (cfX X) (c_X9_parts l hc) (cwV 0 X.2.2.2.2.1 (lw_V q951 q952 q953 q58 q954) rfl rfl rfl ⟨rfl, yd_X9_parts⟩ ⟨Nat.le_of_ble_eq_true rfl, Nat.le_of_ble_eq_true rfl⟩) (preV X hV (F_X9_parts_g hc) rfl) rfl rfl hl.1 rfl (lv_room (Nat.le_of_ble_eq_true rfl)) dX0_pupil_78 ⟨(Nat.le_of_ble_eq_true rfl), (Nat.le_of_ble_eq_true rfl)⟩) hF (fun H locs hV hF => ?_)
      exact r_iret X hV hF h dX0_pupil_81
    refine lv_tableOut (tgt := 82) X.1 X.2.1 dX0_pupil_18 (tsw_out (n := 4) (by decide) (fun i hi => by
      match i, hi with
      | 0, _ => exact n0
      | 1, _ => exact n1
      | 2, _ => exact n2
      | 3, _ => exact n3)) (by decide) ?_
    refine lv_bipush (v := (-3)) X.1 X.2.1 dX0_pupil_82 (by decide) ?_
    exact r_iret X hV hF h dX0_pupil_84
  · refine lv_bipush (v := (-2)) X.1 X.2.1 dX0_pupil_7 (by decide) ?_
    exact r_iret X hV hF h dX0_pupil_9
/-! PalaceOfRooms.enough -/
theorem dX0_enough_0 : decode cX0_enough 0 = .ok (.iload_n 1, 1) := by decide +kernel
theorem dX0_enough_1 : decode cX0_enough 1 = .ok (.i2l, 1) := by decide +kernel
theorem dX0_enough_2 : decode cX0_enough 2 = .ok (.lconst 0, 1) := by decide +kernel
theorem dX0_enough_3 : decode cX0_enough 3 = .ok (.ldc2_w 326, 3) := by decide +kernel
theorem dX0_enough_6 : decode cX0_enough 6 = .ok (.invokestatic 5, 3) := by decide +kernel
theorem dX0_enough_9 : decode cX0_enough 9 = .ok (.ifCond .ne 6, 3) := by decide +kernel
theorem dX0_enough_12 : decode cX0_enough 12 = .ok (.bipush (-3), 2) := by decide +kernel
theorem dX0_enough_14 : decode cX0_enough 14 = .ok (.ireturn, 1) := by decide +kernel
theorem dX0_enough_15 : decode cX0_enough 15 = .ok (.iload_n 1, 1) := by decide +kernel
theorem dX0_enough_16 : decode cX0_enough 16 = .ok (.istore_n 2, 1) := by decide +kernel
theorem dX0_enough_17 : decode cX0_enough 17 = .ok (.iconst 0, 1) := by decide +kernel
theorem dX0_enough_18 : decode cX0_enough 18 = .ok (.istore_n 3, 1) := by decide +kernel
theorem dX0_enough_19 : decode cX0_enough 19 = .ok (.iconst 0, 1) := by decide +kernel
theorem dX0_enough_20 : decode cX0_enough 20 = .ok (.istore 4, 2) := by decide +kernel
theorem dX0_enough_22 : decode cX0_enough 22 = .ok (.iload 4, 2) := by decide +kernel
theorem dX0_enough_24 : decode cX0_enough 24 = .ok (.bipush 8, 2) := by decide +kernel
theorem dX0_enough_26 : decode cX0_enough 26 = .ok (.if_icmp .ge 73, 3) := by decide +kernel
theorem dX0_enough_29 : decode cX0_enough 29 = .ok (.iconst 0, 1) := by decide +kernel
theorem dX0_enough_30 : decode cX0_enough 30 = .ok (.istore 5, 2) := by decide +kernel
theorem dX0_enough_32 : decode cX0_enough 32 = .ok (.iload 5, 2) := by decide +kernel
theorem dX0_enough_34 : decode cX0_enough 34 = .ok (.bipush 8, 2) := by decide +kernel
theorem dX0_enough_36 : decode cX0_enough 36 = .ok (.if_icmp .ge 57, 3) := by decide +kernel
theorem dX0_enough_39 : decode cX0_enough 39 = .ok (.iload_n 2, 1) := by decide +kernel
theorem dX0_enough_40 : decode cX0_enough 40 = .ok (.ifCond .le 53, 3) := by decide +kernel
theorem dX0_enough_43 : decode cX0_enough 43 = .ok (.aload_n 0, 1) := by decide +kernel
theorem dX0_enough_44 : decode cX0_enough 44 = .ok (.iconst 0, 1) := by decide +kernel
theorem dX0_enough_45 : decode cX0_enough 45 = .ok (.iload 5, 2) := by decide +kernel
theorem dX0_enough_47 : decode cX0_enough 47 = .ok (.invokevirtual 112, 3) := by decide +kernel
theorem dX0_enough_50 : decode cX0_enough 50 = .ok (.iload 4, 2) := by decide +kernel
theorem dX0_enough_52 : decode cX0_enough 52 = .ok (.if_icmp .ne 35, 3) := by decide +kernel
theorem dX0_enough_55 : decode cX0_enough 55 = .ok (.iload_n 2, 1) := by decide +kernel
theorem dX0_enough_56 : decode cX0_enough 56 = .ok (.aload_n 0, 1) := by decide +kernel
theorem dX0_enough_57 : decode cX0_enough 57 = .ok (.iload 5, 2) := by decide +kernel
theorem dX0_enough_59 : decode cX0_enough 59 = .ok (.invokevirtual 226, 3) := by decide +kernel
theorem dX0_enough_62 : decode cX0_enough 62 = .ok (.iconst (-1), 1) := by decide +kernel
theorem dX0_enough_63 : decode cX0_enough 63 = .ok (.if_icmp .ne 8, 3) := by decide +kernel
theorem dX0_enough_66 : decode cX0_enough 66 = .ok (.bipush 6, 2) := by decide +kernel
theorem dX0_enough_68 : decode cX0_enough 68 = .ok (.goto 14, 3) := by decide +kernel
theorem dX0_enough_71 : decode cX0_enough 71 = .ok (.bipush 6, 2) := by decide +kernel
theorem dX0_enough_73 : decode cX0_enough 73 = .ok (.aload_n 0, 1) := by decide +kernel
theorem dX0_enough_74 : decode cX0_enough 74 = .ok (.iload 5, 2) := by decide +kernel
theorem dX0_enough_76 : decode cX0_enough 76 = .ok (.invokevirtual 226, 3) := by decide +kernel
theorem dX0_enough_79 : decode cX0_enough 79 = .ok (.invokestatic 328, 3) := by decide +kernel
theorem dX0_enough_82 : decode cX0_enough 82 = .ok (.isub, 1) := by decide +kernel
theorem dX0_enough_83 : decode cX0_enough 83 = .ok (.istore_n 2, 1) := by decide +kernel
theorem dX0_enough_84 : decode cX0_enough 84 = .ok (.iinc 3 1, 3) := by decide +kernel
theorem dX0_enough_87 : decode cX0_enough 87 = .ok (.iinc 5 1, 3) := by decide +kernel
theorem dX0_enough_90 : decode cX0_enough 90 = .ok (.goto (-58), 3) := by decide +kernel
theorem dX0_enough_93 : decode cX0_enough 93 = .ok (.iinc 4 1, 3) := by decide +kernel
theorem dX0_enough_96 : decode cX0_enough 96 = .ok (.goto (-74), 3) := by decide +kernel
theorem dX0_enough_99 : decode cX0_enough 99 = .ok (.iload_n 2, 1) := by decide +kernel
theorem dX0_enough_100 : decode cX0_enough 100 = .ok (.ifCond .le 7, 3) := by decide +kernel
theorem dX0_enough_103 : decode cX0_enough 103 = .ok (.iconst (-1), 1) := by decide +kernel
theorem dX0_enough_104 : decode cX0_enough 104 = .ok (.goto 4, 3) := by decide +kernel
theorem dX0_enough_107 : decode cX0_enough 107 = .ok (.iload_n 3, 1) := by decide +kernel
theorem dX0_enough_108 : decode cX0_enough 108 = .ok (.ireturn, 1) := by decide +kernel
theorem yd_X0_enough : yX0_enough.cls ≠ "java/lang/invoke/MethodHandle" ∧ yX0_enough.cls ≠ "java/lang/invoke/VarHandle" ∧ (parseMethodDescriptor yX0_enough.desc).map (fun d => d.parameters.length) = some 1 := by decide +kernel
abbrev rm_X0_enough : Room := { frames := 3, cells := 0, slots := 0, locals := 65 }
set_option maxHeartbeats 4000000 in
theorem w_X0_enough_99 {p : Program} {l : Launch} {e : Env} {s : State} {m : MethodId} {args : Array Value} {below : List Frame} {meth : Method} {c : Code} {g : Gl} (X : FX g p m c s args meth cX0_enough 6 RX0 (some .int) "enough") {r : Int32 × Hp} {σ : Hp} {x2 : Int32} {x3 : Int32}  {H : Heap} {locs : List Loc} {ls : Array Slot} (h : F_X0_enough_99 σ x2 x3 = some r) (hV : HV g σ H) (hF : FR g locs) (hl : lv_has ls 6 [(2, .int x2), (3, .int x3)]) : W p l e rm_X0_enough s m args below meth c H locs 0 0 (MQ below (Qi g r) args s 0 0 (frN g)) (F0 m 99 ls []) := by
  unfold F_X0_enough_99 at h
  refine lv_iload_n X.1 X.2.1 dX0_enough_99 rfl (lv_at hl 0 rfl) ?_
  refine r_ifle (tgt := 107) X.1 X.2.1 dX0_enough_100 (by decide) h (fun h => ?_) (fun h => ?_)
  · refine lv_iload_n X.1 X.2.1 dX0_enough_107 rfl (lv_at hl 1 rfl) ?_
    exact r_iret X hV hF h dX0_enough_108
  · refine lv_iconst (v := (-1)) X.1 X.2.1 dX0_enough_103 (by decide) ?_
    refine lv_goto (tgt := 108) X.1 X.2.1 dX0_enough_104 (by decide) ?_
    exact r_iret X hV hF h dX0_enough_108
set_option maxHeartbeats 4000000 in
theorem w_X0_enough_32_b {p : Program} {l : Launch} {e : Env} {s : State} {m : MethodId} {args : Array Value} {below : List Frame} {meth : Method} {c : Code} {g : Gl} (X : FX g p m c s args meth cX0_enough 6 RX0 (some .int) "enough") {r : Int32 × Hp} {rec22 : Hp × Int32 × Int32 × Int32 → Option (Int32 × Hp)} {rec32 : Hp × Int32 × Int32 × Int32 → Option (Int32 × Hp)} {x0 : Nat} {x4 : Int32} {σ : Hp} {x2 : Int32} {x3 : Int32} {x5 : Int32} (hr22 : ∀ (st : Hp × Int32 × Int32 × Int32), rec22 st = some r → ∀ (H : Heap) (locs : List Loc) (ls : Array Slot), HV g st.1 H → FR g locs → lv_has ls 6 [(0, .ref x0), (2, .int st.2.1), (3, .int st.2.2.1), (4, .int st.2.2.2)] → W p l e rm_X0_enough s m args below meth c H locs 0 0 (MQ below (Qi g r) args s 0 0 (frN g)) (F0 m 22 ls [])) (hr32 : ∀ (st : Hp × Int32 × Int32 × Int32), rec32 st = some r → ∀ (H : Heap) (locs : List Loc) (ls : Array Slot), HV g st.1 H → FR g locs → lv_has ls 6 [(0, .ref x0), (2, .int st.2.1), (3, .int st.2.2.1), (4, .int x4), (5, .int st.2.2.2)] → W p l e rm_X0_enough s m args below meth c H locs 0 0 (MQ below (Qi g r) args s 0 0 (frN g)) (F0 m 32 ls [])) {H : Heap} {locs : List Loc} {ls : Array Slot} (h : B_X0_enough_32 rec22 x0 x4 rec32 σ x2 x3 x5 = some r) (hV : HV g σ H) (hF : FR g locs) (hl : lv_has ls 6 [(0, .ref x0), (2, .int x2), (3, .int x3), (4, .int x4), (5, .int x5)]) : W p l e rm_X0_enough s m args below meth c H locs 0 0 (MQ below (Qi g r) args s 0 0 (frN g)) (F0 m 32 ls []) := by
  unfold B_X0_enough_32 at h
  refine lv_iload X.1 X.2.1 dX0_enough_32 (lv_at hl 4 rfl) ?_
  refine lv_bipush (v := 8) X.1 X.2.1 dX0_enough_34 (by decide) ?_
  refine r_ge (tgt := 93) X.1 X.2.1 dX0_enough_36 (by decide) h (fun h => ?_) (fun h => ?_)
  · refine lv_iinc (v := x4 + 1) (lv' := [(4, .int (x4 + 1)), (0, .ref x0), (2, .int x2), (3, .int x3), (5, .int x5)]) X.1 X.2.1 dX0_enough_93 hl (k := 3) rfl rfl (by decide) rfl (fun ls hl => ?_)
    refine lv_goto (tgt := 22) X.1 X.2.1 dX0_enough_96 (by decide) ?_
    exact hr22 (σ, x2, x3, x4 + 1) h _ _ _ hV hF (lv_sub hl [1, 2, 3, 0] rfl)
  · refine lv_iload_n X.1 X.2.1 dX0_enough_39 rfl (lv_at hl 1 rfl) ?_
    refine r_ifle (tgt := 93) X.1 X.2.1 dX0_enough_40 (by decide) h (fun h => ?_) (fun h => ?_)
    · refine lv_iinc (v := x4 + 1) (lv' := [(4, .int (x4 + 1)), (0, .ref x0), (2, .int x2), (3, .int x3), (5, .int x5)]) X.1 X.2.1 dX0_enough_93 hl (k := 3) rfl rfl (by decide) rfl (fun ls hl => ?_)
      refine lv_goto (tgt := 22) X.1 X.2.1 dX0_enough_96 (by decide) ?_
      exact hr22 (σ, x2, x3, x4 + 1) h _ _ _ hV hF (lv_sub hl [1, 2, 3, 0] rfl)
    · refine lv_aload_n X.1 X.2.1 dX0_enough_43 rfl (lv_at hl 0 rfl) ?_
      refine lv_iconst (v := 0) X.1 X.2.1 dX0_enough_44 (by decide) ?_
      refine lv_iload X.1 X.2.1 dX0_enough_45 (lv_at hl 4 rfl) ?_
      obtain ⟨v1, s1, hc, h⟩ := b2_inv h
      refine r_ci (va_runV (C := RX0) (As := [.int 0, .int x5]) (rest := []) (cfX X) (c_X0_awayOf l hc) (cwV 2 X.2.2.2.2.1 (lw_V q338 q340 qs0 q49 q341) rfl rfl rfl ⟨rfl, yd_X0_awayOf⟩ ⟨Nat.le_of_ble_eq_true rfl, Nat.le_of_ble_eq_true rfl⟩) (preV X hV (F_X0_awayOf_g hc) rfl) rfl rfl hl.1 rfl (lv_room (Nat.le_of_ble_eq_true rfl)) dX0_enough_47 ⟨(Nat.le_of_ble_eq_true rfl), (Nat.le_of_ble_eq_true rfl)⟩) hF (fun H locs hV hF => ?_)
      refine lv_iload X.1 X.2.1 dX0_enough_50 (lv_at hl 3 rfl) ?_
      refine r_ne (tgt := 87) X.1 X.2.1 dX0_enough_52 (by decide) h (fun h => ?_) (fun h => ?_)
      · refine lv_iinc (v := x5 + 1) (lv' := [(5, .int (x5 + 1)), (0, .ref x0), (2, .int x2), (3, .int x3), (4, .int x4)]) X.1 X.2.1 dX0_enough_87 hl (k := 4) rfl rfl (by decide) rfl (fun ls hl => ?_)
        refine lv_goto (tgt := 32) X.1 X.2.1 dX0_enough_90 (by decide) ?_
        exact hr32 (s1, x2, x3, x5 + 1) h _ _ _ hV hF (lv_sub hl [1, 2, 3, 4, 0] rfl)
      · refine lv_iload_n X.1 X.2.1 dX0_enough_55 rfl (lv_at hl 1 rfl) ?_
        refine lv_aload_n X.1 X.2.1 dX0_enough_56 rfl (lv_at hl 0 rfl) ?_
        refine lv_iload X.1 X.2.1 dX0_enough_57 (lv_at hl 4 rfl) ?_
        obtain ⟨v2, s2, hc, h⟩ := b2_inv h
        refine r_ci (va_runV (C := RX0) (As := [.int x5]) (rest := [.int x2]) (cfX X) (c_X0_roomFor l hc) (cwV 1 X.2.2.2.2.1 (lw_V q716 q718 qs13 q49 q719) rfl rfl rfl ⟨rfl, yd_X0_roomFor⟩ ⟨Nat.le_of_ble_eq_true rfl, Nat.le_of_ble_eq_true rfl⟩) (preV X hV (F_X0_roomFor_g hc) rfl) rfl rfl hl.1 rfl (lv_room (Nat.le_of_ble_eq_true rfl)) dX0_enough_59 ⟨(Nat.le_of_ble_eq_true rfl), (Nat.le_of_ble_eq_true rfl)⟩) hF (fun H locs hV hF => ?_)
        refine lv_iconst (v := (-1)) X.1 X.2.1 dX0_enough_62 (by decide) ?_
        refine r_ne (tgt := 71) X.1 X.2.1 dX0_enough_63 (by decide) h (fun h => ?_) (fun h => ?_)
        · refine lv_bipush (v := 6) X.1 X.2.1 dX0_enough_71 (by decide) ?_
          refine lv_aload_n X.1 X.2.1 dX0_enough_73 rfl (lv_at hl 0 rfl) ?_
          refine lv_iload X.1 X.2.1 dX0_enough_74 (lv_at hl 4 rfl) ?_
          obtain ⟨v3, s3, hc, h⟩ := b2_inv h
          refine r_ci (va_runV (C := RX0) (As := [.int x5]) (rest := [.int 6, .int x2]) (cfX X) (c_X0_roomFor l hc) (cwV 1 X.2.2.2.2.1 (lw_V q716 q718 qs13 q49 q719) rfl rfl rfl ⟨rfl, yd_X0_roomFor⟩ ⟨Nat.le_of_ble_eq_true rfl, Nat.le_of_ble_eq_true rfl⟩) (preV X hV (F_X0_roomFor_g hc) rfl) rfl rfl hl.1 rfl (lv_room (Nat.le_of_ble_eq_true rfl)) dX0_enough_76 ⟨(Nat.le_of_ble_eq_true rfl), (Nat.le_of_ble_eq_true rfl)⟩) hF (fun H locs hV hF => ?_)
          refine va_mmin X.1 X.2.1 (X.2.2.1.trans hl.1.symm) X.2.2.2.1 (X.2.2.2.2.1 _ q968) (X.2.2.2.2.1 _ q796) (X.2.2.2.2.1 _ q61) (X.2.2.2.2.1 _ q797) (Nat.le_of_ble_eq_true rfl) (Nat.le_of_ble_eq_true rfl) (Nat.le_of_ble_eq_true rfl) (Nat.le_of_ble_eq_true rfl) dX0_enough_79 ?_
          refine lv_isub X.1 X.2.1 dX0_enough_82 ?_
          refine lv_istore_n (lv' := [(2, .int (x2 - (if v3 < 6 then v3 else 6))), (0, .ref x0), (3, .int x3), (4, .int x4), (5, .int x5)]) X.1 X.2.1 dX0_enough_83 rfl hl (by decide) rfl (fun ls hl => ?_)
          refine lv_iinc (v := x3 + 1) (lv' := [(3, .int (x3 + 1)), (2, .int (x2 - (if v3 < 6 then v3 else 6))), (0, .ref x0), (4, .int x4), (5, .int x5)]) X.1 X.2.1 dX0_enough_84 hl (k := 2) rfl rfl (by decide) rfl (fun ls hl => ?_)
          refine lv_iinc (v := x5 + 1) (lv' := [(5, .int (x5 + 1)), (3, .int (x3 + 1)), (2, .int (x2 - (if v3 < 6 then v3 else 6))), (0, .ref x0), (4, .int x4)]) X.1 X.2.1 dX0_enough_87 hl (k := 4) rfl rfl (by decide) rfl (fun ls hl => ?_)
          refine lv_goto (tgt := 32) X.1 X.2.1 dX0_enough_90 (by decide) ?_
          exact hr32 (s3, x2 - (if v3 < 6 then v3 else 6), x3 + 1, x5 + 1) h _ _ _ hV hF (lv_sub hl [3, 2, 1, 4, 0] rfl)
        · refine lv_bipush (v := 6) X.1 X.2.1 dX0_enough_66 (by decide) ?_
          refine lv_goto (tgt := 82) X.1 X.2.1 dX0_enough_68 (by decide) ?_
          refine lv_isub X.1 X.2.1 dX0_enough_82 ?_
          refine lv_istore_n (lv' := [(2, .int (x2 - 6)), (0, .ref x0), (3, .int x3), (4, .int x4), (5, .int x5)]) X.1 X.2.1 dX0_enough_83 rfl hl (by decide) rfl (fun ls hl => ?_)
          refine lv_iinc (v := x3 + 1) (lv' := [(3, .int (x3 + 1)), (2, .int (x2 - 6)), (0, .ref x0), (4, .int x4), (5, .int x5)]) X.1 X.2.1 dX0_enough_84 hl (k := 2) rfl rfl (by decide) rfl (fun ls hl => ?_)
          refine lv_iinc (v := x5 + 1) (lv' := [(5, .int (x5 + 1)), (3, .int (x3 + 1)), (2, .int (x2 - 6)), (0, .ref x0), (4, .int x4)]) X.1 X.2.1 dX0_enough_87 hl (k := 4) rfl rfl (by decide) rfl (fun ls hl => ?_)
          refine lv_goto (tgt := 32) X.1 X.2.1 dX0_enough_90 (by decide) ?_
          exact hr32 (s2, x2 - 6, x3 + 1, x5 + 1) h _ _ _ hV hF (lv_sub hl [3, 2, 1, 4, 0] rfl)
set_option maxHeartbeats 4000000 in
theorem w_X0_enough_32 {p : Program} {l : Launch} {e : Env} {s : State} {m : MethodId} {args : Array Value} {below : List Frame} {meth : Method} {c : Code} {g : Gl} (X : FX g p m c s args meth cX0_enough 6 RX0 (some .int) "enough") {r : Int32 × Hp} {rec22 : Hp × Int32 × Int32 × Int32 → Option (Int32 × Hp)} {x0 : Nat} {x4 : Int32} (hr22 : ∀ (st : Hp × Int32 × Int32 × Int32), rec22 st = some r → ∀ (H : Heap) (locs : List Loc) (ls : Array Slot), HV g st.1 H → FR g locs → lv_has ls 6 [(0, .ref x0), (2, .int st.2.1), (3, .int st.2.2.1), (4, .int st.2.2.2)] → W p l e rm_X0_enough s m args below meth c H locs 0 0 (MQ below (Qi g r) args s 0 0 (frN g)) (F0 m 22 ls [])) : ∀ (n : Nat) (st : Hp × Int32 × Int32 × Int32), L_X0_enough_32 rec22 x0 x4 n st = some r → ∀ (H : Heap) (locs : List Loc) (ls : Array Slot), HV g st.1 H → FR g locs → lv_has ls 6 [(0, .ref x0), (2, .int st.2.1), (3, .int st.2.2.1), (4, .int x4), (5, .int st.2.2.2)] → W p l e rm_X0_enough s m args below meth c H locs 0 0 (MQ below (Qi g r) args s 0 0 (frN g)) (F0 m 32 ls []) := by
  intro n
  induction n with
  | zero =>
    intro st h
    rw [L_X0_enough_32_0] at h
    cases h
  | succ n ih =>
    intro st h H locs ls hV hF hl
    rw [L_X0_enough_32_s] at h
    exact w_X0_enough_32_b X hr22 ih h hV hF hl
set_option maxHeartbeats 4000000 in
theorem w_X0_enough_22_b {p : Program} {l : Launch} {e : Env} {s : State} {m : MethodId} {args : Array Value} {below : List Frame} {meth : Method} {c : Code} {g : Gl} (X : FX g p m c s args meth cX0_enough 6 RX0 (some .int) "enough") {r : Int32 × Hp} {rec22 : Hp × Int32 × Int32 × Int32 → Option (Int32 × Hp)} {x0 : Nat} {σ : Hp} {x2 : Int32} {x3 : Int32} {x4 : Int32} (hr22 : ∀ (st : Hp × Int32 × Int32 × Int32), rec22 st = some r → ∀ (H : Heap) (locs : List Loc) (ls : Array Slot), HV g st.1 H → FR g locs → lv_has ls 6 [(0, .ref x0), (2, .int st.2.1), (3, .int st.2.2.1), (4, .int st.2.2.2)] → W p l e rm_X0_enough s m args below meth c H locs 0 0 (MQ below (Qi g r) args s 0 0 (frN g)) (F0 m 22 ls [])) {H : Heap} {locs : List Loc} {ls : Array Slot} (h : B_X0_enough_22 x0 rec22 σ x2 x3 x4 = some r) (hV : HV g σ H) (hF : FR g locs) (hl : lv_has ls 6 [(0, .ref x0), (2, .int x2), (3, .int x3), (4, .int x4)]) : W p l e rm_X0_enough s m args below meth c H locs 0 0 (MQ below (Qi g r) args s 0 0 (frN g)) (F0 m 22 ls []) := by
  unfold B_X0_enough_22 at h
  refine lv_iload X.1 X.2.1 dX0_enough_22 (lv_at hl 3 rfl) ?_
  refine lv_bipush (v := 8) X.1 X.2.1 dX0_enough_24 (by decide) ?_
  refine r_ge (tgt := 99) X.1 X.2.1 dX0_enough_26 (by decide) h (fun h => ?_) (fun h => ?_)
  · exact w_X0_enough_99 X  h hV hF (lv_sub hl [1, 2] rfl)
  · refine lv_iconst (v := 0) X.1 X.2.1 dX0_enough_29 (by decide) ?_
    refine lv_istore (lv' := [(5, .int 0), (0, .ref x0), (2, .int x2), (3, .int x3), (4, .int x4)]) X.1 X.2.1 dX0_enough_30 hl (by decide) rfl (fun ls hl => ?_)
    exact w_X0_enough_32 X hr22 FU (σ, x2, x3, 0) h _ _ _ hV hF (lv_sub hl [1, 2, 3, 4, 0] rfl)
set_option maxHeartbeats 4000000 in
theorem w_X0_enough_22 {p : Program} {l : Launch} {e : Env} {s : State} {m : MethodId} {args : Array Value} {below : List Frame} {meth : Method} {c : Code} {g : Gl} (X : FX g p m c s args meth cX0_enough 6 RX0 (some .int) "enough") {r : Int32 × Hp} {x0 : Nat}  : ∀ (n : Nat) (st : Hp × Int32 × Int32 × Int32), L_X0_enough_22 x0 n st = some r → ∀ (H : Heap) (locs : List Loc) (ls : Array Slot), HV g st.1 H → FR g locs → lv_has ls 6 [(0, .ref x0), (2, .int st.2.1), (3, .int st.2.2.1), (4, .int st.2.2.2)] → W p l e rm_X0_enough s m args below meth c H locs 0 0 (MQ below (Qi g r) args s 0 0 (frN g)) (F0 m 22 ls []) := by
  intro n
  induction n with
  | zero =>
    intro st h
    rw [L_X0_enough_22_0] at h
    cases h
  | succ n ih =>
    intro st h H locs ls hV hF hl
    rw [L_X0_enough_22_s] at h
    exact w_X0_enough_22_b X  ih h hV hF hl
set_option maxHeartbeats 4000000 in
theorem c_X0_enough (l : Launch) {g : Gl} {σ : Hp} {x0 : Nat} {x1 : Int32} {r : Int32 × Hp} (h : F_X0_enough σ x0 x1 = some r) : Met l yX0_enough (ws_ yX0_enough cX0_enough 6 (some .int)) rm_X0_enough (va_Pc [.ref x0, .int x1] (WV g σ)) (Qi g r) 0 0 (frN g) := by
  refine ct_of (by decide) (Nat.le_of_ble_eq_true rfl) ?_
  intro p e s m below meth c ls X hV hl
  have hF : FR g [] := FR_nil
  unfold F_X0_enough at h
  have hl : lv_has ls 6 [(0, .ref x0), (1, .int x1)] := hl
  have X : FX g p m c s _ meth cX0_enough 6 RX0 (some .int) "enough" := X
  obtain ⟨-, h⟩ := gd_inv h
  refine lv_iload_n X.1 X.2.1 dX0_enough_0 rfl (lv_at hl 1 rfl) ?_
  refine lv_i2l (v := (x1 : Int32).toInt64) X.1 X.2.1 dX0_enough_1 rfl ?_
  refine lv_lconst (v := 0) X.1 X.2.1 dX0_enough_2 (by decide) ?_
  refine lv_ldc2 (v := 48) X.1 X.2.1 X.2.2.2.1 (X.2.2.2.2.1 _ q967) dX0_enough_3 ?_
  obtain ⟨v1, s1, hc, h⟩ := b2_inv h
  refine r_ci (va_runS (As := [.long ((x1 : Int32).toInt64), .long 0, .long 48]) (rest := []) (cfX X) (c_X0_isIn l hc) (va_cwS 3 X.2.2.2.2.1 (lw_S q331 q332 q49 q333) rfl rfl rfl yd_X0_isIn ⟨Nat.le_of_ble_eq_true rfl, Nat.le_of_ble_eq_true rfl⟩) (preS X hV) rfl rfl hl.1 rfl (lv_room (Nat.le_of_ble_eq_true rfl)) dX0_enough_6 ⟨(Nat.le_of_ble_eq_true rfl), (Nat.le_of_ble_eq_true rfl)⟩) hF (fun H locs hV hF => ?_)
  refine r_ifne (tgt := 15) X.1 X.2.1 dX0_enough_9 (by decide) h (fun h => ?_) (fun h => ?_)
  · refine lv_iload_n X.1 X.2.1 dX0_enough_15 rfl (lv_at hl 1 rfl) ?_
    refine lv_istore_n (lv' := [(2, .int x1), (0, .ref x0), (1, .int x1)]) X.1 X.2.1 dX0_enough_16 rfl hl (by decide) rfl (fun ls hl => ?_)
    refine lv_iconst (v := 0) X.1 X.2.1 dX0_enough_17 (by decide) ?_
    refine lv_istore_n (lv' := [(3, .int 0), (2, .int x1), (0, .ref x0), (1, .int x1)]) X.1 X.2.1 dX0_enough_18 rfl hl (by decide) rfl (fun ls hl => ?_)
    refine lv_iconst (v := 0) X.1 X.2.1 dX0_enough_19 (by decide) ?_
    refine lv_istore (lv' := [(4, .int 0), (3, .int 0), (2, .int x1), (0, .ref x0), (1, .int x1)]) X.1 X.2.1 dX0_enough_20 hl (by decide) rfl (fun ls hl => ?_)
    exact w_X0_enough_22 X  FU (s1, x1, 0, 0) h _ _ _ hV hF (lv_sub hl [3, 2, 1, 0] rfl)
  · refine lv_bipush (v := (-3)) X.1 X.2.1 dX0_enough_12 (by decide) ?_
    exact r_iret X hV hF h dX0_enough_14
/-! PalaceOfRooms.count -/
theorem dX0_count_0 : decode cX0_count 0 = .ok (.iconst 0, 1) := by decide +kernel
theorem dX0_count_1 : decode cX0_count 1 = .ok (.istore_n 2, 1) := by decide +kernel
theorem dX0_count_2 : decode cX0_count 2 = .ok (.iload_n 1, 1) := by decide +kernel
theorem dX0_count_3 : decode cX0_count 3 = .ok (.tableswitch 138 0 6 #[41, 46, 51, 78, 120, 128, 133], 41) := by decide +kernel
theorem dX0_count_44 : decode cX0_count 44 = .ok (.aload_n 0, 1) := by decide +kernel
theorem dX0_count_45 : decode cX0_count 45 = .ok (.getfield 153, 3) := by decide +kernel
theorem dX0_count_48 : decode cX0_count 48 = .ok (.ireturn, 1) := by decide +kernel
theorem dX0_count_49 : decode cX0_count 49 = .ok (.aload_n 0, 1) := by decide +kernel
theorem dX0_count_50 : decode cX0_count 50 = .ok (.getfield 109, 3) := by decide +kernel
theorem dX0_count_53 : decode cX0_count 53 = .ok (.ireturn, 1) := by decide +kernel
theorem dX0_count_54 : decode cX0_count 54 = .ok (.iconst 0, 1) := by decide +kernel
theorem dX0_count_55 : decode cX0_count 55 = .ok (.istore_n 3, 1) := by decide +kernel
theorem dX0_count_56 : decode cX0_count 56 = .ok (.iload_n 3, 1) := by decide +kernel
theorem dX0_count_57 : decode cX0_count 57 = .ok (.bipush 8, 2) := by decide +kernel
theorem dX0_count_59 : decode cX0_count 59 = .ok (.if_icmp .ge 20, 3) := by decide +kernel
theorem dX0_count_62 : decode cX0_count 62 = .ok (.iload_n 2, 1) := by decide +kernel
theorem dX0_count_63 : decode cX0_count 63 = .ok (.aload_n 0, 1) := by decide +kernel
theorem dX0_count_64 : decode cX0_count 64 = .ok (.getfield 43, 3) := by decide +kernel
theorem dX0_count_67 : decode cX0_count 67 = .ok (.iload_n 3, 1) := by decide +kernel
theorem dX0_count_68 : decode cX0_count 68 = .ok (.invokevirtual 229, 3) := by decide +kernel
theorem dX0_count_71 : decode cX0_count 71 = .ok (.iadd, 1) := by decide +kernel
theorem dX0_count_72 : decode cX0_count 72 = .ok (.istore_n 2, 1) := by decide +kernel
theorem dX0_count_73 : decode cX0_count 73 = .ok (.iinc 3 1, 3) := by decide +kernel
theorem dX0_count_76 : decode cX0_count 76 = .ok (.goto (-20), 3) := by decide +kernel
theorem dX0_count_79 : decode cX0_count 79 = .ok (.iload_n 2, 1) := by decide +kernel
theorem dX0_count_80 : decode cX0_count 80 = .ok (.ireturn, 1) := by decide +kernel
theorem dX0_count_81 : decode cX0_count 81 = .ok (.iconst 0, 1) := by decide +kernel
theorem dX0_count_82 : decode cX0_count 82 = .ok (.istore_n 3, 1) := by decide +kernel
theorem dX0_count_83 : decode cX0_count 83 = .ok (.iload_n 3, 1) := by decide +kernel
theorem dX0_count_84 : decode cX0_count 84 = .ok (.bipush 48, 2) := by decide +kernel
theorem dX0_count_86 : decode cX0_count 86 = .ok (.if_icmp .ge 35, 3) := by decide +kernel
theorem dX0_count_89 : decode cX0_count 89 = .ok (.iload_n 2, 1) := by decide +kernel
theorem dX0_count_90 : decode cX0_count 90 = .ok (.aload_n 0, 1) := by decide +kernel
theorem dX0_count_91 : decode cX0_count 91 = .ok (.getfield 43, 3) := by decide +kernel
theorem dX0_count_94 : decode cX0_count 94 = .ok (.getfield 138, 3) := by decide +kernel
theorem dX0_count_97 : decode cX0_count 97 = .ok (.iload_n 3, 1) := by decide +kernel
theorem dX0_count_98 : decode cX0_count 98 = .ok (.aaload, 1) := by decide +kernel
theorem dX0_count_99 : decode cX0_count 99 = .ok (.getfield 167, 3) := by decide +kernel
theorem dX0_count_102 : decode cX0_count 102 = .ok (.invokevirtual 177, 3) := by decide +kernel
theorem dX0_count_105 : decode cX0_count 105 = .ok (.ifCond .eq 7, 3) := by decide +kernel
theorem dX0_count_108 : decode cX0_count 108 = .ok (.iconst 1, 1) := by decide +kernel
theorem dX0_count_109 : decode cX0_count 109 = .ok (.goto 4, 3) := by decide +kernel
theorem dX0_count_112 : decode cX0_count 112 = .ok (.iconst 0, 1) := by decide +kernel
theorem dX0_count_113 : decode cX0_count 113 = .ok (.iadd, 1) := by decide +kernel
theorem dX0_count_114 : decode cX0_count 114 = .ok (.istore_n 2, 1) := by decide +kernel
theorem dX0_count_115 : decode cX0_count 115 = .ok (.iinc 3 1, 3) := by decide +kernel
theorem dX0_count_118 : decode cX0_count 118 = .ok (.goto (-35), 3) := by decide +kernel
theorem dX0_count_121 : decode cX0_count 121 = .ok (.iload_n 2, 1) := by decide +kernel
theorem dX0_count_122 : decode cX0_count 122 = .ok (.ireturn, 1) := by decide +kernel
theorem dX0_count_123 : decode cX0_count 123 = .ok (.aload_n 0, 1) := by decide +kernel
theorem dX0_count_124 : decode cX0_count 124 = .ok (.getfield 43, 3) := by decide +kernel
theorem dX0_count_127 : decode cX0_count 127 = .ok (.invokevirtual 281, 3) := by decide +kernel
theorem dX0_count_130 : decode cX0_count 130 = .ok (.ireturn, 1) := by decide +kernel
theorem dX0_count_131 : decode cX0_count 131 = .ok (.aload_n 0, 1) := by decide +kernel
theorem dX0_count_132 : decode cX0_count 132 = .ok (.getfield 191, 3) := by decide +kernel
theorem dX0_count_135 : decode cX0_count 135 = .ok (.ireturn, 1) := by decide +kernel
theorem dX0_count_136 : decode cX0_count 136 = .ok (.aload_n 0, 1) := by decide +kernel
theorem dX0_count_137 : decode cX0_count 137 = .ok (.getfield 212, 3) := by decide +kernel
theorem dX0_count_140 : decode cX0_count 140 = .ok (.ireturn, 1) := by decide +kernel
theorem dX0_count_141 : decode cX0_count 141 = .ok (.bipush (-3), 2) := by decide +kernel
theorem dX0_count_143 : decode cX0_count 143 = .ok (.ireturn, 1) := by decide +kernel
theorem yd_X0_count : yX0_count.cls ≠ "java/lang/invoke/MethodHandle" ∧ yX0_count.cls ≠ "java/lang/invoke/VarHandle" ∧ (parseMethodDescriptor yX0_count.desc).map (fun d => d.parameters.length) = some 1 := by decide +kernel
abbrev rm_X0_count : Room := { frames := 2, cells := 0, slots := 0, locals := 45 }
set_option maxHeartbeats 4000000 in
theorem w_X0_count_56_b {p : Program} {l : Launch} {e : Env} {s : State} {m : MethodId} {args : Array Value} {below : List Frame} {meth : Method} {c : Code} {g : Gl} (X : FX g p m c s args meth cX0_count 4 RX0 (some .int) "count") {r : Int32 × Hp} {rec56 : Hp × Int32 × Int32 → Option (Int32 × Hp)} {x0 : Nat} {σ : Hp} {x2 : Int32} {x3 : Int32} (hr56 : ∀ (st : Hp × Int32 × Int32), rec56 st = some r → ∀ (H : Heap) (locs : List Loc) (ls : Array Slot), HV g st.1 H → FR g locs → lv_has ls 4 [(0, .ref x0), (2, .int st.2.1), (3, .int st.2.2)] → W p l e rm_X0_count s m args below meth c H locs 0 0 (MQ below (Qi g r) args s 0 0 (frN g)) (F0 m 56 ls [])) {H : Heap} {locs : List Loc} {ls : Array Slot} (h : B_X0_count_56 x0 rec56 σ x2 x3 = some r) (hV : HV g σ H) (hF : FR g locs) (hl : lv_has ls 4 [(0, .ref x0), (2, .int x2), (3, .int x3)]) : W p l e rm_X0_count s m args below meth c H locs 0 0 (MQ below (Qi g r) args s 0 0 (frN g)) (F0 m 56 ls []) := by
  unfold B_X0_count_56 at h
  refine lv_iload_n X.1 X.2.1 dX0_count_56 rfl (lv_at hl 2 rfl) ?_
  refine lv_bipush (v := 8) X.1 X.2.1 dX0_count_57 (by decide) ?_
  refine r_ge (tgt := 79) X.1 X.2.1 dX0_count_59 (by decide) h (fun h => ?_) (fun h => ?_)
  · refine lv_iload_n X.1 X.2.1 dX0_count_79 rfl (lv_at hl 1 rfl) ?_
    exact r_iret X hV hF h dX0_count_80
  · refine lv_iload_n X.1 X.2.1 dX0_count_62 rfl (lv_at hl 1 rfl) ?_
    refine lv_aload_n X.1 X.2.1 dX0_count_63 rfl (lv_at hl 0 rfl) ?_
    refine r_gR X hV fl_X0_43_0 (by decide) dX0_count_64 h (fun v1 h => ?_)
    refine lv_iload_n X.1 X.2.1 dX0_count_67 rfl (lv_at hl 2 rfl) ?_
    obtain ⟨v2, s1, hc, h⟩ := b2_inv h
    refine r_ci (va_runV (C := RX1) (As := [.int x3]) (rest := [.int x2]) (cfX X) (c_X1_held l hc) (cwV 1 X.2.2.2.2.1 (lw_V q731 q732 q733 q50 q734) rfl rfl rfl ⟨rfl, yd_X1_held⟩ ⟨Nat.le_of_ble_eq_true rfl, Nat.le_of_ble_eq_true rfl⟩) (preV X hV (F_X1_held_g hc) rfl) rfl rfl hl.1 rfl (lv_room (Nat.le_of_ble_eq_true rfl)) dX0_count_68 ⟨(Nat.le_of_ble_eq_true rfl), (Nat.le_of_ble_eq_true rfl)⟩) hF (fun H locs hV hF => ?_)
    refine lv_iadd X.1 X.2.1 dX0_count_71 ?_
    refine lv_istore_n (lv' := [(2, .int (x2 + v2)), (0, .ref x0), (3, .int x3)]) X.1 X.2.1 dX0_count_72 rfl hl (by decide) rfl (fun ls hl => ?_)
    refine lv_iinc (v := x3 + 1) (lv' := [(3, .int (x3 + 1)), (2, .int (x2 + v2)), (0, .ref x0)]) X.1 X.2.1 dX0_count_73 hl (k := 2) rfl rfl (by decide) rfl (fun ls hl => ?_)
    refine lv_goto (tgt := 56) X.1 X.2.1 dX0_count_76 (by decide) ?_
    exact hr56 (s1, x2 + v2, x3 + 1) h _ _ _ hV hF (lv_sub hl [2, 1, 0] rfl)
set_option maxHeartbeats 4000000 in
theorem w_X0_count_56 {p : Program} {l : Launch} {e : Env} {s : State} {m : MethodId} {args : Array Value} {below : List Frame} {meth : Method} {c : Code} {g : Gl} (X : FX g p m c s args meth cX0_count 4 RX0 (some .int) "count") {r : Int32 × Hp} {x0 : Nat}  : ∀ (n : Nat) (st : Hp × Int32 × Int32), L_X0_count_56 x0 n st = some r → ∀ (H : Heap) (locs : List Loc) (ls : Array Slot), HV g st.1 H → FR g locs → lv_has ls 4 [(0, .ref x0), (2, .int st.2.1), (3, .int st.2.2)] → W p l e rm_X0_count s m args below meth c H locs 0 0 (MQ below (Qi g r) args s 0 0 (frN g)) (F0 m 56 ls []) := by
  intro n
  induction n with
  | zero =>
    intro st h
    rw [L_X0_count_56_0] at h
    cases h
  | succ n ih =>
    intro st h H locs ls hV hF hl
    rw [L_X0_count_56_s] at h
    exact w_X0_count_56_b X  ih h hV hF hl
set_option maxHeartbeats 4000000 in
theorem w_X0_count_83_b {p : Program} {l : Launch} {e : Env} {s : State} {m : MethodId} {args : Array Value} {below : List Frame} {meth : Method} {c : Code} {g : Gl} (X : FX g p m c s args meth cX0_count 4 RX0 (some .int) "count") {r : Int32 × Hp} {rec83 : Hp × Int32 × Int32 → Option (Int32 × Hp)} {x0 : Nat} {σ : Hp} {x2 : Int32} {x3 : Int32} (hr83 : ∀ (st : Hp × Int32 × Int32), rec83 st = some r → ∀ (H : Heap) (locs : List Loc) (ls : Array Slot), HV g st.1 H → FR g locs → lv_has ls 4 [(0, .ref x0), (2, .int st.2.1), (3, .int st.2.2)] → W p l e rm_X0_count s m args below meth c H locs 0 0 (MQ below (Qi g r) args s 0 0 (frN g)) (F0 m 83 ls [])) {H : Heap} {locs : List Loc} {ls : Array Slot} (h : B_X0_count_83 x0 rec83 σ x2 x3 = some r) (hV : HV g σ H) (hF : FR g locs) (hl : lv_has ls 4 [(0, .ref x0), (2, .int x2), (3, .int x3)]) : W p l e rm_X0_count s m args below meth c H locs 0 0 (MQ below (Qi g r) args s 0 0 (frN g)) (F0 m 83 ls []) := by
  unfold B_X0_count_83 at h
  refine lv_iload_n X.1 X.2.1 dX0_count_83 rfl (lv_at hl 2 rfl) ?_
  refine lv_bipush (v := 48) X.1 X.2.1 dX0_count_84 (by decide) ?_
  refine r_ge (tgt := 121) X.1 X.2.1 dX0_count_86 (by decide) h (fun h => ?_) (fun h => ?_)
  · refine lv_iload_n X.1 X.2.1 dX0_count_121 rfl (lv_at hl 1 rfl) ?_
    exact r_iret X hV hF h dX0_count_122
  · refine lv_iload_n X.1 X.2.1 dX0_count_89 rfl (lv_at hl 1 rfl) ?_
    refine lv_aload_n X.1 X.2.1 dX0_count_90 rfl (lv_at hl 0 rfl) ?_
    refine r_gR X hV fl_X0_43_0 (by decide) dX0_count_91 h (fun v1 h => ?_)
    refine r_gR X hV fl_X0_138_1 (by decide) dX0_count_94 h (fun v2 h => ?_)
    refine lv_iload_n X.1 X.2.1 dX0_count_97 rfl (lv_at hl 2 rfl) ?_
    refine r_aa X hV dX0_count_98 (by decide) h (fun v3 h => ?_)
    refine r_gR X hV fl_X0_167_3 (by decide) dX0_count_99 h (fun v4 h => ?_)
    obtain ⟨v5, s1, hc, h⟩ := b2_inv h
    refine r_ci (va_runV (C := RX4) (As := []) (rest := [.int x2]) (cfX X) (c_X4_isThere l hc) (cwV 0 X.2.2.2.2.1 (lw_V q418 q419 q420 q53 q421) rfl rfl rfl ⟨rfl, yd_X4_isThere⟩ ⟨Nat.le_of_ble_eq_true rfl, Nat.le_of_ble_eq_true rfl⟩) (preV X hV (F_X4_isThere_g hc) rfl) rfl rfl hl.1 rfl (lv_room (Nat.le_of_ble_eq_true rfl)) dX0_count_102 ⟨(Nat.le_of_ble_eq_true rfl), (Nat.le_of_ble_eq_true rfl)⟩) hF (fun H locs hV hF => ?_)
    refine r_ifeq (tgt := 112) X.1 X.2.1 dX0_count_105 (by decide) h (fun h => ?_) (fun h => ?_)
    · refine lv_iconst (v := 0) X.1 X.2.1 dX0_count_112 (by decide) ?_
      refine lv_iadd X.1 X.2.1 dX0_count_113 ?_
      refine lv_istore_n (lv' := [(2, .int (x2 + 0)), (0, .ref x0), (3, .int x3)]) X.1 X.2.1 dX0_count_114 rfl hl (by decide) rfl (fun ls hl => ?_)
      refine lv_iinc (v := x3 + 1) (lv' := [(3, .int (x3 + 1)), (2, .int (x2 + 0)), (0, .ref x0)]) X.1 X.2.1 dX0_count_115 hl (k := 2) rfl rfl (by decide) rfl (fun ls hl => ?_)
      refine lv_goto (tgt := 83) X.1 X.2.1 dX0_count_118 (by decide) ?_
      exact hr83 (s1, x2 + 0, x3 + 1) h _ _ _ hV hF (lv_sub hl [2, 1, 0] rfl)
    · refine lv_iconst (v := 1) X.1 X.2.1 dX0_count_108 (by decide) ?_
      refine lv_goto (tgt := 113) X.1 X.2.1 dX0_count_109 (by decide) ?_
      refine lv_iadd X.1 X.2.1 dX0_count_113 ?_
      refine lv_istore_n (lv' := [(2, .int (x2 + 1)), (0, .ref x0), (3, .int x3)]) X.1 X.2.1 dX0_count_114 rfl hl (by decide) rfl (fun ls hl => ?_)
      refine lv_iinc (v := x3 + 1) (lv' := [(3, .int (x3 + 1)), (2, .int (x2 + 1)), (0, .ref x0)]) X.1 X.2.1 dX0_count_115 hl (k := 2) rfl rfl (by decide) rfl (fun ls hl => ?_)
      refine lv_goto (tgt := 83) X.1 X.2.1 dX0_count_118 (by decide) ?_
      exact hr83 (s1, x2 + 1, x3 + 1) h _ _ _ hV hF (lv_sub hl [2, 1, 0] rfl)
set_option maxHeartbeats 4000000 in
theorem w_X0_count_83 {p : Program} {l : Launch} {e : Env} {s : State} {m : MethodId} {args : Array Value} {below : List Frame} {meth : Method} {c : Code} {g : Gl} (X : FX g p m c s args meth cX0_count 4 RX0 (some .int) "count") {r : Int32 × Hp} {x0 : Nat}  : ∀ (n : Nat) (st : Hp × Int32 × Int32), L_X0_count_83 x0 n st = some r → ∀ (H : Heap) (locs : List Loc) (ls : Array Slot), HV g st.1 H → FR g locs → lv_has ls 4 [(0, .ref x0), (2, .int st.2.1), (3, .int st.2.2)] → W p l e rm_X0_count s m args below meth c H locs 0 0 (MQ below (Qi g r) args s 0 0 (frN g)) (F0 m 83 ls []) := by
  intro n
  induction n with
  | zero =>
    intro st h
    rw [L_X0_count_83_0] at h
    cases h
  | succ n ih =>
    intro st h H locs ls hV hF hl
    rw [L_X0_count_83_s] at h
    exact w_X0_count_83_b X  ih h hV hF hl
set_option maxHeartbeats 4000000 in
theorem c_X0_count (l : Launch) {g : Gl} {σ : Hp} {x0 : Nat} {x1 : Int32} {r : Int32 × Hp} (h : F_X0_count σ x0 x1 = some r) : Met l yX0_count (ws_ yX0_count cX0_count 4 (some .int)) rm_X0_count (va_Pc [.ref x0, .int x1] (WV g σ)) (Qi g r) 0 0 (frN g) := by
  refine ct_of (by decide) (Nat.le_of_ble_eq_true rfl) ?_
  intro p e s m below meth c ls X hV hl
  have hF : FR g [] := FR_nil
  unfold F_X0_count at h
  have hl : lv_has ls 4 [(0, .ref x0), (1, .int x1)] := hl
  have X : FX g p m c s _ meth cX0_count 4 RX0 (some .int) "count" := X
  obtain ⟨-, h⟩ := gd_inv h
  refine lv_iconst (v := 0) X.1 X.2.1 dX0_count_0 (by decide) ?_
  refine lv_istore_n (lv' := [(2, .int 0), (0, .ref x0), (1, .int x1)]) X.1 X.2.1 dX0_count_1 rfl hl (by decide) rfl (fun ls hl => ?_)
  refine lv_iload_n X.1 X.2.1 dX0_count_2 rfl (lv_at hl 2 rfl) ?_
  refine r_case (tgt := 44) (off := 41) 0 X.1 X.2.1 dX0_count_3 (by decide) (by decide) rfl (by decide) h (fun h => ?_) (fun n0 h => ?_)
  · refine lv_aload_n X.1 X.2.1 dX0_count_44 rfl (lv_at hl 1 rfl) ?_
    refine r_gI X hV fl_X0_153_0 dX0_count_45 h (fun v1 h => ?_)
    exact r_iret X hV hF h dX0_count_48
  refine r_case (tgt := 49) (off := 46) 1 X.1 X.2.1 dX0_count_3 (by decide) (by decide) rfl (by decide) h (fun h => ?_) (fun n1 h => ?_)
  · refine lv_aload_n X.1 X.2.1 dX0_count_49 rfl (lv_at hl 1 rfl) ?_
    refine r_gI X hV fl_X0_109_0 dX0_count_50 h (fun v2 h => ?_)
    exact r_iret X hV hF h dX0_count_53
  refine r_case (tgt := 54) (off := 51) 2 X.1 X.2.1 dX0_count_3 (by decide) (by decide) rfl (by decide) h (fun h => ?_) (fun n2 h => ?_)
  · refine lv_iconst (v := 0) X.1 X.2.1 dX0_count_54 (by decide) ?_
    refine lv_istore_n (lv' := [(3, .int 0), (2, .int 0), (0, .ref x0), (1, .int x1)]) X.1 X.2.1 dX0_count_55 rfl hl (by decide) rfl (fun ls hl => ?_)
    exact w_X0_count_56 X  FU (σ, 0, 0) h _ _ _ hV hF (lv_sub hl [2, 1, 0] rfl)
  refine r_case (tgt := 81) (off := 78) 3 X.1 X.2.1 dX0_count_3 (by decide) (by decide) rfl (by decide) h (fun h => ?_) (fun n3 h => ?_)
  · refine lv_iconst (v := 0) X.1 X.2.1 dX0_count_81 (by decide) ?_
    refine lv_istore_n (lv' := [(3, .int 0), (2, .int 0), (0, .ref x0), (1, .int x1)]) X.1 X.2.1 dX0_count_82 rfl hl (by decide) rfl (fun ls hl => ?_)
    exact w_X0_count_83 X  FU (σ, 0, 0) h _ _ _ hV hF (lv_sub hl [2, 1, 0] rfl)
  refine r_case (tgt := 123) (off := 120) 4 X.1 X.2.1 dX0_count_3 (by decide) (by decide) rfl (by decide) h (fun h => ?_) (fun n4 h => ?_)
  · refine lv_aload_n X.1 X.2.1 dX0_count_123 rfl (lv_at hl 1 rfl) ?_
    refine r_gR X hV fl_X0_43_0 (by decide) dX0_count_124 h (fun v3 h => ?_)
    obtain ⟨v4, s1, hc, h⟩ := b2_inv h
    refine r_ci (va_runV (C := RX1) (As := []) (rest := []) (cfX X) (c_X1_strength l hc) (cwV 0 X.2.2.2.2.1 (lw_V q898 q899 q900 q50 q901) rfl rfl rfl ⟨rfl, yd_X1_strength⟩ ⟨Nat.le_of_ble_eq_true rfl, Nat.le_of_ble_eq_true rfl⟩) (preV X hV (F_X1_strength_g hc) rfl) rfl rfl hl.1 rfl (lv_room (Nat.le_of_ble_eq_true rfl)) dX0_count_127 ⟨(Nat.le_of_ble_eq_true rfl), (Nat.le_of_ble_eq_true rfl)⟩) hF (fun H locs hV hF => ?_)
    exact r_iret X hV hF h dX0_count_130
  refine r_case (tgt := 131) (off := 128) 5 X.1 X.2.1 dX0_count_3 (by decide) (by decide) rfl (by decide) h (fun h => ?_) (fun n5 h => ?_)
  · refine lv_aload_n X.1 X.2.1 dX0_count_131 rfl (lv_at hl 1 rfl) ?_
    refine r_gI X hV fl_X0_191_0 dX0_count_132 h (fun v5 h => ?_)
    exact r_iret X hV hF h dX0_count_135
  refine r_case (tgt := 136) (off := 133) 6 X.1 X.2.1 dX0_count_3 (by decide) (by decide) rfl (by decide) h (fun h => ?_) (fun n6 h => ?_)
  · refine lv_aload_n X.1 X.2.1 dX0_count_136 rfl (lv_at hl 1 rfl) ?_
    refine r_gI X hV fl_X0_212_0 dX0_count_137 h (fun v6 h => ?_)
    exact r_iret X hV hF h dX0_count_140
  refine lv_tableOut (tgt := 141) X.1 X.2.1 dX0_count_3 (tsw_out (n := 7) (by decide) (fun i hi => by
    match i, hi with
    | 0, _ => exact n0
    | 1, _ => exact n1
    | 2, _ => exact n2
    | 3, _ => exact n3
    | 4, _ => exact n4
    | 5, _ => exact n5
    | 6, _ => exact n6)) (by decide) ?_
  refine lv_bipush (v := (-3)) X.1 X.2.1 dX0_count_141 (by decide) ?_
  exact r_iret X hV hF h dX0_count_143
