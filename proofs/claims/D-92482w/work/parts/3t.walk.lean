set_option maxRecDepth 100000
/-! PalaceOfRooms$Orders.isMet for classes {0: 7} -/
theorem dX6_isMet_0 : decode cX6_isMet 0 = .ok (.iconst 0, 1) := by decide +kernel
theorem dX6_isMet_1 : decode cX6_isMet 1 = .ok (.istore_n 2, 1) := by decide +kernel
theorem dX6_isMet_2 : decode cX6_isMet 2 = .ok (.iconst 0, 1) := by decide +kernel
theorem dX6_isMet_3 : decode cX6_isMet 3 = .ok (.istore_n 3, 1) := by decide +kernel
theorem dX6_isMet_4 : decode cX6_isMet 4 = .ok (.iload_n 3, 1) := by decide +kernel
theorem dX6_isMet_5 : decode cX6_isMet 5 = .ok (.iload_n 1, 1) := by decide +kernel
theorem dX6_isMet_6 : decode cX6_isMet 6 = .ok (.if_icmp .ge 34, 3) := by decide +kernel
theorem dX6_isMet_9 : decode cX6_isMet 9 = .ok (.iload_n 2, 1) := by decide +kernel
theorem dX6_isMet_10 : decode cX6_isMet 10 = .ok (.ifCond .ne 18, 3) := by decide +kernel
theorem dX6_isMet_13 : decode cX6_isMet 13 = .ok (.aload_n 0, 1) := by decide +kernel
theorem dX6_isMet_14 : decode cX6_isMet 14 = .ok (.getfield 15, 3) := by decide +kernel
theorem dX6_isMet_17 : decode cX6_isMet 17 = .ok (.iload_n 3, 1) := by decide +kernel
theorem dX6_isMet_18 : decode cX6_isMet 18 = .ok (.iaload, 1) := by decide +kernel
theorem dX6_isMet_19 : decode cX6_isMet 19 = .ok (.aload_n 0, 1) := by decide +kernel
theorem dX6_isMet_20 : decode cX6_isMet 20 = .ok (.getfield 15, 3) := by decide +kernel
theorem dX6_isMet_23 : decode cX6_isMet 23 = .ok (.iload_n 1, 1) := by decide +kernel
theorem dX6_isMet_24 : decode cX6_isMet 24 = .ok (.iaload, 1) := by decide +kernel
theorem dX6_isMet_25 : decode cX6_isMet 25 = .ok (.if_icmp .ne 7, 3) := by decide +kernel
theorem dX6_isMet_28 : decode cX6_isMet 28 = .ok (.iconst 1, 1) := by decide +kernel
theorem dX6_isMet_29 : decode cX6_isMet 29 = .ok (.goto 4, 3) := by decide +kernel
theorem dX6_isMet_32 : decode cX6_isMet 32 = .ok (.iconst 0, 1) := by decide +kernel
theorem dX6_isMet_33 : decode cX6_isMet 33 = .ok (.istore_n 2, 1) := by decide +kernel
theorem dX6_isMet_34 : decode cX6_isMet 34 = .ok (.iinc 3 1, 3) := by decide +kernel
theorem dX6_isMet_37 : decode cX6_isMet 37 = .ok (.goto (-33), 3) := by decide +kernel
theorem dX6_isMet_40 : decode cX6_isMet 40 = .ok (.iload_n 2, 1) := by decide +kernel
theorem dX6_isMet_41 : decode cX6_isMet 41 = .ok (.ireturn, 1) := by decide +kernel
theorem yd_X6_isMet : yX6_isMet.cls ≠ "java/lang/invoke/MethodHandle" ∧ yX6_isMet.cls ≠ "java/lang/invoke/VarHandle" ∧ (parseMethodDescriptor yX6_isMet.desc).map (fun d => d.parameters.length) = some 1 := by decide +kernel
theorem fl_X6_15_7 : FLk RX6 15 7 0 "[I" := ⟨RX7, TX7, 6, "PalaceOfRooms$Orders", rfl, by decide, (fun q => by have h1 := q.1; have h2 := q.2; omega), rfl, in_X7, Or.inl q194, Or.inl rfl⟩
abbrev rm_X6_isMet_7 : Room := { frames := 0, cells := 0, slots := 0, locals := 0 }
set_option maxHeartbeats 4000000 in
theorem w_X6_isMet_7_4_b {p : Program} {l : Launch} {e : Env} {s : State} {m : MethodId} {args : Array Value} {below : List Frame} {meth : Method} {c : Code} {g : Gl} (X : FX g p m c s args meth cX6_isMet 4 RX6 (some .boolean) "isMet") {r : Int32 × Hp} {rec4 : Int32 × Int32 → Option (Int32 × Hp)} {σ : Hp} {x0 : Nat} {x1 : Int32} {x2 : Int32} {x3 : Int32} (hr4 : ∀ (st : Int32 × Int32), rec4 st = some r → ∀ (H : Heap) (locs : List Loc) (ls : Array Slot), HV g σ H → FR g locs → lv_has ls 4 [(0, .ref x0), (1, .int x1), (2, .int st.1), (3, .int st.2)] → W p l e rm_X6_isMet_7 s m args below meth c H locs 0 0 (MQ below (Qi g r) args s 0 0 (frN g)) (F0 m 4 ls [])) {H : Heap} {locs : List Loc} {ls : Array Slot} (h : B_X6_isMet_7_4 σ x0 x1 rec4 x2 x3 = some r) (hV : HV g σ H) (hF : FR g locs) (hl : lv_has ls 4 [(0, .ref x0), (1, .int x1), (2, .int x2), (3, .int x3)]) : W p l e rm_X6_isMet_7 s m args below meth c H locs 0 0 (MQ below (Qi g r) args s 0 0 (frN g)) (F0 m 4 ls []) := by
  unfold B_X6_isMet_7_4 at h
  refine lv_iload_n X.1 X.2.1 dX6_isMet_4 rfl (lv_at hl 3 rfl) ?_
  refine lv_iload_n X.1 X.2.1 dX6_isMet_5 rfl (lv_at hl 1 rfl) ?_
  refine r_ge (tgt := 40) X.1 X.2.1 dX6_isMet_6 (by decide) h (fun h => ?_) (fun h => ?_)
  · refine lv_iload_n X.1 X.2.1 dX6_isMet_40 rfl (lv_at hl 2 rfl) ?_
    exact r_zrv X hV hF h dX6_isMet_41
  · refine lv_iload_n X.1 X.2.1 dX6_isMet_9 rfl (lv_at hl 2 rfl) ?_
    refine r_ifne (tgt := 28) X.1 X.2.1 dX6_isMet_10 (by decide) h (fun h => ?_) (fun h => ?_)
    · refine lv_iconst (v := 1) X.1 X.2.1 dX6_isMet_28 (by decide) ?_
      refine lv_goto (tgt := 33) X.1 X.2.1 dX6_isMet_29 (by decide) ?_
      refine lv_istore_n (lv' := [(2, .int 1), (0, .ref x0), (1, .int x1), (3, .int x3)]) X.1 X.2.1 dX6_isMet_33 rfl hl (by decide) rfl (fun ls hl => ?_)
      refine lv_iinc (v := x3 + 1) (lv' := [(3, .int (x3 + 1)), (2, .int 1), (0, .ref x0), (1, .int x1)]) X.1 X.2.1 dX6_isMet_34 hl (k := 3) rfl rfl (by decide) rfl (fun ls hl => ?_)
      refine lv_goto (tgt := 4) X.1 X.2.1 dX6_isMet_37 (by decide) ?_
      exact hr4 (1, x3 + 1) h _ _ _ hV hF (lv_sub hl [2, 3, 1, 0] rfl)
    · refine lv_aload_n X.1 X.2.1 dX6_isMet_13 rfl (lv_at hl 0 rfl) ?_
      refine r_gR X hV fl_X6_15_7 (by decide) dX6_isMet_14 h (fun v1 h => ?_)
      refine lv_iload_n X.1 X.2.1 dX6_isMet_17 rfl (lv_at hl 3 rfl) ?_
      refine r_ia X hV dX6_isMet_18 h (fun v2 h => ?_)
      refine lv_aload_n X.1 X.2.1 dX6_isMet_19 rfl (lv_at hl 0 rfl) ?_
      refine r_gR X hV fl_X6_15_7 (by decide) dX6_isMet_20 h (fun v3 h => ?_)
      refine lv_iload_n X.1 X.2.1 dX6_isMet_23 rfl (lv_at hl 1 rfl) ?_
      refine r_ia X hV dX6_isMet_24 h (fun v4 h => ?_)
      refine r_ne (tgt := 32) X.1 X.2.1 dX6_isMet_25 (by decide) h (fun h => ?_) (fun h => ?_)
      · refine lv_iconst (v := 0) X.1 X.2.1 dX6_isMet_32 (by decide) ?_
        refine lv_istore_n (lv' := [(2, .int 0), (0, .ref x0), (1, .int x1), (3, .int x3)]) X.1 X.2.1 dX6_isMet_33 rfl hl (by decide) rfl (fun ls hl => ?_)
        refine lv_iinc (v := x3 + 1) (lv' := [(3, .int (x3 + 1)), (2, .int 0), (0, .ref x0), (1, .int x1)]) X.1 X.2.1 dX6_isMet_34 hl (k := 3) rfl rfl (by decide) rfl (fun ls hl => ?_)
        refine lv_goto (tgt := 4) X.1 X.2.1 dX6_isMet_37 (by decide) ?_
        exact hr4 (0, x3 + 1) h _ _ _ hV hF (lv_sub hl [2, 3, 1, 0] rfl)
      · refine lv_iconst (v := 1) X.1 X.2.1 dX6_isMet_28 (by decide) ?_
        refine lv_goto (tgt := 33) X.1 X.2.1 dX6_isMet_29 (by decide) ?_
        refine lv_istore_n (lv' := [(2, .int 1), (0, .ref x0), (1, .int x1), (3, .int x3)]) X.1 X.2.1 dX6_isMet_33 rfl hl (by decide) rfl (fun ls hl => ?_)
        refine lv_iinc (v := x3 + 1) (lv' := [(3, .int (x3 + 1)), (2, .int 1), (0, .ref x0), (1, .int x1)]) X.1 X.2.1 dX6_isMet_34 hl (k := 3) rfl rfl (by decide) rfl (fun ls hl => ?_)
        refine lv_goto (tgt := 4) X.1 X.2.1 dX6_isMet_37 (by decide) ?_
        exact hr4 (1, x3 + 1) h _ _ _ hV hF (lv_sub hl [2, 3, 1, 0] rfl)
set_option maxHeartbeats 4000000 in
theorem w_X6_isMet_7_4 {p : Program} {l : Launch} {e : Env} {s : State} {m : MethodId} {args : Array Value} {below : List Frame} {meth : Method} {c : Code} {g : Gl} (X : FX g p m c s args meth cX6_isMet 4 RX6 (some .boolean) "isMet") {r : Int32 × Hp} {σ : Hp} {x0 : Nat} {x1 : Int32}  : ∀ (n : Nat) (st : Int32 × Int32), L_X6_isMet_7_4 σ x0 x1 n st = some r → ∀ (H : Heap) (locs : List Loc) (ls : Array Slot), HV g σ H → FR g locs → lv_has ls 4 [(0, .ref x0), (1, .int x1), (2, .int st.1), (3, .int st.2)] → W p l e rm_X6_isMet_7 s m args below meth c H locs 0 0 (MQ below (Qi g r) args s 0 0 (frN g)) (F0 m 4 ls []) := by
  intro n
  induction n with
  | zero =>
    intro st h
    rw [L_X6_isMet_7_4_0] at h
    cases h
  | succ n ih =>
    intro st h H locs ls hV hF hl
    rw [L_X6_isMet_7_4_s] at h
    exact w_X6_isMet_7_4_b X  ih h hV hF hl
set_option maxHeartbeats 4000000 in
theorem c_X6_isMet_7 (l : Launch) {g : Gl} {σ : Hp} {x0 : Nat} {x1 : Int32} {r : Int32 × Hp} (h : F_X6_isMet_7 σ x0 x1 = some r) : Met l yX6_isMet (ws_ yX6_isMet cX6_isMet 4 (some .boolean)) rm_X6_isMet_7 (va_Pc [.ref x0, .int x1] (WV g σ)) (Qi g r) 0 0 (frN g) := by
  refine ct_of (by decide) (Nat.le_of_ble_eq_true rfl) ?_
  intro p e s m below meth c ls X hV hl
  have hF : FR g [] := FR_nil
  unfold F_X6_isMet_7 at h
  have hl : lv_has ls 4 [(0, .ref x0), (1, .int x1)] := hl
  have X : FX g p m c s _ meth cX6_isMet 4 RX6 (some .boolean) "isMet" := X
  obtain ⟨-, h⟩ := gd_inv h
  refine lv_iconst (v := 0) X.1 X.2.1 dX6_isMet_0 (by decide) ?_
  refine lv_istore_n (lv' := [(2, .int 0), (0, .ref x0), (1, .int x1)]) X.1 X.2.1 dX6_isMet_1 rfl hl (by decide) rfl (fun ls hl => ?_)
  refine lv_iconst (v := 0) X.1 X.2.1 dX6_isMet_2 (by decide) ?_
  refine lv_istore_n (lv' := [(3, .int 0), (2, .int 0), (0, .ref x0), (1, .int x1)]) X.1 X.2.1 dX6_isMet_3 rfl hl (by decide) rfl (fun ls hl => ?_)
  exact w_X6_isMet_7_4 X  FU (0, 0) h _ _ _ hV hF (lv_sub hl [2, 3, 1, 0] rfl)
/-! PalaceOfRooms$Laid.more -/
theorem dX7_more_0 : decode cX7_more 0 = .ok (.iload_n 2, 1) := by decide +kernel
theorem dX7_more_1 : decode cX7_more 1 = .ok (.ifCond .ne 7, 3) := by decide +kernel
theorem dX7_more_4 : decode cX7_more 4 = .ok (.iconst 0, 1) := by decide +kernel
theorem dX7_more_5 : decode cX7_more 5 = .ok (.goto 34, 3) := by decide +kernel
theorem dX7_more_8 : decode cX7_more 8 = .ok (.aload_n 0, 1) := by decide +kernel
theorem dX7_more_9 : decode cX7_more 9 = .ok (.getfield 1, 3) := by decide +kernel
theorem dX7_more_12 : decode cX7_more 12 = .ok (.aload_n 0, 1) := by decide +kernel
theorem dX7_more_13 : decode cX7_more 13 = .ok (.getfield 1, 3) := by decide +kernel
theorem dX7_more_16 : decode cX7_more 16 = .ok (.getfield 13, 3) := by decide +kernel
theorem dX7_more_19 : decode cX7_more 19 = .ok (.aload_n 1, 1) := by decide +kernel
theorem dX7_more_20 : decode cX7_more 20 = .ok (.iload_n 2, 1) := by decide +kernel
theorem dX7_more_21 : decode cX7_more 21 = .ok (.iconst 1, 1) := by decide +kernel
theorem dX7_more_22 : decode cX7_more 22 = .ok (.isub, 1) := by decide +kernel
theorem dX7_more_23 : decode cX7_more 23 = .ok (.iaload, 1) := by decide +kernel
theorem dX7_more_24 : decode cX7_more 24 = .ok (.iaload, 1) := by decide +kernel
theorem dX7_more_25 : decode cX7_more 25 = .ok (.aload_n 0, 1) := by decide +kernel
theorem dX7_more_26 : decode cX7_more 26 = .ok (.getfield 1, 3) := by decide +kernel
theorem dX7_more_29 : decode cX7_more 29 = .ok (.getfield 13, 3) := by decide +kernel
theorem dX7_more_32 : decode cX7_more 32 = .ok (.aload_n 1, 1) := by decide +kernel
theorem dX7_more_33 : decode cX7_more 33 = .ok (.iload_n 2, 1) := by decide +kernel
theorem dX7_more_34 : decode cX7_more 34 = .ok (.iaload, 1) := by decide +kernel
theorem dX7_more_35 : decode cX7_more 35 = .ok (.iaload, 1) := by decide +kernel
theorem dX7_more_36 : decode cX7_more 36 = .ok (.invokevirtual 19, 3) := by decide +kernel
theorem dX7_more_39 : decode cX7_more 39 = .ok (.ireturn, 1) := by decide +kernel
theorem yd_X7_more : yX7_more.cls ≠ "java/lang/invoke/MethodHandle" ∧ yX7_more.cls ≠ "java/lang/invoke/VarHandle" ∧ (parseMethodDescriptor yX7_more.desc).map (fun d => d.parameters.length) = some 2 := by decide +kernel
theorem fl_X7_1_7 : FLk RX7 1 7 5 "LPalaceOfRooms;" := ⟨RX7, TX7, 6, "PalaceOfRooms$Laid", rfl, by decide, (fun q => by have h1 := q.1; have h2 := q.2; omega), rfl, in_X7, Or.inl q193, Or.inl rfl⟩
theorem fl_X7_13_0 : FLk RX7 13 0 15 "[I" := ⟨RX0, TX0, 22, "PalaceOfRooms", rfl, by decide, (fun q => by have h1 := q.1; have h2 := q.2; omega), rfl, in_X0, Or.inr (List.mem_of_getElem? (i := 15) rfl), Or.inl rfl⟩
abbrev rm_X7_more : Room := { frames := 2, cells := 0, slots := 0, locals := 42 }
set_option maxHeartbeats 4000000 in
theorem c_X7_more (l : Launch) {g : Gl} {σ : Hp} {x0 : Nat} {x1 : Nat} {x2 : Int32} {r : Int32 × Hp} (h : F_X7_more σ x0 x1 x2 = some r) : Met l yX7_more (ws_ yX7_more cX7_more 3 (some .int)) rm_X7_more (va_Pc [.ref x0, .ref x1, .int x2] (WV g σ)) (Qi g r) 0 0 (frN g) := by
  refine ct_of (by decide) (Nat.le_of_ble_eq_true rfl) ?_
  intro p e s m below meth c ls X hV hl
  have hF : FR g [] := FR_nil
  unfold F_X7_more at h
  have hl : lv_has ls 3 [(0, .ref x0), (1, .ref x1), (2, .int x2)] := hl
  have X : FX g p m c s _ meth cX7_more 3 RX7 (some .int) "more" := X
  obtain ⟨-, h⟩ := gd_inv h
  refine lv_iload_n X.1 X.2.1 dX7_more_0 rfl (lv_at hl 2 rfl) ?_
  refine r_ifne (tgt := 8) X.1 X.2.1 dX7_more_1 (by decide) h (fun h => ?_) (fun h => ?_)
  · refine lv_aload_n X.1 X.2.1 dX7_more_8 rfl (lv_at hl 0 rfl) ?_
    refine r_gR X hV fl_X7_1_7 (by decide) dX7_more_9 h (fun v1 h => ?_)
    refine lv_aload_n X.1 X.2.1 dX7_more_12 rfl (lv_at hl 0 rfl) ?_
    refine r_gR X hV fl_X7_1_7 (by decide) dX7_more_13 h (fun v2 h => ?_)
    refine r_gR X hV fl_X7_13_0 (by decide) dX7_more_16 h (fun v3 h => ?_)
    refine lv_aload_n X.1 X.2.1 dX7_more_19 rfl (lv_at hl 1 rfl) ?_
    refine lv_iload_n X.1 X.2.1 dX7_more_20 rfl (lv_at hl 2 rfl) ?_
    refine lv_iconst (v := 1) X.1 X.2.1 dX7_more_21 (by decide) ?_
    refine lv_isub X.1 X.2.1 dX7_more_22 ?_
    refine r_ia X hV dX7_more_23 h (fun v4 h => ?_)
    refine r_ia X hV dX7_more_24 h (fun v5 h => ?_)
    refine lv_aload_n X.1 X.2.1 dX7_more_25 rfl (lv_at hl 0 rfl) ?_
    refine r_gR X hV fl_X7_1_7 (by decide) dX7_more_26 h (fun v6 h => ?_)
    refine r_gR X hV fl_X7_13_0 (by decide) dX7_more_29 h (fun v7 h => ?_)
    refine lv_aload_n X.1 X.2.1 dX7_more_32 rfl (lv_at hl 1 rfl) ?_
    refine lv_iload_n X.1 X.2.1 dX7_more_33 rfl (lv_at hl 2 rfl) ?_
    refine r_ia X hV dX7_more_34 h (fun v8 h => ?_)
    refine r_ia X hV dX7_more_35 h (fun v9 h => ?_)
    obtain ⟨v10, s1, hc, h⟩ := b2_inv h
    refine r_ci (va_runVN (C := RX0) (As := [.int v5, .int v9]) (rest := []) (cfX X) (c_X0_likeness l hc) ⟨va_cnB 2 X.2.2.2.2.1 (lw_meth q358) rfl rfl rfl (X.2.2.2.2.2.1.2.2.2.1 _ (List.mem_of_getElem? (i := 17) rfl)) (X.2.2.2.2.1 _ q49) yd_X0_likeness ⟨Nat.le_of_ble_eq_true rfl, Nat.le_of_ble_eq_true rfl⟩, X.2.2.2.2.1 _ q357, X.2.2.2.2.1 _ qs1⟩ (preV X hV (F_X0_likeness_g hc) rfl) rfl rfl hl.1 rfl (lv_room (Nat.le_of_ble_eq_true rfl)) dX7_more_36 ⟨(Nat.le_of_ble_eq_true rfl), (Nat.le_of_ble_eq_true rfl)⟩) hF (fun H locs hV hF => ?_)
    exact r_iret X hV hF h dX7_more_39
  · refine lv_iconst (v := 0) X.1 X.2.1 dX7_more_4 (by decide) ?_
    refine lv_goto (tgt := 39) X.1 X.2.1 dX7_more_5 (by decide) ?_
    exact r_iret X hV hF h dX7_more_39
/-! PalaceOfRooms$Orders.run for classes {0: 7} -/
theorem dX6_run_0 : decode cX6_run 0 = .ok (.aload_n 0, 1) := by decide +kernel
theorem dX6_run_1 : decode cX6_run 1 = .ok (.iload_n 1, 1) := by decide +kernel
theorem dX6_run_2 : decode cX6_run 2 = .ok (.putfield 22, 3) := by decide +kernel
theorem dX6_run_5 : decode cX6_run 5 = .ok (.aload_n 0, 1) := by decide +kernel
theorem dX6_run_6 : decode cX6_run 6 = .ok (.ldc 26, 2) := by decide +kernel
theorem dX6_run_8 : decode cX6_run 8 = .ok (.putfield 27, 3) := by decide +kernel
theorem dX6_run_11 : decode cX6_run 11 = .ok (.bipush 9, 2) := by decide +kernel
theorem dX6_run_13 : decode cX6_run 13 = .ok (.newarray .int, 2) := by decide +kernel
theorem dX6_run_15 : decode cX6_run 15 = .ok (.astore_n 2, 1) := by decide +kernel
theorem dX6_run_16 : decode cX6_run 16 = .ok (.iconst 0, 1) := by decide +kernel
theorem dX6_run_17 : decode cX6_run 17 = .ok (.istore_n 3, 1) := by decide +kernel
theorem dX6_run_18 : decode cX6_run 18 = .ok (.aload_n 0, 1) := by decide +kernel
theorem dX6_run_19 : decode cX6_run 19 = .ok (.getfield 15, 3) := by decide +kernel
theorem dX6_run_22 : decode cX6_run 22 = .ok (.iconst 0, 1) := by decide +kernel
theorem dX6_run_23 : decode cX6_run 23 = .ok (.iconst (-1), 1) := by decide +kernel
theorem dX6_run_24 : decode cX6_run 24 = .ok (.iastore, 1) := by decide +kernel
theorem dX6_run_25 : decode cX6_run 25 = .ok (.iload_n 3, 1) := by decide +kernel
theorem dX6_run_26 : decode cX6_run 26 = .ok (.ifCond .lt 129, 3) := by decide +kernel
theorem dX6_run_29 : decode cX6_run 29 = .ok (.aload_n 0, 1) := by decide +kernel
theorem dX6_run_30 : decode cX6_run 30 = .ok (.getfield 15, 3) := by decide +kernel
theorem dX6_run_33 : decode cX6_run 33 = .ok (.iload_n 3, 1) := by decide +kernel
theorem dX6_run_34 : decode cX6_run 34 = .ok (.dup2, 1) := by decide +kernel
theorem dX6_run_35 : decode cX6_run 35 = .ok (.iaload, 1) := by decide +kernel
theorem dX6_run_36 : decode cX6_run 36 = .ok (.iconst 1, 1) := by decide +kernel
theorem dX6_run_37 : decode cX6_run 37 = .ok (.iadd, 1) := by decide +kernel
theorem dX6_run_38 : decode cX6_run 38 = .ok (.iastore, 1) := by decide +kernel
theorem dX6_run_39 : decode cX6_run 39 = .ok (.aload_n 0, 1) := by decide +kernel
theorem dX6_run_40 : decode cX6_run 40 = .ok (.getfield 15, 3) := by decide +kernel
theorem dX6_run_43 : decode cX6_run 43 = .ok (.iload_n 3, 1) := by decide +kernel
theorem dX6_run_44 : decode cX6_run 44 = .ok (.iaload, 1) := by decide +kernel
theorem dX6_run_45 : decode cX6_run 45 = .ok (.aload_n 0, 1) := by decide +kernel
theorem dX6_run_46 : decode cX6_run 46 = .ok (.getfield 22, 3) := by decide +kernel
theorem dX6_run_49 : decode cX6_run 49 = .ok (.if_icmp .ne 9, 3) := by decide +kernel
theorem dX6_run_52 : decode cX6_run 52 = .ok (.iinc 3 (-1), 3) := by decide +kernel
theorem dX6_run_55 : decode cX6_run 55 = .ok (.goto (-30), 3) := by decide +kernel
theorem dX6_run_58 : decode cX6_run 58 = .ok (.aload_n 0, 1) := by decide +kernel
theorem dX6_run_59 : decode cX6_run 59 = .ok (.iload_n 3, 1) := by decide +kernel
theorem dX6_run_60 : decode cX6_run 60 = .ok (.invokevirtual 30, 3) := by decide +kernel
theorem dX6_run_63 : decode cX6_run 63 = .ok (.ifCond .eq 6, 3) := by decide +kernel
theorem dX6_run_66 : decode cX6_run 66 = .ok (.goto (-41), 3) := by decide +kernel
theorem dX6_run_69 : decode cX6_run 69 = .ok (.aload_n 2, 1) := by decide +kernel
theorem dX6_run_70 : decode cX6_run 70 = .ok (.iload_n 3, 1) := by decide +kernel
theorem dX6_run_71 : decode cX6_run 71 = .ok (.iconst 1, 1) := by decide +kernel
theorem dX6_run_72 : decode cX6_run 72 = .ok (.iadd, 1) := by decide +kernel
theorem dX6_run_73 : decode cX6_run 73 = .ok (.aload_n 2, 1) := by decide +kernel
theorem dX6_run_74 : decode cX6_run 74 = .ok (.iload_n 3, 1) := by decide +kernel
theorem dX6_run_75 : decode cX6_run 75 = .ok (.iaload, 1) := by decide +kernel
theorem dX6_run_76 : decode cX6_run 76 = .ok (.aload_n 0, 1) := by decide +kernel
theorem dX6_run_77 : decode cX6_run 77 = .ok (.aload_n 0, 1) := by decide +kernel
theorem dX6_run_78 : decode cX6_run 78 = .ok (.getfield 15, 3) := by decide +kernel
theorem dX6_run_81 : decode cX6_run 81 = .ok (.iload_n 3, 1) := by decide +kernel
theorem dX6_run_82 : decode cX6_run 82 = .ok (.invokevirtual 34, 3) := by decide +kernel
theorem dX6_run_85 : decode cX6_run 85 = .ok (.iadd, 1) := by decide +kernel
theorem dX6_run_86 : decode cX6_run 86 = .ok (.iastore, 1) := by decide +kernel
theorem dX6_run_87 : decode cX6_run 87 = .ok (.aload_n 2, 1) := by decide +kernel
theorem dX6_run_88 : decode cX6_run 88 = .ok (.iload_n 3, 1) := by decide +kernel
theorem dX6_run_89 : decode cX6_run 89 = .ok (.iconst 1, 1) := by decide +kernel
theorem dX6_run_90 : decode cX6_run 90 = .ok (.iadd, 1) := by decide +kernel
theorem dX6_run_91 : decode cX6_run 91 = .ok (.iaload, 1) := by decide +kernel
theorem dX6_run_92 : decode cX6_run 92 = .ok (.aload_n 0, 1) := by decide +kernel
theorem dX6_run_93 : decode cX6_run 93 = .ok (.getfield 27, 3) := by decide +kernel
theorem dX6_run_96 : decode cX6_run 96 = .ok (.if_icmp .lt 6, 3) := by decide +kernel
theorem dX6_run_99 : decode cX6_run 99 = .ok (.goto (-74), 3) := by decide +kernel
theorem dX6_run_102 : decode cX6_run 102 = .ok (.iload_n 3, 1) := by decide +kernel
theorem dX6_run_103 : decode cX6_run 103 = .ok (.aload_n 0, 1) := by decide +kernel
theorem dX6_run_104 : decode cX6_run 104 = .ok (.getfield 22, 3) := by decide +kernel
theorem dX6_run_107 : decode cX6_run 107 = .ok (.iconst 1, 1) := by decide +kernel
theorem dX6_run_108 : decode cX6_run 108 = .ok (.isub, 1) := by decide +kernel
theorem dX6_run_109 : decode cX6_run 109 = .ok (.if_icmp .ne 33, 3) := by decide +kernel
theorem dX6_run_112 : decode cX6_run 112 = .ok (.aload_n 0, 1) := by decide +kernel
theorem dX6_run_113 : decode cX6_run 113 = .ok (.aload_n 2, 1) := by decide +kernel
theorem dX6_run_114 : decode cX6_run 114 = .ok (.aload_n 0, 1) := by decide +kernel
theorem dX6_run_115 : decode cX6_run 115 = .ok (.getfield 22, 3) := by decide +kernel
theorem dX6_run_118 : decode cX6_run 118 = .ok (.iaload, 1) := by decide +kernel
theorem dX6_run_119 : decode cX6_run 119 = .ok (.putfield 27, 3) := by decide +kernel
theorem dX6_run_122 : decode cX6_run 122 = .ok (.aload_n 0, 1) := by decide +kernel
theorem dX6_run_123 : decode cX6_run 123 = .ok (.getfield 15, 3) := by decide +kernel
theorem dX6_run_126 : decode cX6_run 126 = .ok (.iconst 0, 1) := by decide +kernel
theorem dX6_run_127 : decode cX6_run 127 = .ok (.aload_n 0, 1) := by decide +kernel
theorem dX6_run_128 : decode cX6_run 128 = .ok (.getfield 19, 3) := by decide +kernel
theorem dX6_run_131 : decode cX6_run 131 = .ok (.iconst 0, 1) := by decide +kernel
theorem dX6_run_132 : decode cX6_run 132 = .ok (.aload_n 0, 1) := by decide +kernel
theorem dX6_run_133 : decode cX6_run 133 = .ok (.getfield 22, 3) := by decide +kernel
theorem dX6_run_136 : decode cX6_run 136 = .ok (.invokestatic 38, 3) := by decide +kernel
theorem dX6_run_139 : decode cX6_run 139 = .ok (.goto (-114), 3) := by decide +kernel
theorem dX6_run_142 : decode cX6_run 142 = .ok (.iinc 3 1, 3) := by decide +kernel
theorem dX6_run_145 : decode cX6_run 145 = .ok (.aload_n 0, 1) := by decide +kernel
theorem dX6_run_146 : decode cX6_run 146 = .ok (.getfield 15, 3) := by decide +kernel
theorem dX6_run_149 : decode cX6_run 149 = .ok (.iload_n 3, 1) := by decide +kernel
theorem dX6_run_150 : decode cX6_run 150 = .ok (.iconst (-1), 1) := by decide +kernel
theorem dX6_run_151 : decode cX6_run 151 = .ok (.iastore, 1) := by decide +kernel
theorem dX6_run_152 : decode cX6_run 152 = .ok (.goto (-127), 3) := by decide +kernel
theorem dX6_run_155 : decode cX6_run 155 = .ok (.return_, 1) := by decide +kernel
theorem yd_X6_run : yX6_run.cls ≠ "java/lang/invoke/MethodHandle" ∧ yX6_run.cls ≠ "java/lang/invoke/VarHandle" ∧ (parseMethodDescriptor yX6_run.desc).map (fun d => d.parameters.length) = some 1 := by decide +kernel
theorem fl_X6_22_7 : FLk RX6 22 7 2 "I" := ⟨RX7, TX7, 6, "PalaceOfRooms$Orders", rfl, by decide, (fun q => by have h1 := q.1; have h2 := q.2; omega), rfl, in_X7, Or.inl q197, Or.inl rfl⟩
theorem fl_X6_27_7 : FLk RX6 27 7 3 "I" := ⟨RX7, TX7, 6, "PalaceOfRooms$Orders", rfl, by decide, (fun q => by have h1 := q.1; have h2 := q.2; omega), rfl, in_X7, Or.inl q198, Or.inl rfl⟩
theorem fp_X6_27_7 : FPk RX6 27 7 3 "I" false := ⟨RX7, TX7, 6, "PalaceOfRooms$Orders", tyX7, rfl, by decide, (fun q => by have h1 := q.1; have h2 := q.2; omega), rfl, in_X7, tyX7_ok, (by decide +kernel), rfl, (fun q => by cases q), (Or.inl q198), Or.inl rfl⟩
theorem fl_X6_19_7 : FLk RX6 19 7 1 "[I" := ⟨RX7, TX7, 6, "PalaceOfRooms$Orders", rfl, by decide, (fun q => by have h1 := q.1; have h2 := q.2; omega), rfl, in_X7, Or.inl q195, Or.inl rfl⟩
theorem fp_X6_22_7 : FPk RX6 22 7 2 "I" false := ⟨RX7, TX7, 6, "PalaceOfRooms$Orders", tyX7, rfl, by decide, (fun q => by have h1 := q.1; have h2 := q.2; omega), rfl, in_X7, tyX7_ok, (by decide +kernel), rfl, (fun q => by cases q), (Or.inl q197), Or.inl rfl⟩
abbrev rm_X6_run_7 : Room := { frames := 3, cells := 1, slots := 9, locals := 64 }
set_option maxHeartbeats 4000000 in
theorem w_X6_run_7_25_b {p : Program} {l : Launch} {e : Env} {s : State} {m : MethodId} {args : Array Value} {below : List Frame} {meth : Method} {c : Code} {g : Gl} (X : FX g p m c s args meth cX6_run 4 RX6 none "run") {r : Hp} {rec25 : Hp × Int32 → Option (Hp)} {x0 : Nat} {x2 : Nat} {σ : Hp} {x3 : Int32} (hr25 : ∀ (st : Hp × Int32), rec25 st = some r → ∀ (H : Heap) (locs : List Loc) (ls : Array Slot), HV g st.1 H → FR g locs → lv_has ls 4 [(0, .ref x0), (2, .ref x2), (3, .int st.2)] → W p l e rm_X6_run_7 s m args below meth c H locs 1 9 (MQ below (Qv g r) args s 1 9 (frN g)) (F0 m 25 ls [])) {H : Heap} {locs : List Loc} {ls : Array Slot} (h : B_X6_run_7_25 x0 x2 rec25 σ x3 = some r) (hV : HV g σ H) (hF : FR g locs) (hl : lv_has ls 4 [(0, .ref x0), (2, .ref x2), (3, .int x3)]) : W p l e rm_X6_run_7 s m args below meth c H locs 1 9 (MQ below (Qv g r) args s 1 9 (frN g)) (F0 m 25 ls []) := by
  unfold B_X6_run_7_25 at h
  refine lv_iload_n X.1 X.2.1 dX6_run_25 rfl (lv_at hl 2 rfl) ?_
  refine r_iflt (tgt := 155) X.1 X.2.1 dX6_run_26 (by decide) h (fun h => ?_) (fun h => ?_)
  · exact r_vret X hV hF h dX6_run_155
  · refine lv_aload_n X.1 X.2.1 dX6_run_29 rfl (lv_at hl 0 rfl) ?_
    refine r_gR X hV fl_X6_15_7 (by decide) dX6_run_30 h (fun v1 h => ?_)
    refine lv_iload_n X.1 X.2.1 dX6_run_33 rfl (lv_at hl 2 rfl) ?_
    refine lv_dup2_11 X.1 X.2.1 dX6_run_34 rfl rfl ?_
    refine r_ia X hV dX6_run_35 h (fun v2 h => ?_)
    refine lv_iconst (v := 1) X.1 X.2.1 dX6_run_36 (by decide) ?_
    refine lv_iadd X.1 X.2.1 dX6_run_37 ?_
    refine r_is X hV hF dX6_run_38 h (fun s1 H locs hV hF h => ?_)
    refine lv_aload_n X.1 X.2.1 dX6_run_39 rfl (lv_at hl 0 rfl) ?_
    refine r_gR X hV fl_X6_15_7 (by decide) dX6_run_40 h (fun v3 h => ?_)
    refine lv_iload_n X.1 X.2.1 dX6_run_43 rfl (lv_at hl 2 rfl) ?_
    refine r_ia X hV dX6_run_44 h (fun v4 h => ?_)
    refine lv_aload_n X.1 X.2.1 dX6_run_45 rfl (lv_at hl 0 rfl) ?_
    refine r_gI X hV fl_X6_22_7 dX6_run_46 h (fun v5 h => ?_)
    refine r_ne (tgt := 58) X.1 X.2.1 dX6_run_49 (by decide) h (fun h => ?_) (fun h => ?_)
    · refine lv_aload_n X.1 X.2.1 dX6_run_58 rfl (lv_at hl 0 rfl) ?_
      refine lv_iload_n X.1 X.2.1 dX6_run_59 rfl (lv_at hl 2 rfl) ?_
      obtain ⟨v6, s2, hc, h⟩ := b2_inv h
      refine r_ci (va_runV (C := RX7) (As := [.int x3]) (rest := []) (cfX X) (c_X6_isMet_7 l hc) ⟨callB_of 1 X.2.2.2.2.1 (lw_meth q828) rfl rfl rfl (X.2.2.2.2.1 _ q55) (X.2.2.2.2.1 _ q825) yd_X6_isMet ⟨Nat.le_of_ble_eq_true rfl, Nat.le_of_ble_eq_true rfl⟩, X.2.2.2.2.1 _ q827, va_Nw.use rfl (X.2.2.2.2.2.1.2.2.2.2.2.2.2.2 _ (List.mem_of_getElem? (i := 0) rfl))⟩ (preV X hV (F_X6_isMet_7_g hc) rfl) rfl rfl hl.1 rfl (lv_room (Nat.le_of_ble_eq_true rfl)) dX6_run_60 ⟨(Nat.le_of_ble_eq_true rfl), (Nat.le_of_ble_eq_true rfl)⟩) hF (fun H locs hV hF => ?_)
      refine r_ifeq (tgt := 69) X.1 X.2.1 dX6_run_63 (by decide) h (fun h => ?_) (fun h => ?_)
      · refine lv_aload_n X.1 X.2.1 dX6_run_69 rfl (lv_at hl 1 rfl) ?_
        refine lv_iload_n X.1 X.2.1 dX6_run_70 rfl (lv_at hl 2 rfl) ?_
        refine lv_iconst (v := 1) X.1 X.2.1 dX6_run_71 (by decide) ?_
        refine lv_iadd X.1 X.2.1 dX6_run_72 ?_
        refine lv_aload_n X.1 X.2.1 dX6_run_73 rfl (lv_at hl 1 rfl) ?_
        refine lv_iload_n X.1 X.2.1 dX6_run_74 rfl (lv_at hl 2 rfl) ?_
        refine r_ia X hV dX6_run_75 h (fun v7 h => ?_)
        refine lv_aload_n X.1 X.2.1 dX6_run_76 rfl (lv_at hl 0 rfl) ?_
        refine lv_aload_n X.1 X.2.1 dX6_run_77 rfl (lv_at hl 0 rfl) ?_
        refine r_gR X hV fl_X6_15_7 (by decide) dX6_run_78 h (fun v8 h => ?_)
        refine lv_iload_n X.1 X.2.1 dX6_run_81 rfl (lv_at hl 2 rfl) ?_
        obtain ⟨v9, s3, hc, h⟩ := b2_inv h
        refine r_ci (va_runU (C := RX7) (x := ⟨"PalaceOfRooms$Orders", "more", "([II)I"⟩) (As := [.ref v8, .int x3]) (rest := [.int v7, .int (x3 + 1), .ref x2]) (cfX X) (c_X7_more l hc) (va_cwA (owner := RX6) 2 X.2.2.2.2.1 (lw_app (lw_in _ [829, 831, 836, 837, 56] (by decide +kernel) (by decide +kernel)) (lw_meth q838)) rfl rfl rfl (X.2.2.2.2.2.1.2.2.2.2.1 _ (List.mem_of_getElem? (i := 3) rfl)) (by decide +kernel) ⟨Nat.le_of_ble_eq_true rfl, Nat.le_of_ble_eq_true rfl⟩) (preV X hV (F_X7_more_g hc) rfl) rfl rfl hl.1 rfl (lv_room (Nat.le_of_ble_eq_true rfl)) dX6_run_82 ⟨(Nat.le_of_ble_eq_true rfl), (Nat.le_of_ble_eq_true rfl)⟩) hF (fun H locs hV hF => ?_)
        refine lv_iadd X.1 X.2.1 dX6_run_85 ?_
        refine r_is X hV hF dX6_run_86 h (fun s4 H locs hV hF h => ?_)
        refine lv_aload_n X.1 X.2.1 dX6_run_87 rfl (lv_at hl 1 rfl) ?_
        refine lv_iload_n X.1 X.2.1 dX6_run_88 rfl (lv_at hl 2 rfl) ?_
        refine lv_iconst (v := 1) X.1 X.2.1 dX6_run_89 (by decide) ?_
        refine lv_iadd X.1 X.2.1 dX6_run_90 ?_
        refine r_ia X hV dX6_run_91 h (fun v10 h => ?_)
        refine lv_aload_n X.1 X.2.1 dX6_run_92 rfl (lv_at hl 0 rfl) ?_
        refine r_gI X hV fl_X6_27_7 dX6_run_93 h (fun v11 h => ?_)
        refine r_lt (tgt := 102) X.1 X.2.1 dX6_run_96 (by decide) h (fun h => ?_) (fun h => ?_)
        · refine lv_iload_n X.1 X.2.1 dX6_run_102 rfl (lv_at hl 2 rfl) ?_
          refine lv_aload_n X.1 X.2.1 dX6_run_103 rfl (lv_at hl 0 rfl) ?_
          refine r_gI X hV fl_X6_22_7 dX6_run_104 h (fun v12 h => ?_)
          refine lv_iconst (v := 1) X.1 X.2.1 dX6_run_107 (by decide) ?_
          refine lv_isub X.1 X.2.1 dX6_run_108 ?_
          refine r_ne (tgt := 142) X.1 X.2.1 dX6_run_109 (by decide) h (fun h => ?_) (fun h => ?_)
          · refine lv_iinc (v := x3 + 1) (lv' := [(3, .int (x3 + 1)), (0, .ref x0), (2, .ref x2)]) X.1 X.2.1 dX6_run_142 hl (k := 2) rfl rfl (by decide) rfl (fun ls hl => ?_)
            refine lv_aload_n X.1 X.2.1 dX6_run_145 rfl (lv_at hl 1 rfl) ?_
            refine r_gR X hV fl_X6_15_7 (by decide) dX6_run_146 h (fun v13 h => ?_)
            refine lv_iload_n X.1 X.2.1 dX6_run_149 rfl (lv_at hl 0 rfl) ?_
            refine lv_iconst (v := (-1)) X.1 X.2.1 dX6_run_150 (by decide) ?_
            refine r_is X hV hF dX6_run_151 h (fun s5 H locs hV hF h => ?_)
            refine lv_goto (tgt := 25) X.1 X.2.1 dX6_run_152 (by decide) ?_
            exact hr25 (s5, x3 + 1) h _ _ _ hV hF (lv_sub hl [1, 2, 0] rfl)
          · refine lv_aload_n X.1 X.2.1 dX6_run_112 rfl (lv_at hl 0 rfl) ?_
            refine lv_aload_n X.1 X.2.1 dX6_run_113 rfl (lv_at hl 1 rfl) ?_
            refine lv_aload_n X.1 X.2.1 dX6_run_114 rfl (lv_at hl 0 rfl) ?_
            refine r_gI X hV fl_X6_22_7 dX6_run_115 h (fun v14 h => ?_)
            refine r_ia X hV dX6_run_118 h (fun v15 h => ?_)
            refine r_pI X hV hF fp_X6_27_7 (fun q => by cases q) dX6_run_119 h (fun s6 H locs hV hF h => ?_)
            refine lv_aload_n X.1 X.2.1 dX6_run_122 rfl (lv_at hl 0 rfl) ?_
            refine r_gR X hV fl_X6_15_7 (by decide) dX6_run_123 h (fun v16 h => ?_)
            refine lv_iconst (v := 0) X.1 X.2.1 dX6_run_126 (by decide) ?_
            refine lv_aload_n X.1 X.2.1 dX6_run_127 rfl (lv_at hl 0 rfl) ?_
            refine r_gR X hV fl_X6_19_7 (by decide) dX6_run_128 h (fun v17 h => ?_)
            refine lv_iconst (v := 0) X.1 X.2.1 dX6_run_131 (by decide) ?_
            refine lv_aload_n X.1 X.2.1 dX6_run_132 rfl (lv_at hl 0 rfl) ?_
            refine r_gI X hV fl_X6_22_7 dX6_run_133 h (fun v18 h => ?_)
            refine r_cpy X hV hF hl.1 q840 q800 q799 q76 (Nat.le_of_ble_eq_true rfl) (by decide) dX6_run_136 h (fun s7 H locs hV hF h => ?_)
            refine lv_goto (tgt := 25) X.1 X.2.1 dX6_run_139 (by decide) ?_
            exact hr25 (s7, x3) h _ _ _ hV hF (lv_sub hl [0, 1, 2] rfl)
        · refine lv_goto (tgt := 25) X.1 X.2.1 dX6_run_99 (by decide) ?_
          exact hr25 (s4, x3) h _ _ _ hV hF (lv_sub hl [0, 1, 2] rfl)
      · refine lv_goto (tgt := 25) X.1 X.2.1 dX6_run_66 (by decide) ?_
        exact hr25 (s2, x3) h _ _ _ hV hF (lv_sub hl [0, 1, 2] rfl)
    · refine lv_iinc (v := x3 + (-1)) (lv' := [(3, .int (x3 + (-1))), (0, .ref x0), (2, .ref x2)]) X.1 X.2.1 dX6_run_52 hl (k := 2) rfl rfl (by decide) rfl (fun ls hl => ?_)
      refine lv_goto (tgt := 25) X.1 X.2.1 dX6_run_55 (by decide) ?_
      exact hr25 (s1, x3 + (-1)) h _ _ _ hV hF (lv_sub hl [1, 2, 0] rfl)
set_option maxHeartbeats 4000000 in
theorem w_X6_run_7_25 {p : Program} {l : Launch} {e : Env} {s : State} {m : MethodId} {args : Array Value} {below : List Frame} {meth : Method} {c : Code} {g : Gl} (X : FX g p m c s args meth cX6_run 4 RX6 none "run") {r : Hp} {x0 : Nat} {x2 : Nat}  : ∀ (n : Nat) (st : Hp × Int32), L_X6_run_7_25 x0 x2 n st = some r → ∀ (H : Heap) (locs : List Loc) (ls : Array Slot), HV g st.1 H → FR g locs → lv_has ls 4 [(0, .ref x0), (2, .ref x2), (3, .int st.2)] → W p l e rm_X6_run_7 s m args below meth c H locs 1 9 (MQ below (Qv g r) args s 1 9 (frN g)) (F0 m 25 ls []) := by
  intro n
  induction n with
  | zero =>
    intro st h
    rw [L_X6_run_7_25_0] at h
    cases h
  | succ n ih =>
    intro st h H locs ls hV hF hl
    rw [L_X6_run_7_25_s] at h
    exact w_X6_run_7_25_b X  ih h hV hF hl
set_option maxHeartbeats 4000000 in
theorem c_X6_run_7 (l : Launch) {g : Gl} {σ : Hp} {x0 : Nat} {x1 : Int32} {r : Hp} (h : F_X6_run_7 σ x0 x1 = some r) : Met l yX6_run (ws_ yX6_run cX6_run 4 none) rm_X6_run_7 (va_Pc [.ref x0, .int x1] (WV g σ)) (Qv g r) 1 9 (frN g) := by
  refine ct_of (by decide) (Nat.le_of_ble_eq_true rfl) ?_
  intro p e s m below meth c ls X hV hl
  have hF : FR g [] := FR_nil
  unfold F_X6_run_7 at h
  have hl : lv_has ls 4 [(0, .ref x0), (1, .int x1)] := hl
  have X : FX g p m c s _ meth cX6_run 4 RX6 none "run" := X
  obtain ⟨-, h⟩ := gd_inv h
  refine lv_aload_n X.1 X.2.1 dX6_run_0 rfl (lv_at hl 0 rfl) ?_
  refine lv_iload_n X.1 X.2.1 dX6_run_1 rfl (lv_at hl 1 rfl) ?_
  refine r_pI X hV hF fp_X6_22_7 (fun q => by cases q) dX6_run_2 h (fun s1 H locs hV hF h => ?_)
  refine lv_aload_n X.1 X.2.1 dX6_run_5 rfl (lv_at hl 0 rfl) ?_
  refine lv_ldc (v := 268435456) X.1 X.2.1 X.2.2.2.1 (X.2.2.2.2.1 _ q824) dX6_run_6 ?_
  refine r_pI X hV hF fp_X6_27_7 (fun q => by cases q) dX6_run_8 h (fun s2 H locs hV hF h => ?_)
  refine lv_bipush (v := 9) X.1 X.2.1 dX6_run_11 (by decide) ?_
  refine r_newa (t := 0) (N := 9) X hV (by decide) rfl rfl q131 (by decide) (by decide) (by decide) (Nat.le_of_ble_eq_true rfl) (Nat.le_of_ble_eq_true rfl) dX6_run_13 (fun H hV => ?_)
  refine lv_astore_n (lv' := [(2, .ref (hZ s2)), (0, .ref x0), (1, .int x1)]) X.1 X.2.1 dX6_run_15 rfl hl (by decide) rfl (fun ls hl => ?_)
  refine lv_iconst (v := 0) X.1 X.2.1 dX6_run_16 (by decide) ?_
  refine lv_istore_n (lv' := [(3, .int 0), (2, .ref (hZ s2)), (0, .ref x0), (1, .int x1)]) X.1 X.2.1 dX6_run_17 rfl hl (by decide) rfl (fun ls hl => ?_)
  refine lv_aload_n X.1 X.2.1 dX6_run_18 rfl (lv_at hl 2 rfl) ?_
  refine r_gR X hV fl_X6_15_7 (by decide) dX6_run_19 h (fun v1 h => ?_)
  refine lv_iconst (v := 0) X.1 X.2.1 dX6_run_22 (by decide) ?_
  refine lv_iconst (v := (-1)) X.1 X.2.1 dX6_run_23 (by decide) ?_
  refine r_is X hV hF dX6_run_24 h (fun s3 H locs hV hF h => ?_)
  exact w_X6_run_7_25 X  FU (s3, 0) h _ _ _ hV hF (lv_sub hl [2, 1, 0] rfl)
/-! PalaceOfRooms.told for classes {1: 7} -/
theorem dX0_told_0 : decode cX0_told 0 = .ok (.aload_n 1, 1) := by decide +kernel
theorem dX0_told_1 : decode cX0_told 1 = .ok (.iload_n 2, 1) := by decide +kernel
theorem dX0_told_2 : decode cX0_told 2 = .ok (.invokevirtual 241, 3) := by decide +kernel
theorem dX0_told_5 : decode cX0_told 5 = .ok (.iload_n 3, 1) := by decide +kernel
theorem dX0_told_6 : decode cX0_told 6 = .ok (.iconst (-1), 1) := by decide +kernel
theorem dX0_told_7 : decode cX0_told 7 = .ok (.if_icmp .ne 10, 3) := by decide +kernel
theorem dX0_told_10 : decode cX0_told 10 = .ok (.aload_n 1, 1) := by decide +kernel
theorem dX0_told_11 : decode cX0_told 11 = .ok (.getfield 247, 3) := by decide +kernel
theorem dX0_told_14 : decode cX0_told 14 = .ok (.goto 23, 3) := by decide +kernel
theorem dX0_told_17 : decode cX0_told 17 = .ok (.iload_n 3, 1) := by decide +kernel
theorem dX0_told_18 : decode cX0_told 18 = .ok (.iload_n 2, 1) := by decide +kernel
theorem dX0_told_19 : decode cX0_told 19 = .ok (.if_icmp .ge 17, 3) := by decide +kernel
theorem dX0_told_22 : decode cX0_told 22 = .ok (.aload_n 0, 1) := by decide +kernel
theorem dX0_told_23 : decode cX0_told 23 = .ok (.getfield 70, 3) := by decide +kernel
theorem dX0_told_26 : decode cX0_told 26 = .ok (.aload_n 1, 1) := by decide +kernel
theorem dX0_told_27 : decode cX0_told 27 = .ok (.getfield 250, 3) := by decide +kernel
theorem dX0_told_30 : decode cX0_told 30 = .ok (.iload_n 3, 1) := by decide +kernel
theorem dX0_told_31 : decode cX0_told 31 = .ok (.iaload, 1) := by decide +kernel
theorem dX0_told_32 : decode cX0_told 32 = .ok (.iaload, 1) := by decide +kernel
theorem dX0_told_33 : decode cX0_told 33 = .ok (.goto 4, 3) := by decide +kernel
theorem dX0_told_36 : decode cX0_told 36 = .ok (.iconst (-1), 1) := by decide +kernel
theorem dX0_told_37 : decode cX0_told 37 = .ok (.ireturn, 1) := by decide +kernel
theorem yd_X0_told : yX0_told.cls ≠ "java/lang/invoke/MethodHandle" ∧ yX0_told.cls ≠ "java/lang/invoke/VarHandle" ∧ (parseMethodDescriptor yX0_told.desc).map (fun d => d.parameters.length) = some 3 := by decide +kernel
theorem fl_X0_250_7 : FLk RX0 250 7 1 "[I" := ⟨RX7, TX7, 6, "PalaceOfRooms$Orders", rfl, by decide, (fun q => by have h1 := q.1; have h2 := q.2; omega), rfl, in_X7, Or.inr (List.mem_of_getElem? (i := 6) rfl), Or.inl rfl⟩
theorem fl_X0_247_7 : FLk RX0 247 7 3 "I" := ⟨RX7, TX7, 6, "PalaceOfRooms$Orders", rfl, by decide, (fun q => by have h1 := q.1; have h2 := q.2; omega), rfl, in_X7, Or.inr (List.mem_of_getElem? (i := 7) rfl), Or.inl rfl⟩
abbrev rm_X0_told_7 : Room := { frames := 4, cells := 1, slots := 9, locals := 87 }
set_option maxHeartbeats 4000000 in
theorem c_X0_told_7 (l : Launch) {g : Gl} {σ : Hp} {x0 : Nat} {x1 : Nat} {x2 : Int32} {x3 : Int32} {r : Int32 × Hp} (h : F_X0_told_7 σ x0 x1 x2 x3 = some r) : Met l yX0_told (ws_ yX0_told cX0_told 4 (some .int)) rm_X0_told_7 (va_Pc [.ref x0, .ref x1, .int x2, .int x3] (WV g σ)) (Qi g r) 1 9 (frN g) := by
  refine ct_of (by decide) (Nat.le_of_ble_eq_true rfl) ?_
  intro p e s m below meth c ls X hV hl
  have hF : FR g [] := FR_nil
  unfold F_X0_told_7 at h
  have hl : lv_has ls 4 [(0, .ref x0), (1, .ref x1), (2, .int x2), (3, .int x3)] := hl
  have X : FX g p m c s _ meth cX0_told 4 RX0 (some .int) "told" := X
  obtain ⟨-, h⟩ := gd_inv h
  refine lv_aload_n X.1 X.2.1 dX0_told_0 rfl (lv_at hl 1 rfl) ?_
  refine lv_iload_n X.1 X.2.1 dX0_told_1 rfl (lv_at hl 2 rfl) ?_
  obtain ⟨s1, hc, h⟩ := b1_inv h
  refine r_cv (va_runU (C := RX7) (x := ⟨"PalaceOfRooms$Orders", "run", "(I)V"⟩) (As := [.int x2]) (rest := []) (cfX X) (c_X6_run_7 l hc) (va_cwU (owner := RX6) 1 X.2.2.2.2.1 (lw_app (lw_in _ [818, 820, 822, 819, 55] (by decide +kernel) (by decide +kernel)) (lw_meth q823)) rfl rfl rfl rfl yd_X6_run ⟨Nat.le_of_ble_eq_true rfl, Nat.le_of_ble_eq_true rfl⟩) (preV X hV (F_X6_run_7_g hc) rfl) rfl rfl hl.1 rfl (lv_room (Nat.le_of_ble_eq_true rfl)) dX0_told_2 ⟨(Nat.le_of_ble_eq_true rfl), (Nat.le_of_ble_eq_true rfl)⟩) hF (fun H locs hV hF => ?_)
  refine lv_iload_n X.1 X.2.1 dX0_told_5 rfl (lv_at hl 3 rfl) ?_
  refine lv_iconst (v := (-1)) X.1 X.2.1 dX0_told_6 (by decide) ?_
  refine r_ne (tgt := 17) X.1 X.2.1 dX0_told_7 (by decide) h (fun h => ?_) (fun h => ?_)
  · refine lv_iload_n X.1 X.2.1 dX0_told_17 rfl (lv_at hl 3 rfl) ?_
    refine lv_iload_n X.1 X.2.1 dX0_told_18 rfl (lv_at hl 2 rfl) ?_
    refine r_ge (tgt := 36) X.1 X.2.1 dX0_told_19 (by decide) h (fun h => ?_) (fun h => ?_)
    · refine lv_iconst (v := (-1)) X.1 X.2.1 dX0_told_36 (by decide) ?_
      exact r_iret X hV hF h dX0_told_37
    · refine lv_aload_n X.1 X.2.1 dX0_told_22 rfl (lv_at hl 0 rfl) ?_
      refine r_gR X hV fl_X0_70_0 (by decide) dX0_told_23 h (fun v2 h => ?_)
      refine lv_aload_n X.1 X.2.1 dX0_told_26 rfl (lv_at hl 1 rfl) ?_
      refine r_gR X hV fl_X0_250_7 (by decide) dX0_told_27 h (fun v3 h => ?_)
      refine lv_iload_n X.1 X.2.1 dX0_told_30 rfl (lv_at hl 3 rfl) ?_
      refine r_ia X hV dX0_told_31 h (fun v4 h => ?_)
      refine r_ia X hV dX0_told_32 h (fun v5 h => ?_)
      refine lv_goto (tgt := 37) X.1 X.2.1 dX0_told_33 (by decide) ?_
      exact r_iret X hV hF h dX0_told_37
  · refine lv_aload_n X.1 X.2.1 dX0_told_10 rfl (lv_at hl 1 rfl) ?_
    refine r_gI X hV fl_X0_247_7 dX0_told_11 h (fun v6 h => ?_)
    refine lv_goto (tgt := 37) X.1 X.2.1 dX0_told_14 (by decide) ?_
    exact r_iret X hV hF h dX0_told_37
/-! PalaceOfRooms.laid -/
theorem dX0_laid_0 : decode cX0_laid 0 = .ok (.aload_n 0, 1) := by decide +kernel
theorem dX0_laid_1 : decode cX0_laid 1 = .ok (.lload_n 1, 1) := by decide +kernel
theorem dX0_laid_2 : decode cX0_laid 2 = .ok (.iload_n 3, 1) := by decide +kernel
theorem dX0_laid_3 : decode cX0_laid 3 = .ok (.iconst 1, 1) := by decide +kernel
theorem dX0_laid_4 : decode cX0_laid 4 = .ok (.bipush 8, 2) := by decide +kernel
theorem dX0_laid_6 : decode cX0_laid 6 = .ok (.iload 4, 2) := by decide +kernel
theorem dX0_laid_8 : decode cX0_laid 8 = .ok (.invokevirtual 253, 3) := by decide +kernel
theorem dX0_laid_11 : decode cX0_laid 11 = .ok (.istore 5, 2) := by decide +kernel
theorem dX0_laid_13 : decode cX0_laid 13 = .ok (.iload 5, 2) := by decide +kernel
theorem dX0_laid_15 : decode cX0_laid 15 = .ok (.ifCond .eq 6, 3) := by decide +kernel
theorem dX0_laid_18 : decode cX0_laid 18 = .ok (.iload 5, 2) := by decide +kernel
theorem dX0_laid_20 : decode cX0_laid 20 = .ok (.ireturn, 1) := by decide +kernel
theorem dX0_laid_21 : decode cX0_laid 21 = .ok (.aload_n 0, 1) := by decide +kernel
theorem dX0_laid_22 : decode cX0_laid 22 = .ok (.getfield 70, 3) := by decide +kernel
theorem dX0_laid_25 : decode cX0_laid 25 = .ok (.iconst 0, 1) := by decide +kernel
theorem dX0_laid_26 : decode cX0_laid 26 = .ok (.iload_n 3, 1) := by decide +kernel
theorem dX0_laid_27 : decode cX0_laid 27 = .ok (.invokestatic 257, 3) := by decide +kernel
theorem dX0_laid_30 : decode cX0_laid 30 = .ok (.aload_n 0, 1) := by decide +kernel
theorem dX0_laid_31 : decode cX0_laid 31 = .ok (.aload_n 0, 1) := by decide +kernel
theorem dX0_laid_32 : decode cX0_laid 32 = .ok (.getfield 81, 3) := by decide +kernel
theorem dX0_laid_35 : decode cX0_laid 35 = .ok (.iload_n 3, 1) := by decide +kernel
theorem dX0_laid_36 : decode cX0_laid 36 = .ok (.iload 4, 2) := by decide +kernel
theorem dX0_laid_38 : decode cX0_laid 38 = .ok (.invokevirtual 263, 3) := by decide +kernel
theorem dX0_laid_41 : decode cX0_laid 41 = .ok (.ireturn, 1) := by decide +kernel
theorem yd_X0_laid : yX0_laid.cls ≠ "java/lang/invoke/MethodHandle" ∧ yX0_laid.cls ≠ "java/lang/invoke/VarHandle" ∧ (parseMethodDescriptor yX0_laid.desc).map (fun d => d.parameters.length) = some 3 := by decide +kernel
theorem fl_X0_81_0 : FLk RX0 81 0 17 "LPalaceOfRooms$Laid;" := ⟨RX0, TX0, 22, "PalaceOfRooms", rfl, by decide, (fun q => by have h1 := q.1; have h2 := q.2; omega), rfl, in_X0, Or.inl q273, Or.inl rfl⟩
abbrev rm_X0_laid : Room := { frames := 5, cells := 1, slots := 9, locals := 113 }
set_option maxHeartbeats 4000000 in
theorem c_X0_laid (l : Launch) {g : Gl} {σ : Hp} {x0 : Nat} {x1 : Int64} {x3 : Int32} {x4 : Int32} {r : Int32 × Hp} (h : F_X0_laid σ x0 x1 x3 x4 = some r) : Met l yX0_laid (ws_ yX0_laid cX0_laid 6 (some .int)) rm_X0_laid (va_Pc [.ref x0, .long x1, .int x3, .int x4] (WV g σ)) (Qi g r) 1 9 (frN g) := by
  refine ct_of (by decide) (Nat.le_of_ble_eq_true rfl) ?_
  intro p e s m below meth c ls X hV hl
  have hF : FR g [] := FR_nil
  unfold F_X0_laid at h
  have hl : lv_has ls 6 [(0, .ref x0), (1, .long x1), (3, .int x3), (4, .int x4)] := hl
  have X : FX g p m c s _ meth cX0_laid 6 RX0 (some .int) "laid" := X
  obtain ⟨-, h⟩ := gd_inv h
  refine lv_aload_n X.1 X.2.1 dX0_laid_0 rfl (lv_at hl 0 rfl) ?_
  refine lv_lload_n X.1 X.2.1 dX0_laid_1 rfl (lv_at hl 1 rfl) ?_
  refine lv_iload_n X.1 X.2.1 dX0_laid_2 rfl (lv_at hl 2 rfl) ?_
  refine lv_iconst (v := 1) X.1 X.2.1 dX0_laid_3 (by decide) ?_
  refine lv_bipush (v := 8) X.1 X.2.1 dX0_laid_4 (by decide) ?_
  refine lv_iload X.1 X.2.1 dX0_laid_6 (lv_at hl 3 rfl) ?_
  obtain ⟨v1, s1, hc, h⟩ := b2_inv h
  refine r_ci (va_runV (C := RX0) (As := [.long x1, .int x3, .int 1, .int 8, .int x4]) (rest := []) (cfX X) (c_X0_layHand l hc) (cwV 5 X.2.2.2.2.1 (lw_V q759 q761 qs15 q49 q762) rfl rfl rfl ⟨rfl, yd_X0_layHand⟩ ⟨Nat.le_of_ble_eq_true rfl, Nat.le_of_ble_eq_true rfl⟩) (preV X hV (F_X0_layHand_g hc) rfl) rfl rfl hl.1 rfl (lv_room (Nat.le_of_ble_eq_true rfl)) dX0_laid_8 ⟨(Nat.le_of_ble_eq_true rfl), (Nat.le_of_ble_eq_true rfl)⟩) hF (fun H locs hV hF => ?_)
  refine lv_istore (lv' := [(5, .int v1), (0, .ref x0), (1, .long x1), (3, .int x3), (4, .int x4)]) X.1 X.2.1 dX0_laid_11 hl (by decide) rfl (fun ls hl => ?_)
  refine lv_iload X.1 X.2.1 dX0_laid_13 (lv_at hl 0 rfl) ?_
  refine r_ifeq (tgt := 21) X.1 X.2.1 dX0_laid_15 (by decide) h (fun h => ?_) (fun h => ?_)
  · refine lv_aload_n X.1 X.2.1 dX0_laid_21 rfl (lv_at hl 1 rfl) ?_
    refine r_gR X hV fl_X0_70_0 (by decide) dX0_laid_22 h (fun v2 h => ?_)
    refine lv_iconst (v := 0) X.1 X.2.1 dX0_laid_25 (by decide) ?_
    refine lv_iload_n X.1 X.2.1 dX0_laid_26 rfl (lv_at hl 3 rfl) ?_
    obtain ⟨s2, hc, h⟩ := b1_inv h
    refine r_cv (va_runS (As := [.ref v2, .int 0, .int x3]) (rest := []) (cfX X) (c_J8_sort l hc) (va_cwS 3 X.2.2.2.2.1 (lw_S q764 q765 q74 q766) rfl rfl rfl yd_J8_sort ⟨Nat.le_of_ble_eq_true rfl, Nat.le_of_ble_eq_true rfl⟩) (preS X hV) rfl rfl hl.1 rfl (lv_room (Nat.le_of_ble_eq_true rfl)) dX0_laid_27 ⟨(Nat.le_of_ble_eq_true rfl), (Nat.le_of_ble_eq_true rfl)⟩) hF (fun H locs hV hF => ?_)
    refine lv_aload_n X.1 X.2.1 dX0_laid_30 rfl (lv_at hl 1 rfl) ?_
    refine lv_aload_n X.1 X.2.1 dX0_laid_31 rfl (lv_at hl 1 rfl) ?_
    refine r_gR X hV fl_X0_81_0 (by decide) dX0_laid_32 h (fun v4 h => ?_)
    refine lv_iload_n X.1 X.2.1 dX0_laid_35 rfl (lv_at hl 3 rfl) ?_
    refine lv_iload X.1 X.2.1 dX0_laid_36 (lv_at hl 4 rfl) ?_
    obtain ⟨v5, s3, hc, h⟩ := b2_inv h
    refine r_ci (va_runV (C := RX0) (As := [.ref v4, .int x3, .int x4]) (rest := []) (cfX X) (c_X0_told_7 l hc) (cwV 3 X.2.2.2.2.1 (lw_V q814 q816 qs16 q49 q817) rfl rfl rfl ⟨rfl, yd_X0_told⟩ ⟨Nat.le_of_ble_eq_true rfl, Nat.le_of_ble_eq_true rfl⟩) (preV X hV (F_X0_told_7_g hc) rfl) rfl rfl hl.1 rfl (lv_room (Nat.le_of_ble_eq_true rfl)) dX0_laid_38 ⟨(Nat.le_of_ble_eq_true rfl), (Nat.le_of_ble_eq_true rfl)⟩) hF (fun H locs hV hF => ?_)
    exact r_iret X hV hF h dX0_laid_41
  · refine lv_iload X.1 X.2.1 dX0_laid_18 (lv_at hl 0 rfl) ?_
    refine W.widen (k := 1) (n := 9) (Nat.le_of_ble_eq_true rfl) (Nat.le_of_ble_eq_true rfl) ?_
    exact r_iret X hV hF h dX0_laid_20
/-! PalaceOfRooms$Orders.isMet for classes {0: 8} -/
theorem fl_X6_15_8 : FLk RX6 15 8 0 "[I" := ⟨RX8, TX8, 6, "PalaceOfRooms$Orders", rfl, by decide, (fun q => by have h1 := q.1; have h2 := q.2; omega), rfl, in_X8, Or.inl q194, Or.inl rfl⟩
abbrev rm_X6_isMet_8 : Room := { frames := 0, cells := 0, slots := 0, locals := 0 }
set_option maxHeartbeats 4000000 in
theorem w_X6_isMet_8_4_b {p : Program} {l : Launch} {e : Env} {s : State} {m : MethodId} {args : Array Value} {below : List Frame} {meth : Method} {c : Code} {g : Gl} (X : FX g p m c s args meth cX6_isMet 4 RX6 (some .boolean) "isMet") {r : Int32 × Hp} {rec4 : Int32 × Int32 → Option (Int32 × Hp)} {σ : Hp} {x0 : Nat} {x1 : Int32} {x2 : Int32} {x3 : Int32} (hr4 : ∀ (st : Int32 × Int32), rec4 st = some r → ∀ (H : Heap) (locs : List Loc) (ls : Array Slot), HV g σ H → FR g locs → lv_has ls 4 [(0, .ref x0), (1, .int x1), (2, .int st.1), (3, .int st.2)] → W p l e rm_X6_isMet_8 s m args below meth c H locs 0 0 (MQ below (Qi g r) args s 0 0 (frN g)) (F0 m 4 ls [])) {H : Heap} {locs : List Loc} {ls : Array Slot} (h : B_X6_isMet_8_4 σ x0 x1 rec4 x2 x3 = some r) (hV : HV g σ H) (hF : FR g locs) (hl : lv_has ls 4 [(0, .ref x0), (1, .int x1), (2, .int x2), (3, .int x3)]) : W p l e rm_X6_isMet_8 s m args below meth c H locs 0 0 (MQ below (Qi g r) args s 0 0 (frN g)) (F0 m 4 ls []) := by
  unfold B_X6_isMet_8_4 at h
  refine lv_iload_n X.1 X.2.1 dX6_isMet_4 rfl (lv_at hl 3 rfl) ?_
  refine lv_iload_n X.1 X.2.1 dX6_isMet_5 rfl (lv_at hl 1 rfl) ?_
  refine r_ge (tgt := 40) X.1 X.2.1 dX6_isMet_6 (by decide) h (fun h => ?_) (fun h => ?_)
  · refine lv_iload_n X.1 X.2.1 dX6_isMet_40 rfl (lv_at hl 2 rfl) ?_
    exact r_zrv X hV hF h dX6_isMet_41
  · refine lv_iload_n X.1 X.2.1 dX6_isMet_9 rfl (lv_at hl 2 rfl) ?_
    refine r_ifne (tgt := 28) X.1 X.2.1 dX6_isMet_10 (by decide) h (fun h => ?_) (fun h => ?_)
    · refine lv_iconst (v := 1) X.1 X.2.1 dX6_isMet_28 (by decide) ?_
      refine lv_goto (tgt := 33) X.1 X.2.1 dX6_isMet_29 (by decide) ?_
      refine lv_istore_n (lv' := [(2, .int 1), (0, .ref x0), (1, .int x1), (3, .int x3)]) X.1 X.2.1 dX6_isMet_33 rfl hl (by decide) rfl (fun ls hl => ?_)
      refine lv_iinc (v := x3 + 1) (lv' := [(3, .int (x3 + 1)), (2, .int 1), (0, .ref x0), (1, .int x1)]) X.1 X.2.1 dX6_isMet_34 hl (k := 3) rfl rfl (by decide) rfl (fun ls hl => ?_)
      refine lv_goto (tgt := 4) X.1 X.2.1 dX6_isMet_37 (by decide) ?_
      exact hr4 (1, x3 + 1) h _ _ _ hV hF (lv_sub hl [2, 3, 1, 0] rfl)
    · refine lv_aload_n X.1 X.2.1 dX6_isMet_13 rfl (lv_at hl 0 rfl) ?_
      refine r_gR X hV fl_X6_15_8 (by decide) dX6_isMet_14 h (fun v1 h => ?_)
      refine lv_iload_n X.1 X.2.1 dX6_isMet_17 rfl (lv_at hl 3 rfl) ?_
      refine r_ia X hV dX6_isMet_18 h (fun v2 h => ?_)
      refine lv_aload_n X.1 X.2.1 dX6_isMet_19 rfl (lv_at hl 0 rfl) ?_
      refine r_gR X hV fl_X6_15_8 (by decide) dX6_isMet_20 h (fun v3 h => ?_)
      refine lv_iload_n X.1 X.2.1 dX6_isMet_23 rfl (lv_at hl 1 rfl) ?_
      refine r_ia X hV dX6_isMet_24 h (fun v4 h => ?_)
      refine r_ne (tgt := 32) X.1 X.2.1 dX6_isMet_25 (by decide) h (fun h => ?_) (fun h => ?_)
      · refine lv_iconst (v := 0) X.1 X.2.1 dX6_isMet_32 (by decide) ?_
        refine lv_istore_n (lv' := [(2, .int 0), (0, .ref x0), (1, .int x1), (3, .int x3)]) X.1 X.2.1 dX6_isMet_33 rfl hl (by decide) rfl (fun ls hl => ?_)
        refine lv_iinc (v := x3 + 1) (lv' := [(3, .int (x3 + 1)), (2, .int 0), (0, .ref x0), (1, .int x1)]) X.1 X.2.1 dX6_isMet_34 hl (k := 3) rfl rfl (by decide) rfl (fun ls hl => ?_)
        refine lv_goto (tgt := 4) X.1 X.2.1 dX6_isMet_37 (by decide) ?_
        exact hr4 (0, x3 + 1) h _ _ _ hV hF (lv_sub hl [2, 3, 1, 0] rfl)
      · refine lv_iconst (v := 1) X.1 X.2.1 dX6_isMet_28 (by decide) ?_
        refine lv_goto (tgt := 33) X.1 X.2.1 dX6_isMet_29 (by decide) ?_
        refine lv_istore_n (lv' := [(2, .int 1), (0, .ref x0), (1, .int x1), (3, .int x3)]) X.1 X.2.1 dX6_isMet_33 rfl hl (by decide) rfl (fun ls hl => ?_)
        refine lv_iinc (v := x3 + 1) (lv' := [(3, .int (x3 + 1)), (2, .int 1), (0, .ref x0), (1, .int x1)]) X.1 X.2.1 dX6_isMet_34 hl (k := 3) rfl rfl (by decide) rfl (fun ls hl => ?_)
        refine lv_goto (tgt := 4) X.1 X.2.1 dX6_isMet_37 (by decide) ?_
        exact hr4 (1, x3 + 1) h _ _ _ hV hF (lv_sub hl [2, 3, 1, 0] rfl)
set_option maxHeartbeats 4000000 in
theorem w_X6_isMet_8_4 {p : Program} {l : Launch} {e : Env} {s : State} {m : MethodId} {args : Array Value} {below : List Frame} {meth : Method} {c : Code} {g : Gl} (X : FX g p m c s args meth cX6_isMet 4 RX6 (some .boolean) "isMet") {r : Int32 × Hp} {σ : Hp} {x0 : Nat} {x1 : Int32}  : ∀ (n : Nat) (st : Int32 × Int32), L_X6_isMet_8_4 σ x0 x1 n st = some r → ∀ (H : Heap) (locs : List Loc) (ls : Array Slot), HV g σ H → FR g locs → lv_has ls 4 [(0, .ref x0), (1, .int x1), (2, .int st.1), (3, .int st.2)] → W p l e rm_X6_isMet_8 s m args below meth c H locs 0 0 (MQ below (Qi g r) args s 0 0 (frN g)) (F0 m 4 ls []) := by
  intro n
  induction n with
  | zero =>
    intro st h
    rw [L_X6_isMet_8_4_0] at h
    cases h
  | succ n ih =>
    intro st h H locs ls hV hF hl
    rw [L_X6_isMet_8_4_s] at h
    exact w_X6_isMet_8_4_b X  ih h hV hF hl
set_option maxHeartbeats 4000000 in
theorem c_X6_isMet_8 (l : Launch) {g : Gl} {σ : Hp} {x0 : Nat} {x1 : Int32} {r : Int32 × Hp} (h : F_X6_isMet_8 σ x0 x1 = some r) : Met l yX6_isMet (ws_ yX6_isMet cX6_isMet 4 (some .boolean)) rm_X6_isMet_8 (va_Pc [.ref x0, .int x1] (WV g σ)) (Qi g r) 0 0 (frN g) := by
  refine ct_of (by decide) (Nat.le_of_ble_eq_true rfl) ?_
  intro p e s m below meth c ls X hV hl
  have hF : FR g [] := FR_nil
  unfold F_X6_isMet_8 at h
  have hl : lv_has ls 4 [(0, .ref x0), (1, .int x1)] := hl
  have X : FX g p m c s _ meth cX6_isMet 4 RX6 (some .boolean) "isMet" := X
  obtain ⟨-, h⟩ := gd_inv h
  refine lv_iconst (v := 0) X.1 X.2.1 dX6_isMet_0 (by decide) ?_
  refine lv_istore_n (lv' := [(2, .int 0), (0, .ref x0), (1, .int x1)]) X.1 X.2.1 dX6_isMet_1 rfl hl (by decide) rfl (fun ls hl => ?_)
  refine lv_iconst (v := 0) X.1 X.2.1 dX6_isMet_2 (by decide) ?_
  refine lv_istore_n (lv' := [(3, .int 0), (2, .int 0), (0, .ref x0), (1, .int x1)]) X.1 X.2.1 dX6_isMet_3 rfl hl (by decide) rfl (fun ls hl => ?_)
  exact w_X6_isMet_8_4 X  FU (0, 0) h _ _ _ hV hF (lv_sub hl [2, 3, 1, 0] rfl)
/-! PalaceOfRooms$Code.more -/
theorem dX8_more_0 : decode cX8_more 0 = .ok (.iconst 0, 1) := by decide +kernel
theorem dX8_more_1 : decode cX8_more 1 = .ok (.istore_n 3, 1) := by decide +kernel
theorem dX8_more_2 : decode cX8_more 2 = .ok (.iconst 0, 1) := by decide +kernel
theorem dX8_more_3 : decode cX8_more 3 = .ok (.istore 4, 2) := by decide +kernel
theorem dX8_more_5 : decode cX8_more 5 = .ok (.iload 4, 2) := by decide +kernel
theorem dX8_more_7 : decode cX8_more 7 = .ok (.iload_n 2, 1) := by decide +kernel
theorem dX8_more_8 : decode cX8_more 8 = .ok (.if_icmp .ge 55, 3) := by decide +kernel
theorem dX8_more_11 : decode cX8_more 11 = .ok (.iload_n 3, 1) := by decide +kernel
theorem dX8_more_12 : decode cX8_more 12 = .ok (.aload_n 0, 1) := by decide +kernel
theorem dX8_more_13 : decode cX8_more 13 = .ok (.getfield 1, 3) := by decide +kernel
theorem dX8_more_16 : decode cX8_more 16 = .ok (.getfield 13, 3) := by decide +kernel
theorem dX8_more_19 : decode cX8_more 19 = .ok (.iload 4, 2) := by decide +kernel
theorem dX8_more_21 : decode cX8_more 21 = .ok (.aaload, 1) := by decide +kernel
theorem dX8_more_22 : decode cX8_more 22 = .ok (.iload_n 2, 1) := by decide +kernel
theorem dX8_more_23 : decode cX8_more 23 = .ok (.iaload, 1) := by decide +kernel
theorem dX8_more_24 : decode cX8_more 24 = .ok (.aload_n 0, 1) := by decide +kernel
theorem dX8_more_25 : decode cX8_more 25 = .ok (.getfield 1, 3) := by decide +kernel
theorem dX8_more_28 : decode cX8_more 28 = .ok (.aload_n 0, 1) := by decide +kernel
theorem dX8_more_29 : decode cX8_more 29 = .ok (.getfield 1, 3) := by decide +kernel
theorem dX8_more_32 : decode cX8_more 32 = .ok (.getfield 19, 3) := by decide +kernel
theorem dX8_more_35 : decode cX8_more 35 = .ok (.aload_n 1, 1) := by decide +kernel
theorem dX8_more_36 : decode cX8_more 36 = .ok (.iload 4, 2) := by decide +kernel
theorem dX8_more_38 : decode cX8_more 38 = .ok (.iaload, 1) := by decide +kernel
theorem dX8_more_39 : decode cX8_more 39 = .ok (.iaload, 1) := by decide +kernel
theorem dX8_more_40 : decode cX8_more 40 = .ok (.aload_n 0, 1) := by decide +kernel
theorem dX8_more_41 : decode cX8_more 41 = .ok (.getfield 1, 3) := by decide +kernel
theorem dX8_more_44 : decode cX8_more 44 = .ok (.getfield 19, 3) := by decide +kernel
theorem dX8_more_47 : decode cX8_more 47 = .ok (.aload_n 1, 1) := by decide +kernel
theorem dX8_more_48 : decode cX8_more 48 = .ok (.iload_n 2, 1) := by decide +kernel
theorem dX8_more_49 : decode cX8_more 49 = .ok (.iaload, 1) := by decide +kernel
theorem dX8_more_50 : decode cX8_more 50 = .ok (.iaload, 1) := by decide +kernel
theorem dX8_more_51 : decode cX8_more 51 = .ok (.invokevirtual 23, 3) := by decide +kernel
theorem dX8_more_54 : decode cX8_more 54 = .ok (.imul, 1) := by decide +kernel
theorem dX8_more_55 : decode cX8_more 55 = .ok (.iadd, 1) := by decide +kernel
theorem dX8_more_56 : decode cX8_more 56 = .ok (.istore_n 3, 1) := by decide +kernel
theorem dX8_more_57 : decode cX8_more 57 = .ok (.iinc 4 1, 3) := by decide +kernel
theorem dX8_more_60 : decode cX8_more 60 = .ok (.goto (-55), 3) := by decide +kernel
theorem dX8_more_63 : decode cX8_more 63 = .ok (.iload_n 3, 1) := by decide +kernel
theorem dX8_more_64 : decode cX8_more 64 = .ok (.ireturn, 1) := by decide +kernel
theorem yd_X8_more : yX8_more.cls ≠ "java/lang/invoke/MethodHandle" ∧ yX8_more.cls ≠ "java/lang/invoke/VarHandle" ∧ (parseMethodDescriptor yX8_more.desc).map (fun d => d.parameters.length) = some 2 := by decide +kernel
theorem fl_X8_1_8 : FLk RX8 1 8 5 "LPalaceOfRooms;" := ⟨RX8, TX8, 6, "PalaceOfRooms$Code", rfl, by decide, (fun q => by have h1 := q.1; have h2 := q.2; omega), rfl, in_X8, Or.inl q220, Or.inl rfl⟩
theorem fl_X8_13_0 : FLk RX8 13 0 16 "[[I" := ⟨RX0, TX0, 22, "PalaceOfRooms", rfl, by decide, (fun q => by have h1 := q.1; have h2 := q.2; omega), rfl, in_X0, Or.inr (List.mem_of_getElem? (i := 17) rfl), Or.inl rfl⟩
theorem fl_X8_19_0 : FLk RX8 19 0 15 "[I" := ⟨RX0, TX0, 22, "PalaceOfRooms", rfl, by decide, (fun q => by have h1 := q.1; have h2 := q.2; omega), rfl, in_X0, Or.inr (List.mem_of_getElem? (i := 16) rfl), Or.inl rfl⟩
abbrev rm_X8_more : Room := { frames := 2, cells := 0, slots := 0, locals := 42 }
set_option maxHeartbeats 4000000 in
theorem w_X8_more_5_b {p : Program} {l : Launch} {e : Env} {s : State} {m : MethodId} {args : Array Value} {below : List Frame} {meth : Method} {c : Code} {g : Gl} (X : FX g p m c s args meth cX8_more 5 RX8 (some .int) "more") {r : Int32 × Hp} {rec5 : Hp × Int32 × Int32 → Option (Int32 × Hp)} {x0 : Nat} {x1 : Nat} {x2 : Int32} {σ : Hp} {x3 : Int32} {x4 : Int32} (hr5 : ∀ (st : Hp × Int32 × Int32), rec5 st = some r → ∀ (H : Heap) (locs : List Loc) (ls : Array Slot), HV g st.1 H → FR g locs → lv_has ls 5 [(0, .ref x0), (1, .ref x1), (2, .int x2), (3, .int st.2.1), (4, .int st.2.2)] → W p l e rm_X8_more s m args below meth c H locs 0 0 (MQ below (Qi g r) args s 0 0 (frN g)) (F0 m 5 ls [])) {H : Heap} {locs : List Loc} {ls : Array Slot} (h : B_X8_more_5 x0 x1 x2 rec5 σ x3 x4 = some r) (hV : HV g σ H) (hF : FR g locs) (hl : lv_has ls 5 [(0, .ref x0), (1, .ref x1), (2, .int x2), (3, .int x3), (4, .int x4)]) : W p l e rm_X8_more s m args below meth c H locs 0 0 (MQ below (Qi g r) args s 0 0 (frN g)) (F0 m 5 ls []) := by
  unfold B_X8_more_5 at h
  refine lv_iload X.1 X.2.1 dX8_more_5 (lv_at hl 4 rfl) ?_
  refine lv_iload_n X.1 X.2.1 dX8_more_7 rfl (lv_at hl 2 rfl) ?_
  refine r_ge (tgt := 63) X.1 X.2.1 dX8_more_8 (by decide) h (fun h => ?_) (fun h => ?_)
  · refine lv_iload_n X.1 X.2.1 dX8_more_63 rfl (lv_at hl 3 rfl) ?_
    exact r_iret X hV hF h dX8_more_64
  · refine lv_iload_n X.1 X.2.1 dX8_more_11 rfl (lv_at hl 3 rfl) ?_
    refine lv_aload_n X.1 X.2.1 dX8_more_12 rfl (lv_at hl 0 rfl) ?_
    refine r_gR X hV fl_X8_1_8 (by decide) dX8_more_13 h (fun v1 h => ?_)
    refine r_gR X hV fl_X8_13_0 (by decide) dX8_more_16 h (fun v2 h => ?_)
    refine lv_iload X.1 X.2.1 dX8_more_19 (lv_at hl 4 rfl) ?_
    refine r_aa X hV dX8_more_21 (by decide) h (fun v3 h => ?_)
    refine lv_iload_n X.1 X.2.1 dX8_more_22 rfl (lv_at hl 2 rfl) ?_
    refine r_ia X hV dX8_more_23 h (fun v4 h => ?_)
    refine lv_aload_n X.1 X.2.1 dX8_more_24 rfl (lv_at hl 0 rfl) ?_
    refine r_gR X hV fl_X8_1_8 (by decide) dX8_more_25 h (fun v5 h => ?_)
    refine lv_aload_n X.1 X.2.1 dX8_more_28 rfl (lv_at hl 0 rfl) ?_
    refine r_gR X hV fl_X8_1_8 (by decide) dX8_more_29 h (fun v6 h => ?_)
    refine r_gR X hV fl_X8_19_0 (by decide) dX8_more_32 h (fun v7 h => ?_)
    refine lv_aload_n X.1 X.2.1 dX8_more_35 rfl (lv_at hl 1 rfl) ?_
    refine lv_iload X.1 X.2.1 dX8_more_36 (lv_at hl 4 rfl) ?_
    refine r_ia X hV dX8_more_38 h (fun v8 h => ?_)
    refine r_ia X hV dX8_more_39 h (fun v9 h => ?_)
    refine lv_aload_n X.1 X.2.1 dX8_more_40 rfl (lv_at hl 0 rfl) ?_
    refine r_gR X hV fl_X8_1_8 (by decide) dX8_more_41 h (fun v10 h => ?_)
    refine r_gR X hV fl_X8_19_0 (by decide) dX8_more_44 h (fun v11 h => ?_)
    refine lv_aload_n X.1 X.2.1 dX8_more_47 rfl (lv_at hl 1 rfl) ?_
    refine lv_iload_n X.1 X.2.1 dX8_more_48 rfl (lv_at hl 2 rfl) ?_
    refine r_ia X hV dX8_more_49 h (fun v12 h => ?_)
    refine r_ia X hV dX8_more_50 h (fun v13 h => ?_)
    obtain ⟨v14, s1, hc, h⟩ := b2_inv h
    refine r_ci (va_runVN (C := RX0) (As := [.int v9, .int v13]) (rest := [.int v4, .int x3]) (cfX X) (c_X0_likeness l hc) ⟨va_cnB 2 X.2.2.2.2.1 (lw_meth q358) rfl rfl rfl (X.2.2.2.2.2.1.2.2.2.1 _ (List.mem_of_getElem? (i := 16) rfl)) (X.2.2.2.2.1 _ q49) yd_X0_likeness ⟨Nat.le_of_ble_eq_true rfl, Nat.le_of_ble_eq_true rfl⟩, X.2.2.2.2.1 _ q357, X.2.2.2.2.1 _ qs1⟩ (preV X hV (F_X0_likeness_g hc) rfl) rfl rfl hl.1 rfl (lv_room (Nat.le_of_ble_eq_true rfl)) dX8_more_51 ⟨(Nat.le_of_ble_eq_true rfl), (Nat.le_of_ble_eq_true rfl)⟩) hF (fun H locs hV hF => ?_)
    refine lv_imul X.1 X.2.1 dX8_more_54 ?_
    refine lv_iadd X.1 X.2.1 dX8_more_55 ?_
    refine lv_istore_n (lv' := [(3, .int (x3 + (v4 * v14))), (0, .ref x0), (1, .ref x1), (2, .int x2), (4, .int x4)]) X.1 X.2.1 dX8_more_56 rfl hl (by decide) rfl (fun ls hl => ?_)
    refine lv_iinc (v := x4 + 1) (lv' := [(4, .int (x4 + 1)), (3, .int (x3 + (v4 * v14))), (0, .ref x0), (1, .ref x1), (2, .int x2)]) X.1 X.2.1 dX8_more_57 hl (k := 4) rfl rfl (by decide) rfl (fun ls hl => ?_)
    refine lv_goto (tgt := 5) X.1 X.2.1 dX8_more_60 (by decide) ?_
    exact hr5 (s1, x3 + (v4 * v14), x4 + 1) h _ _ _ hV hF (lv_sub hl [2, 3, 4, 1, 0] rfl)
set_option maxHeartbeats 4000000 in
theorem w_X8_more_5 {p : Program} {l : Launch} {e : Env} {s : State} {m : MethodId} {args : Array Value} {below : List Frame} {meth : Method} {c : Code} {g : Gl} (X : FX g p m c s args meth cX8_more 5 RX8 (some .int) "more") {r : Int32 × Hp} {x0 : Nat} {x1 : Nat} {x2 : Int32}  : ∀ (n : Nat) (st : Hp × Int32 × Int32), L_X8_more_5 x0 x1 x2 n st = some r → ∀ (H : Heap) (locs : List Loc) (ls : Array Slot), HV g st.1 H → FR g locs → lv_has ls 5 [(0, .ref x0), (1, .ref x1), (2, .int x2), (3, .int st.2.1), (4, .int st.2.2)] → W p l e rm_X8_more s m args below meth c H locs 0 0 (MQ below (Qi g r) args s 0 0 (frN g)) (F0 m 5 ls []) := by
  intro n
  induction n with
  | zero =>
    intro st h
    rw [L_X8_more_5_0] at h
    cases h
  | succ n ih =>
    intro st h H locs ls hV hF hl
    rw [L_X8_more_5_s] at h
    exact w_X8_more_5_b X  ih h hV hF hl
set_option maxHeartbeats 4000000 in
theorem c_X8_more (l : Launch) {g : Gl} {σ : Hp} {x0 : Nat} {x1 : Nat} {x2 : Int32} {r : Int32 × Hp} (h : F_X8_more σ x0 x1 x2 = some r) : Met l yX8_more (ws_ yX8_more cX8_more 5 (some .int)) rm_X8_more (va_Pc [.ref x0, .ref x1, .int x2] (WV g σ)) (Qi g r) 0 0 (frN g) := by
  refine ct_of (by decide) (Nat.le_of_ble_eq_true rfl) ?_
  intro p e s m below meth c ls X hV hl
  have hF : FR g [] := FR_nil
  unfold F_X8_more at h
  have hl : lv_has ls 5 [(0, .ref x0), (1, .ref x1), (2, .int x2)] := hl
  have X : FX g p m c s _ meth cX8_more 5 RX8 (some .int) "more" := X
  obtain ⟨-, h⟩ := gd_inv h
  refine lv_iconst (v := 0) X.1 X.2.1 dX8_more_0 (by decide) ?_
  refine lv_istore_n (lv' := [(3, .int 0), (0, .ref x0), (1, .ref x1), (2, .int x2)]) X.1 X.2.1 dX8_more_1 rfl hl (by decide) rfl (fun ls hl => ?_)
  refine lv_iconst (v := 0) X.1 X.2.1 dX8_more_2 (by decide) ?_
  refine lv_istore (lv' := [(4, .int 0), (3, .int 0), (0, .ref x0), (1, .ref x1), (2, .int x2)]) X.1 X.2.1 dX8_more_3 hl (by decide) rfl (fun ls hl => ?_)
  exact w_X8_more_5 X  FU (σ, 0, 0) h _ _ _ hV hF (lv_sub hl [2, 3, 4, 1, 0] rfl)
/-! PalaceOfRooms$Orders.run for classes {0: 8} -/
theorem fl_X6_22_8 : FLk RX6 22 8 2 "I" := ⟨RX8, TX8, 6, "PalaceOfRooms$Orders", rfl, by decide, (fun q => by have h1 := q.1; have h2 := q.2; omega), rfl, in_X8, Or.inl q197, Or.inl rfl⟩
theorem fl_X6_27_8 : FLk RX6 27 8 3 "I" := ⟨RX8, TX8, 6, "PalaceOfRooms$Orders", rfl, by decide, (fun q => by have h1 := q.1; have h2 := q.2; omega), rfl, in_X8, Or.inl q198, Or.inl rfl⟩
theorem fp_X6_27_8 : FPk RX6 27 8 3 "I" false := ⟨RX8, TX8, 6, "PalaceOfRooms$Orders", tyX8, rfl, by decide, (fun q => by have h1 := q.1; have h2 := q.2; omega), rfl, in_X8, tyX8_ok, (by decide +kernel), rfl, (fun q => by cases q), (Or.inl q198), Or.inl rfl⟩
theorem fl_X6_19_8 : FLk RX6 19 8 1 "[I" := ⟨RX8, TX8, 6, "PalaceOfRooms$Orders", rfl, by decide, (fun q => by have h1 := q.1; have h2 := q.2; omega), rfl, in_X8, Or.inl q195, Or.inl rfl⟩
theorem fp_X6_22_8 : FPk RX6 22 8 2 "I" false := ⟨RX8, TX8, 6, "PalaceOfRooms$Orders", tyX8, rfl, by decide, (fun q => by have h1 := q.1; have h2 := q.2; omega), rfl, in_X8, tyX8_ok, (by decide +kernel), rfl, (fun q => by cases q), (Or.inl q197), Or.inl rfl⟩
abbrev rm_X6_run_8 : Room := { frames := 3, cells := 1, slots := 9, locals := 66 }
set_option maxHeartbeats 4000000 in
theorem w_X6_run_8_25_b {p : Program} {l : Launch} {e : Env} {s : State} {m : MethodId} {args : Array Value} {below : List Frame} {meth : Method} {c : Code} {g : Gl} (X : FX g p m c s args meth cX6_run 4 RX6 none "run") {r : Hp} {rec25 : Hp × Int32 → Option (Hp)} {x0 : Nat} {x2 : Nat} {σ : Hp} {x3 : Int32} (hr25 : ∀ (st : Hp × Int32), rec25 st = some r → ∀ (H : Heap) (locs : List Loc) (ls : Array Slot), HV g st.1 H → FR g locs → lv_has ls 4 [(0, .ref x0), (2, .ref x2), (3, .int st.2)] → W p l e rm_X6_run_8 s m args below meth c H locs 1 9 (MQ below (Qv g r) args s 1 9 (frN g)) (F0 m 25 ls [])) {H : Heap} {locs : List Loc} {ls : Array Slot} (h : B_X6_run_8_25 x0 x2 rec25 σ x3 = some r) (hV : HV g σ H) (hF : FR g locs) (hl : lv_has ls 4 [(0, .ref x0), (2, .ref x2), (3, .int x3)]) : W p l e rm_X6_run_8 s m args below meth c H locs 1 9 (MQ below (Qv g r) args s 1 9 (frN g)) (F0 m 25 ls []) := by
  unfold B_X6_run_8_25 at h
  refine lv_iload_n X.1 X.2.1 dX6_run_25 rfl (lv_at hl 2 rfl) ?_
  refine r_iflt (tgt := 155) X.1 X.2.1 dX6_run_26 (by decide) h (fun h => ?_) (fun h => ?_)
  · exact r_vret X hV hF h dX6_run_155
  · refine lv_aload_n X.1 X.2.1 dX6_run_29 rfl (lv_at hl 0 rfl) ?_
    refine r_gR X hV fl_X6_15_8 (by decide) dX6_run_30 h (fun v1 h => ?_)
    refine lv_iload_n X.1 X.2.1 dX6_run_33 rfl (lv_at hl 2 rfl) ?_
    refine lv_dup2_11 X.1 X.2.1 dX6_run_34 rfl rfl ?_
    refine r_ia X hV dX6_run_35 h (fun v2 h => ?_)
    refine lv_iconst (v := 1) X.1 X.2.1 dX6_run_36 (by decide) ?_
    refine lv_iadd X.1 X.2.1 dX6_run_37 ?_
    refine r_is X hV hF dX6_run_38 h (fun s1 H locs hV hF h => ?_)
    refine lv_aload_n X.1 X.2.1 dX6_run_39 rfl (lv_at hl 0 rfl) ?_
    refine r_gR X hV fl_X6_15_8 (by decide) dX6_run_40 h (fun v3 h => ?_)
    refine lv_iload_n X.1 X.2.1 dX6_run_43 rfl (lv_at hl 2 rfl) ?_
    refine r_ia X hV dX6_run_44 h (fun v4 h => ?_)
    refine lv_aload_n X.1 X.2.1 dX6_run_45 rfl (lv_at hl 0 rfl) ?_
    refine r_gI X hV fl_X6_22_8 dX6_run_46 h (fun v5 h => ?_)
    refine r_ne (tgt := 58) X.1 X.2.1 dX6_run_49 (by decide) h (fun h => ?_) (fun h => ?_)
    · refine lv_aload_n X.1 X.2.1 dX6_run_58 rfl (lv_at hl 0 rfl) ?_
      refine lv_iload_n X.1 X.2.1 dX6_run_59 rfl (lv_at hl 2 rfl) ?_
      obtain ⟨v6, s2, hc, h⟩ := b2_inv h
      refine r_ci (va_runV (C := RX8) (As := [.int x3]) (rest := []) (cfX X) (c_X6_isMet_8 l hc) ⟨callB_of 1 X.2.2.2.2.1 (lw_meth q828) rfl rfl rfl (X.2.2.2.2.1 _ q55) (X.2.2.2.2.1 _ q825) yd_X6_isMet ⟨Nat.le_of_ble_eq_true rfl, Nat.le_of_ble_eq_true rfl⟩, X.2.2.2.2.1 _ q827, va_Nw.use rfl (X.2.2.2.2.2.1.2.2.2.2.2.2.2.2 _ (List.mem_of_getElem? (i := 1) rfl))⟩ (preV X hV (F_X6_isMet_8_g hc) rfl) rfl rfl hl.1 rfl (lv_room (Nat.le_of_ble_eq_true rfl)) dX6_run_60 ⟨(Nat.le_of_ble_eq_true rfl), (Nat.le_of_ble_eq_true rfl)⟩) hF (fun H locs hV hF => ?_)
      refine r_ifeq (tgt := 69) X.1 X.2.1 dX6_run_63 (by decide) h (fun h => ?_) (fun h => ?_)
      · refine lv_aload_n X.1 X.2.1 dX6_run_69 rfl (lv_at hl 1 rfl) ?_
        refine lv_iload_n X.1 X.2.1 dX6_run_70 rfl (lv_at hl 2 rfl) ?_
        refine lv_iconst (v := 1) X.1 X.2.1 dX6_run_71 (by decide) ?_
        refine lv_iadd X.1 X.2.1 dX6_run_72 ?_
        refine lv_aload_n X.1 X.2.1 dX6_run_73 rfl (lv_at hl 1 rfl) ?_
        refine lv_iload_n X.1 X.2.1 dX6_run_74 rfl (lv_at hl 2 rfl) ?_
        refine r_ia X hV dX6_run_75 h (fun v7 h => ?_)
        refine lv_aload_n X.1 X.2.1 dX6_run_76 rfl (lv_at hl 0 rfl) ?_
        refine lv_aload_n X.1 X.2.1 dX6_run_77 rfl (lv_at hl 0 rfl) ?_
        refine r_gR X hV fl_X6_15_8 (by decide) dX6_run_78 h (fun v8 h => ?_)
        refine lv_iload_n X.1 X.2.1 dX6_run_81 rfl (lv_at hl 2 rfl) ?_
        obtain ⟨v9, s3, hc, h⟩ := b2_inv h
        refine r_ci (va_runU (C := RX8) (x := ⟨"PalaceOfRooms$Orders", "more", "([II)I"⟩) (As := [.ref v8, .int x3]) (rest := [.int v7, .int (x3 + 1), .ref x2]) (cfX X) (c_X8_more l hc) (va_cwA (owner := RX6) 2 X.2.2.2.2.1 (lw_app (lw_in _ [829, 831, 832, 833, 57] (by decide +kernel) (by decide +kernel)) (lw_meth q834)) rfl rfl rfl (X.2.2.2.2.2.1.2.2.2.2.1 _ (List.mem_of_getElem? (i := 3) rfl)) (by decide +kernel) ⟨Nat.le_of_ble_eq_true rfl, Nat.le_of_ble_eq_true rfl⟩) (preV X hV (F_X8_more_g hc) rfl) rfl rfl hl.1 rfl (lv_room (Nat.le_of_ble_eq_true rfl)) dX6_run_82 ⟨(Nat.le_of_ble_eq_true rfl), (Nat.le_of_ble_eq_true rfl)⟩) hF (fun H locs hV hF => ?_)
        refine lv_iadd X.1 X.2.1 dX6_run_85 ?_
        refine r_is X hV hF dX6_run_86 h (fun s4 H locs hV hF h => ?_)
        refine lv_aload_n X.1 X.2.1 dX6_run_87 rfl (lv_at hl 1 rfl) ?_
        refine lv_iload_n X.1 X.2.1 dX6_run_88 rfl (lv_at hl 2 rfl) ?_
        refine lv_iconst (v := 1) X.1 X.2.1 dX6_run_89 (by decide) ?_
        refine lv_iadd X.1 X.2.1 dX6_run_90 ?_
        refine r_ia X hV dX6_run_91 h (fun v10 h => ?_)
        refine lv_aload_n X.1 X.2.1 dX6_run_92 rfl (lv_at hl 0 rfl) ?_
        refine r_gI X hV fl_X6_27_8 dX6_run_93 h (fun v11 h => ?_)
        refine r_lt (tgt := 102) X.1 X.2.1 dX6_run_96 (by decide) h (fun h => ?_) (fun h => ?_)
        · refine lv_iload_n X.1 X.2.1 dX6_run_102 rfl (lv_at hl 2 rfl) ?_
          refine lv_aload_n X.1 X.2.1 dX6_run_103 rfl (lv_at hl 0 rfl) ?_
          refine r_gI X hV fl_X6_22_8 dX6_run_104 h (fun v12 h => ?_)
          refine lv_iconst (v := 1) X.1 X.2.1 dX6_run_107 (by decide) ?_
          refine lv_isub X.1 X.2.1 dX6_run_108 ?_
          refine r_ne (tgt := 142) X.1 X.2.1 dX6_run_109 (by decide) h (fun h => ?_) (fun h => ?_)
          · refine lv_iinc (v := x3 + 1) (lv' := [(3, .int (x3 + 1)), (0, .ref x0), (2, .ref x2)]) X.1 X.2.1 dX6_run_142 hl (k := 2) rfl rfl (by decide) rfl (fun ls hl => ?_)
            refine lv_aload_n X.1 X.2.1 dX6_run_145 rfl (lv_at hl 1 rfl) ?_
            refine r_gR X hV fl_X6_15_8 (by decide) dX6_run_146 h (fun v13 h => ?_)
            refine lv_iload_n X.1 X.2.1 dX6_run_149 rfl (lv_at hl 0 rfl) ?_
            refine lv_iconst (v := (-1)) X.1 X.2.1 dX6_run_150 (by decide) ?_
            refine r_is X hV hF dX6_run_151 h (fun s5 H locs hV hF h => ?_)
            refine lv_goto (tgt := 25) X.1 X.2.1 dX6_run_152 (by decide) ?_
            exact hr25 (s5, x3 + 1) h _ _ _ hV hF (lv_sub hl [1, 2, 0] rfl)
          · refine lv_aload_n X.1 X.2.1 dX6_run_112 rfl (lv_at hl 0 rfl) ?_
            refine lv_aload_n X.1 X.2.1 dX6_run_113 rfl (lv_at hl 1 rfl) ?_
            refine lv_aload_n X.1 X.2.1 dX6_run_114 rfl (lv_at hl 0 rfl) ?_
            refine r_gI X hV fl_X6_22_8 dX6_run_115 h (fun v14 h => ?_)
            refine r_ia X hV dX6_run_118 h (fun v15 h => ?_)
            refine r_pI X hV hF fp_X6_27_8 (fun q => by cases q) dX6_run_119 h (fun s6 H locs hV hF h => ?_)
            refine lv_aload_n X.1 X.2.1 dX6_run_122 rfl (lv_at hl 0 rfl) ?_
            refine r_gR X hV fl_X6_15_8 (by decide) dX6_run_123 h (fun v16 h => ?_)
            refine lv_iconst (v := 0) X.1 X.2.1 dX6_run_126 (by decide) ?_
            refine lv_aload_n X.1 X.2.1 dX6_run_127 rfl (lv_at hl 0 rfl) ?_
            refine r_gR X hV fl_X6_19_8 (by decide) dX6_run_128 h (fun v17 h => ?_)
            refine lv_iconst (v := 0) X.1 X.2.1 dX6_run_131 (by decide) ?_
            refine lv_aload_n X.1 X.2.1 dX6_run_132 rfl (lv_at hl 0 rfl) ?_
            refine r_gI X hV fl_X6_22_8 dX6_run_133 h (fun v18 h => ?_)
            refine r_cpy X hV hF hl.1 q840 q800 q799 q76 (Nat.le_of_ble_eq_true rfl) (by decide) dX6_run_136 h (fun s7 H locs hV hF h => ?_)
            refine lv_goto (tgt := 25) X.1 X.2.1 dX6_run_139 (by decide) ?_
            exact hr25 (s7, x3) h _ _ _ hV hF (lv_sub hl [0, 1, 2] rfl)
        · refine lv_goto (tgt := 25) X.1 X.2.1 dX6_run_99 (by decide) ?_
          exact hr25 (s4, x3) h _ _ _ hV hF (lv_sub hl [0, 1, 2] rfl)
      · refine lv_goto (tgt := 25) X.1 X.2.1 dX6_run_66 (by decide) ?_
        exact hr25 (s2, x3) h _ _ _ hV hF (lv_sub hl [0, 1, 2] rfl)
    · refine lv_iinc (v := x3 + (-1)) (lv' := [(3, .int (x3 + (-1))), (0, .ref x0), (2, .ref x2)]) X.1 X.2.1 dX6_run_52 hl (k := 2) rfl rfl (by decide) rfl (fun ls hl => ?_)
      refine lv_goto (tgt := 25) X.1 X.2.1 dX6_run_55 (by decide) ?_
      exact hr25 (s1, x3 + (-1)) h _ _ _ hV hF (lv_sub hl [1, 2, 0] rfl)
set_option maxHeartbeats 4000000 in
theorem w_X6_run_8_25 {p : Program} {l : Launch} {e : Env} {s : State} {m : MethodId} {args : Array Value} {below : List Frame} {meth : Method} {c : Code} {g : Gl} (X : FX g p m c s args meth cX6_run 4 RX6 none "run") {r : Hp} {x0 : Nat} {x2 : Nat}  : ∀ (n : Nat) (st : Hp × Int32), L_X6_run_8_25 x0 x2 n st = some r → ∀ (H : Heap) (locs : List Loc) (ls : Array Slot), HV g st.1 H → FR g locs → lv_has ls 4 [(0, .ref x0), (2, .ref x2), (3, .int st.2)] → W p l e rm_X6_run_8 s m args below meth c H locs 1 9 (MQ below (Qv g r) args s 1 9 (frN g)) (F0 m 25 ls []) := by
  intro n
  induction n with
  | zero =>
    intro st h
    rw [L_X6_run_8_25_0] at h
    cases h
  | succ n ih =>
    intro st h H locs ls hV hF hl
    rw [L_X6_run_8_25_s] at h
    exact w_X6_run_8_25_b X  ih h hV hF hl
set_option maxHeartbeats 4000000 in
theorem c_X6_run_8 (l : Launch) {g : Gl} {σ : Hp} {x0 : Nat} {x1 : Int32} {r : Hp} (h : F_X6_run_8 σ x0 x1 = some r) : Met l yX6_run (ws_ yX6_run cX6_run 4 none) rm_X6_run_8 (va_Pc [.ref x0, .int x1] (WV g σ)) (Qv g r) 1 9 (frN g) := by
  refine ct_of (by decide) (Nat.le_of_ble_eq_true rfl) ?_
  intro p e s m below meth c ls X hV hl
  have hF : FR g [] := FR_nil
  unfold F_X6_run_8 at h
  have hl : lv_has ls 4 [(0, .ref x0), (1, .int x1)] := hl
  have X : FX g p m c s _ meth cX6_run 4 RX6 none "run" := X
  obtain ⟨-, h⟩ := gd_inv h
  refine lv_aload_n X.1 X.2.1 dX6_run_0 rfl (lv_at hl 0 rfl) ?_
  refine lv_iload_n X.1 X.2.1 dX6_run_1 rfl (lv_at hl 1 rfl) ?_
  refine r_pI X hV hF fp_X6_22_8 (fun q => by cases q) dX6_run_2 h (fun s1 H locs hV hF h => ?_)
  refine lv_aload_n X.1 X.2.1 dX6_run_5 rfl (lv_at hl 0 rfl) ?_
  refine lv_ldc (v := 268435456) X.1 X.2.1 X.2.2.2.1 (X.2.2.2.2.1 _ q824) dX6_run_6 ?_
  refine r_pI X hV hF fp_X6_27_8 (fun q => by cases q) dX6_run_8 h (fun s2 H locs hV hF h => ?_)
  refine lv_bipush (v := 9) X.1 X.2.1 dX6_run_11 (by decide) ?_
  refine r_newa (t := 0) (N := 9) X hV (by decide) rfl rfl q131 (by decide) (by decide) (by decide) (Nat.le_of_ble_eq_true rfl) (Nat.le_of_ble_eq_true rfl) dX6_run_13 (fun H hV => ?_)
  refine lv_astore_n (lv' := [(2, .ref (hZ s2)), (0, .ref x0), (1, .int x1)]) X.1 X.2.1 dX6_run_15 rfl hl (by decide) rfl (fun ls hl => ?_)
  refine lv_iconst (v := 0) X.1 X.2.1 dX6_run_16 (by decide) ?_
  refine lv_istore_n (lv' := [(3, .int 0), (2, .ref (hZ s2)), (0, .ref x0), (1, .int x1)]) X.1 X.2.1 dX6_run_17 rfl hl (by decide) rfl (fun ls hl => ?_)
  refine lv_aload_n X.1 X.2.1 dX6_run_18 rfl (lv_at hl 2 rfl) ?_
  refine r_gR X hV fl_X6_15_8 (by decide) dX6_run_19 h (fun v1 h => ?_)
  refine lv_iconst (v := 0) X.1 X.2.1 dX6_run_22 (by decide) ?_
  refine lv_iconst (v := (-1)) X.1 X.2.1 dX6_run_23 (by decide) ?_
  refine r_is X hV hF dX6_run_24 h (fun s3 H locs hV hF h => ?_)
  exact w_X6_run_8_25 X  FU (s3, 0) h _ _ _ hV hF (lv_sub hl [2, 1, 0] rfl)
/-! PalaceOfRooms.told for classes {1: 8} -/
theorem fl_X0_250_8 : FLk RX0 250 8 1 "[I" := ⟨RX8, TX8, 6, "PalaceOfRooms$Orders", rfl, by decide, (fun q => by have h1 := q.1; have h2 := q.2; omega), rfl, in_X8, Or.inr (List.mem_of_getElem? (i := 6) rfl), Or.inl rfl⟩
theorem fl_X0_247_8 : FLk RX0 247 8 3 "I" := ⟨RX8, TX8, 6, "PalaceOfRooms$Orders", rfl, by decide, (fun q => by have h1 := q.1; have h2 := q.2; omega), rfl, in_X8, Or.inr (List.mem_of_getElem? (i := 7) rfl), Or.inl rfl⟩
abbrev rm_X0_told_8 : Room := { frames := 4, cells := 1, slots := 9, locals := 89 }
set_option maxHeartbeats 4000000 in
theorem c_X0_told_8 (l : Launch) {g : Gl} {σ : Hp} {x0 : Nat} {x1 : Nat} {x2 : Int32} {x3 : Int32} {r : Int32 × Hp} (h : F_X0_told_8 σ x0 x1 x2 x3 = some r) : Met l yX0_told (ws_ yX0_told cX0_told 4 (some .int)) rm_X0_told_8 (va_Pc [.ref x0, .ref x1, .int x2, .int x3] (WV g σ)) (Qi g r) 1 9 (frN g) := by
  refine ct_of (by decide) (Nat.le_of_ble_eq_true rfl) ?_
  intro p e s m below meth c ls X hV hl
  have hF : FR g [] := FR_nil
  unfold F_X0_told_8 at h
  have hl : lv_has ls 4 [(0, .ref x0), (1, .ref x1), (2, .int x2), (3, .int x3)] := hl
  have X : FX g p m c s _ meth cX0_told 4 RX0 (some .int) "told" := X
  obtain ⟨-, h⟩ := gd_inv h
  refine lv_aload_n X.1 X.2.1 dX0_told_0 rfl (lv_at hl 1 rfl) ?_
  refine lv_iload_n X.1 X.2.1 dX0_told_1 rfl (lv_at hl 2 rfl) ?_
  obtain ⟨s1, hc, h⟩ := b1_inv h
  refine r_cv (va_runU (C := RX8) (x := ⟨"PalaceOfRooms$Orders", "run", "(I)V"⟩) (As := [.int x2]) (rest := []) (cfX X) (c_X6_run_8 l hc) (va_cwU (owner := RX6) 1 X.2.2.2.2.1 (lw_app (lw_in _ [818, 820, 821, 819, 55] (by decide +kernel) (by decide +kernel)) (lw_meth q823)) rfl rfl rfl rfl yd_X6_run ⟨Nat.le_of_ble_eq_true rfl, Nat.le_of_ble_eq_true rfl⟩) (preV X hV (F_X6_run_8_g hc) rfl) rfl rfl hl.1 rfl (lv_room (Nat.le_of_ble_eq_true rfl)) dX0_told_2 ⟨(Nat.le_of_ble_eq_true rfl), (Nat.le_of_ble_eq_true rfl)⟩) hF (fun H locs hV hF => ?_)
  refine lv_iload_n X.1 X.2.1 dX0_told_5 rfl (lv_at hl 3 rfl) ?_
  refine lv_iconst (v := (-1)) X.1 X.2.1 dX0_told_6 (by decide) ?_
  refine r_ne (tgt := 17) X.1 X.2.1 dX0_told_7 (by decide) h (fun h => ?_) (fun h => ?_)
  · refine lv_iload_n X.1 X.2.1 dX0_told_17 rfl (lv_at hl 3 rfl) ?_
    refine lv_iload_n X.1 X.2.1 dX0_told_18 rfl (lv_at hl 2 rfl) ?_
    refine r_ge (tgt := 36) X.1 X.2.1 dX0_told_19 (by decide) h (fun h => ?_) (fun h => ?_)
    · refine lv_iconst (v := (-1)) X.1 X.2.1 dX0_told_36 (by decide) ?_
      exact r_iret X hV hF h dX0_told_37
    · refine lv_aload_n X.1 X.2.1 dX0_told_22 rfl (lv_at hl 0 rfl) ?_
      refine r_gR X hV fl_X0_70_0 (by decide) dX0_told_23 h (fun v2 h => ?_)
      refine lv_aload_n X.1 X.2.1 dX0_told_26 rfl (lv_at hl 1 rfl) ?_
      refine r_gR X hV fl_X0_250_8 (by decide) dX0_told_27 h (fun v3 h => ?_)
      refine lv_iload_n X.1 X.2.1 dX0_told_30 rfl (lv_at hl 3 rfl) ?_
      refine r_ia X hV dX0_told_31 h (fun v4 h => ?_)
      refine r_ia X hV dX0_told_32 h (fun v5 h => ?_)
      refine lv_goto (tgt := 37) X.1 X.2.1 dX0_told_33 (by decide) ?_
      exact r_iret X hV hF h dX0_told_37
  · refine lv_aload_n X.1 X.2.1 dX0_told_10 rfl (lv_at hl 1 rfl) ?_
    refine r_gI X hV fl_X0_247_8 dX0_told_11 h (fun v6 h => ?_)
    refine lv_goto (tgt := 37) X.1 X.2.1 dX0_told_14 (by decide) ?_
    exact r_iret X hV hF h dX0_told_37
/-! PalaceOfRooms.code -/
theorem dX0_code_0 : decode cX0_code 0 = .ok (.aload_n 0, 1) := by decide +kernel
theorem dX0_code_1 : decode cX0_code 1 = .ok (.lload_n 1, 1) := by decide +kernel
theorem dX0_code_2 : decode cX0_code 2 = .ok (.iload_n 3, 1) := by decide +kernel
theorem dX0_code_3 : decode cX0_code 3 = .ok (.iconst 2, 1) := by decide +kernel
theorem dX0_code_4 : decode cX0_code 4 = .ok (.bipush 6, 2) := by decide +kernel
theorem dX0_code_6 : decode cX0_code 6 = .ok (.iload 4, 2) := by decide +kernel
theorem dX0_code_8 : decode cX0_code 8 = .ok (.invokevirtual 253, 3) := by decide +kernel
theorem dX0_code_11 : decode cX0_code 11 = .ok (.istore 5, 2) := by decide +kernel
theorem dX0_code_13 : decode cX0_code 13 = .ok (.iload 5, 2) := by decide +kernel
theorem dX0_code_15 : decode cX0_code 15 = .ok (.ifCond .eq 8, 3) := by decide +kernel
theorem dX0_code_18 : decode cX0_code 18 = .ok (.iload 5, 2) := by decide +kernel
theorem dX0_code_20 : decode cX0_code 20 = .ok (.goto 14, 3) := by decide +kernel
theorem dX0_code_23 : decode cX0_code 23 = .ok (.aload_n 0, 1) := by decide +kernel
theorem dX0_code_24 : decode cX0_code 24 = .ok (.aload_n 0, 1) := by decide +kernel
theorem dX0_code_25 : decode cX0_code 25 = .ok (.getfield 88, 3) := by decide +kernel
theorem dX0_code_28 : decode cX0_code 28 = .ok (.iload_n 3, 1) := by decide +kernel
theorem dX0_code_29 : decode cX0_code 29 = .ok (.iload 4, 2) := by decide +kernel
theorem dX0_code_31 : decode cX0_code 31 = .ok (.invokevirtual 263, 3) := by decide +kernel
theorem dX0_code_34 : decode cX0_code 34 = .ok (.ireturn, 1) := by decide +kernel
theorem yd_X0_code : yX0_code.cls ≠ "java/lang/invoke/MethodHandle" ∧ yX0_code.cls ≠ "java/lang/invoke/VarHandle" ∧ (parseMethodDescriptor yX0_code.desc).map (fun d => d.parameters.length) = some 3 := by decide +kernel
theorem fl_X0_88_0 : FLk RX0 88 0 18 "LPalaceOfRooms$Code;" := ⟨RX0, TX0, 22, "PalaceOfRooms", rfl, by decide, (fun q => by have h1 := q.1; have h2 := q.2; omega), rfl, in_X0, Or.inl q274, Or.inl rfl⟩
abbrev rm_X0_code : Room := { frames := 5, cells := 1, slots := 9, locals := 112 }
set_option maxHeartbeats 4000000 in
theorem c_X0_code (l : Launch) {g : Gl} {σ : Hp} {x0 : Nat} {x1 : Int64} {x3 : Int32} {x4 : Int32} {r : Int32 × Hp} (h : F_X0_code σ x0 x1 x3 x4 = some r) : Met l yX0_code (ws_ yX0_code cX0_code 6 (some .int)) rm_X0_code (va_Pc [.ref x0, .long x1, .int x3, .int x4] (WV g σ)) (Qi g r) 1 9 (frN g) := by
  refine ct_of (by decide) (Nat.le_of_ble_eq_true rfl) ?_
  intro p e s m below meth c ls X hV hl
  have hF : FR g [] := FR_nil
  unfold F_X0_code at h
  have hl : lv_has ls 6 [(0, .ref x0), (1, .long x1), (3, .int x3), (4, .int x4)] := hl
  have X : FX g p m c s _ meth cX0_code 6 RX0 (some .int) "code" := X
  obtain ⟨-, h⟩ := gd_inv h
  refine lv_aload_n X.1 X.2.1 dX0_code_0 rfl (lv_at hl 0 rfl) ?_
  refine lv_lload_n X.1 X.2.1 dX0_code_1 rfl (lv_at hl 1 rfl) ?_
  refine lv_iload_n X.1 X.2.1 dX0_code_2 rfl (lv_at hl 2 rfl) ?_
  refine lv_iconst (v := 2) X.1 X.2.1 dX0_code_3 (by decide) ?_
  refine lv_bipush (v := 6) X.1 X.2.1 dX0_code_4 (by decide) ?_
  refine lv_iload X.1 X.2.1 dX0_code_6 (lv_at hl 3 rfl) ?_
  obtain ⟨v1, s1, hc, h⟩ := b2_inv h
  refine r_ci (va_runV (C := RX0) (As := [.long x1, .int x3, .int 2, .int 6, .int x4]) (rest := []) (cfX X) (c_X0_layHand l hc) (cwV 5 X.2.2.2.2.1 (lw_V q759 q761 qs15 q49 q762) rfl rfl rfl ⟨rfl, yd_X0_layHand⟩ ⟨Nat.le_of_ble_eq_true rfl, Nat.le_of_ble_eq_true rfl⟩) (preV X hV (F_X0_layHand_g hc) rfl) rfl rfl hl.1 rfl (lv_room (Nat.le_of_ble_eq_true rfl)) dX0_code_8 ⟨(Nat.le_of_ble_eq_true rfl), (Nat.le_of_ble_eq_true rfl)⟩) hF (fun H locs hV hF => ?_)
  refine lv_istore (lv' := [(5, .int v1), (0, .ref x0), (1, .long x1), (3, .int x3), (4, .int x4)]) X.1 X.2.1 dX0_code_11 hl (by decide) rfl (fun ls hl => ?_)
  refine lv_iload X.1 X.2.1 dX0_code_13 (lv_at hl 0 rfl) ?_
  refine r_ifeq (tgt := 23) X.1 X.2.1 dX0_code_15 (by decide) h (fun h => ?_) (fun h => ?_)
  · refine lv_aload_n X.1 X.2.1 dX0_code_23 rfl (lv_at hl 1 rfl) ?_
    refine lv_aload_n X.1 X.2.1 dX0_code_24 rfl (lv_at hl 1 rfl) ?_
    refine r_gR X hV fl_X0_88_0 (by decide) dX0_code_25 h (fun v2 h => ?_)
    refine lv_iload_n X.1 X.2.1 dX0_code_28 rfl (lv_at hl 3 rfl) ?_
    refine lv_iload X.1 X.2.1 dX0_code_29 (lv_at hl 4 rfl) ?_
    obtain ⟨v3, s2, hc, h⟩ := b2_inv h
    refine r_ci (va_runV (C := RX0) (As := [.ref v2, .int x3, .int x4]) (rest := []) (cfX X) (c_X0_told_8 l hc) (cwV 3 X.2.2.2.2.1 (lw_V q814 q816 qs16 q49 q817) rfl rfl rfl ⟨rfl, yd_X0_told⟩ ⟨Nat.le_of_ble_eq_true rfl, Nat.le_of_ble_eq_true rfl⟩) (preV X hV (F_X0_told_8_g hc) rfl) rfl rfl hl.1 rfl (lv_room (Nat.le_of_ble_eq_true rfl)) dX0_code_31 ⟨(Nat.le_of_ble_eq_true rfl), (Nat.le_of_ble_eq_true rfl)⟩) hF (fun H locs hV hF => ?_)
    exact r_iret X hV hF h dX0_code_34
  · refine lv_iload X.1 X.2.1 dX0_code_18 (lv_at hl 0 rfl) ?_
    refine lv_goto (tgt := 34) X.1 X.2.1 dX0_code_20 (by decide) ?_
    refine W.widen (k := 1) (n := 9) (Nat.le_of_ble_eq_true rfl) (Nat.le_of_ble_eq_true rfl) ?_
    exact r_iret X hV hF h dX0_code_34
