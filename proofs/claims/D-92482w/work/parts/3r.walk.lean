set_option maxRecDepth 100000
/-! PalaceOfRooms.rules -/
theorem dX0_rules_0 : decode cX0_rules 0 = .ok (.aload_n 0, 1) := by decide +kernel
theorem dX0_rules_1 : decode cX0_rules 1 = .ok (.invokevirtual 202, 3) := by decide +kernel
theorem dX0_rules_4 : decode cX0_rules 4 = .ok (.iconst (-1), 1) := by decide +kernel
theorem dX0_rules_5 : decode cX0_rules 5 = .ok (.if_icmp .eq 6, 3) := by decide +kernel
theorem dX0_rules_8 : decode cX0_rules 8 = .ok (.bipush (-4), 2) := by decide +kernel
theorem dX0_rules_10 : decode cX0_rules 10 = .ok (.ireturn, 1) := by decide +kernel
theorem dX0_rules_11 : decode cX0_rules 11 = .ok (.aload_n 0, 1) := by decide +kernel
theorem dX0_rules_12 : decode cX0_rules 12 = .ok (.aload_n 0, 1) := by decide +kernel
theorem dX0_rules_13 : decode cX0_rules 13 = .ok (.getfield 66, 3) := by decide +kernel
theorem dX0_rules_16 : decode cX0_rules 16 = .ok (.getfield 206, 3) := by decide +kernel
theorem dX0_rules_19 : decode cX0_rules 19 = .ok (.putfield 55, 3) := by decide +kernel
theorem dX0_rules_22 : decode cX0_rules 22 = .ok (.aload_n 0, 1) := by decide +kernel
theorem dX0_rules_23 : decode cX0_rules 23 = .ok (.aload_n 0, 1) := by decide +kernel
theorem dX0_rules_24 : decode cX0_rules 24 = .ok (.getfield 66, 3) := by decide +kernel
theorem dX0_rules_27 : decode cX0_rules 27 = .ok (.getfield 209, 3) := by decide +kernel
theorem dX0_rules_30 : decode cX0_rules 30 = .ok (.putfield 212, 3) := by decide +kernel
theorem dX0_rules_33 : decode cX0_rules 33 = .ok (.aload_n 0, 1) := by decide +kernel
theorem dX0_rules_34 : decode cX0_rules 34 = .ok (.iconst 0, 1) := by decide +kernel
theorem dX0_rules_35 : decode cX0_rules 35 = .ok (.putfield 191, 3) := by decide +kernel
theorem dX0_rules_38 : decode cX0_rules 38 = .ok (.aload_n 0, 1) := by decide +kernel
theorem dX0_rules_39 : decode cX0_rules 39 = .ok (.getfield 212, 3) := by decide +kernel
theorem dX0_rules_42 : decode cX0_rules 42 = .ok (.ireturn, 1) := by decide +kernel
theorem yd_X0_rules : yX0_rules.cls ≠ "java/lang/invoke/MethodHandle" ∧ yX0_rules.cls ≠ "java/lang/invoke/VarHandle" ∧ (parseMethodDescriptor yX0_rules.desc).map (fun d => d.parameters.length) = some 0 := by decide +kernel
theorem fl_X0_206_5 : FLk RX0 206 5 0 "[LPalaceOfRooms$Line;" := ⟨RX5, TX5, 6, "PalaceOfRooms$Reader", rfl, by decide, (fun q => by have h1 := q.1; have h2 := q.2; omega), rfl, in_X5, Or.inr (List.mem_of_getElem? (i := 4) rfl), Or.inl rfl⟩
theorem fl_X0_209_5 : FLk RX0 209 5 1 "I" := ⟨RX5, TX5, 6, "PalaceOfRooms$Reader", rfl, by decide, (fun q => by have h1 := q.1; have h2 := q.2; omega), rfl, in_X5, Or.inr (List.mem_of_getElem? (i := 5) rfl), Or.inl rfl⟩
theorem fp_X0_212_0 : FPk RX0 212 0 11 "I" false := ⟨RX0, TX0, 22, "PalaceOfRooms", tyX0, rfl, by decide, (fun q => by have h1 := q.1; have h2 := q.2; omega), rfl, in_X0, tyX0_ok, (fun a ha b hb h => Or.inl (nmX0 a ha b hb h)), rfl, (fun q => by cases q), (Or.inl q262), Or.inl rfl⟩
theorem fl_X0_212_0 : FLk RX0 212 0 11 "I" := ⟨RX0, TX0, 22, "PalaceOfRooms", rfl, by decide, (fun q => by have h1 := q.1; have h2 := q.2; omega), rfl, in_X0, Or.inl q262, Or.inl rfl⟩
abbrev rm_X0_rules : Room := { frames := 9, cells := 72, slots := 447, locals := 197 }
set_option maxHeartbeats 4000000 in
theorem c_X0_rules (l : Launch) {g : Gl} {σ : Hp} {x0 : Nat} {r : Int32 × Hp} (h : F_X0_rules σ x0 = some r) : Met l yX0_rules (ws_ yX0_rules cX0_rules 1 (some .int)) rm_X0_rules (va_Pc [.ref x0] (WV g σ)) (Qi g r) 72 447 (frN g) := by
  refine ct_of (by decide) (Nat.le_of_ble_eq_true rfl) ?_
  intro p e s m below meth c ls X hV hl
  have hF : FR g [] := FR_nil
  unfold F_X0_rules at h
  have hl : lv_has ls 1 [(0, .ref x0)] := hl
  have X : FX g p m c s _ meth cX0_rules 1 RX0 (some .int) "rules" := X
  obtain ⟨-, h⟩ := gd_inv h
  refine lv_aload_n X.1 X.2.1 dX0_rules_0 rfl (lv_at hl 0 rfl) ?_
  obtain ⟨v1, s1, hc, h⟩ := b2_inv h
  refine r_ci (runVW (As := []) (rest := []) X (c_X0_fault l hc) q480 q691 q478 q479 q49 rfl rfl yd_X0_fault ⟨Nat.le_of_ble_eq_true rfl, Nat.le_of_ble_eq_true rfl⟩ (preV X hV (F_X0_fault_g hc) rfl) rfl hl.1 (Nat.le_of_ble_eq_true rfl) dX0_rules_1 ⟨(Nat.le_of_ble_eq_true rfl), (Nat.le_of_ble_eq_true rfl)⟩) hF (fun H locs hV hF => ?_)
  refine lv_iconst (v := (-1)) X.1 X.2.1 dX0_rules_4 (by decide) ?_
  refine r_eq (tgt := 11) X.1 X.2.1 dX0_rules_5 (by decide) h (fun h => ?_) (fun h => ?_)
  · refine lv_aload_n X.1 X.2.1 dX0_rules_11 rfl (lv_at hl 0 rfl) ?_
    refine lv_aload_n X.1 X.2.1 dX0_rules_12 rfl (lv_at hl 0 rfl) ?_
    refine r_gR X hV fl_X0_66_0 (by decide) dX0_rules_13 h (fun v2 h => ?_)
    refine r_gR X hV fl_X0_206_5 (by decide) dX0_rules_16 h (fun v3 h => ?_)
    refine r_pR X hV hF fp_X0_55_0 (fun q => by cases q) (by decide) (ty := (.array (.object "PalaceOfRooms$Line"))) (by decide +kernel) dX0_rules_19 rfl rfl h (fun s2 H locs hV hF h => ?_)
    refine lv_aload_n X.1 X.2.1 dX0_rules_22 rfl (lv_at hl 0 rfl) ?_
    refine lv_aload_n X.1 X.2.1 dX0_rules_23 rfl (lv_at hl 0 rfl) ?_
    refine r_gR X hV fl_X0_66_0 (by decide) dX0_rules_24 h (fun v4 h => ?_)
    refine r_gI X hV fl_X0_209_5 dX0_rules_27 h (fun v5 h => ?_)
    refine r_pI X hV hF fp_X0_212_0 (fun q => by cases q) dX0_rules_30 h (fun s3 H locs hV hF h => ?_)
    refine lv_aload_n X.1 X.2.1 dX0_rules_33 rfl (lv_at hl 0 rfl) ?_
    refine lv_iconst (v := 0) X.1 X.2.1 dX0_rules_34 (by decide) ?_
    refine r_pI X hV hF fp_X0_191_0 (fun q => by cases q) dX0_rules_35 h (fun s4 H locs hV hF h => ?_)
    refine lv_aload_n X.1 X.2.1 dX0_rules_38 rfl (lv_at hl 0 rfl) ?_
    refine r_gI X hV fl_X0_212_0 dX0_rules_39 h (fun v6 h => ?_)
    exact r_iret X hV hF h dX0_rules_42
  · refine lv_bipush (v := (-4)) X.1 X.2.1 dX0_rules_8 (by decide) ?_
    exact r_iret X hV hF h dX0_rules_10
/-! PalaceOfRooms$Line.room for classes {0: 13} -/
theorem dX12_room_0 : decode cX12_room 0 = .ok (.iconst (-1), 1) := by decide +kernel
theorem dX12_room_1 : decode cX12_room 1 = .ok (.ireturn, 1) := by decide +kernel
theorem yd_X12_room : yX12_room.cls ≠ "java/lang/invoke/MethodHandle" ∧ yX12_room.cls ≠ "java/lang/invoke/VarHandle" ∧ (parseMethodDescriptor yX12_room.desc).map (fun d => d.parameters.length) = some 1 := by decide +kernel
abbrev rm_X12_room_13 : Room := { frames := 0, cells := 0, slots := 0, locals := 0 }
set_option maxHeartbeats 4000000 in
theorem c_X12_room_13 (l : Launch) {g : Gl} {σ : Hp} {x0 : Nat} {x1 : Int32} {r : Int32 × Hp} (h : F_X12_room_13 σ x0 x1 = some r) : Met l yX12_room (ws_ yX12_room cX12_room 2 (some .int)) rm_X12_room_13 (va_Pc [.ref x0, .int x1] (WV g σ)) (Qi g r) 0 0 (frN g) := by
  refine ct_of (by decide) (Nat.le_of_ble_eq_true rfl) ?_
  intro p e s m below meth c ls X hV hl
  have hF : FR g [] := FR_nil
  unfold F_X12_room_13 at h
  have hl : lv_has ls 2 [(0, .ref x0), (1, .int x1)] := hl
  have X : FX g p m c s _ meth cX12_room 2 RX12 (some .int) "room" := X
  obtain ⟨-, h⟩ := gd_inv h
  refine lv_iconst (v := (-1)) X.1 X.2.1 dX12_room_0 (by decide) ?_
  exact r_iret X hV hF h dX12_room_1
/-! PalaceOfRooms$RoomLine.room -/
theorem dX13_room_0 : decode cX13_room 0 = .ok (.iload_n 1, 1) := by decide +kernel
theorem dX13_room_1 : decode cX13_room 1 = .ok (.aload_n 0, 1) := by decide +kernel
theorem dX13_room_2 : decode cX13_room 2 = .ok (.getfield 7, 3) := by decide +kernel
theorem dX13_room_5 : decode cX13_room 5 = .ok (.if_icmp .ne 10, 3) := by decide +kernel
theorem dX13_room_8 : decode cX13_room 8 = .ok (.aload_n 0, 1) := by decide +kernel
theorem dX13_room_9 : decode cX13_room 9 = .ok (.getfield 13, 3) := by decide +kernel
theorem dX13_room_12 : decode cX13_room 12 = .ok (.goto 8, 3) := by decide +kernel
theorem dX13_room_15 : decode cX13_room 15 = .ok (.aload_n 0, 1) := by decide +kernel
theorem dX13_room_16 : decode cX13_room 16 = .ok (.iload_n 1, 1) := by decide +kernel
theorem dX13_room_17 : decode cX13_room 17 = .ok (.invokespecial 16, 3) := by decide +kernel
theorem dX13_room_20 : decode cX13_room 20 = .ok (.ireturn, 1) := by decide +kernel
theorem yd_X13_room : yX13_room.cls ≠ "java/lang/invoke/MethodHandle" ∧ yX13_room.cls ≠ "java/lang/invoke/VarHandle" ∧ (parseMethodDescriptor yX13_room.desc).map (fun d => d.parameters.length) = some 1 := by decide +kernel
theorem fl_X13_7_13 : FLk RX13 7 13 0 "I" := ⟨RX13, TX13, 2, "PalaceOfRooms$RoomLine", rfl, by decide, (fun q => by have h1 := q.1; have h2 := q.2; omega), rfl, in_X13, Or.inl q642, Or.inl rfl⟩
theorem fl_X13_13_13 : FLk RX13 13 13 1 "I" := ⟨RX13, TX13, 2, "PalaceOfRooms$RoomLine", rfl, by decide, (fun q => by have h1 := q.1; have h2 := q.2; omega), rfl, in_X13, Or.inl q643, Or.inl rfl⟩
abbrev rm_X13_room : Room := { frames := 1, cells := 0, slots := 0, locals := 21 }
set_option maxHeartbeats 4000000 in
theorem c_X13_room (l : Launch) {g : Gl} {σ : Hp} {x0 : Nat} {x1 : Int32} {r : Int32 × Hp} (h : F_X13_room σ x0 x1 = some r) : Met l yX13_room (ws_ yX13_room cX13_room 2 (some .int)) rm_X13_room (va_Pc [.ref x0, .int x1] (WV g σ)) (Qi g r) 0 0 (frN g) := by
  refine ct_of (by decide) (Nat.le_of_ble_eq_true rfl) ?_
  intro p e s m below meth c ls X hV hl
  have hF : FR g [] := FR_nil
  unfold F_X13_room at h
  have hl : lv_has ls 2 [(0, .ref x0), (1, .int x1)] := hl
  have X : FX g p m c s _ meth cX13_room 2 RX13 (some .int) "room" := X
  obtain ⟨-, h⟩ := gd_inv h
  refine lv_iload_n X.1 X.2.1 dX13_room_0 rfl (lv_at hl 1 rfl) ?_
  refine lv_aload_n X.1 X.2.1 dX13_room_1 rfl (lv_at hl 0 rfl) ?_
  refine r_gI X hV fl_X13_7_13 dX13_room_2 h (fun v1 h => ?_)
  refine r_ne (tgt := 15) X.1 X.2.1 dX13_room_5 (by decide) h (fun h => ?_) (fun h => ?_)
  · refine lv_aload_n X.1 X.2.1 dX13_room_15 rfl (lv_at hl 0 rfl) ?_
    refine lv_iload_n X.1 X.2.1 dX13_room_16 rfl (lv_at hl 1 rfl) ?_
    obtain ⟨v2, s1, hc, h⟩ := b2_inv h
    refine r_ci (va_runSU (C := RX13) (X.2.2.2.2.2.1.1 13 _ rfl).2 (As := [.int x1]) (rest := []) (cfX X) (c_X12_room_13 l hc) (va_cwSU 1 X.2.2.2.2.1 (lw_app (lw_in _ [729, 722, 648, 721, 69] (by decide +kernel) (by decide +kernel)) (lw_meth q730)) rfl rfl rfl ⟨by decide +kernel, (yd_X12_room).2.2⟩ ⟨Nat.le_of_ble_eq_true rfl, Nat.le_of_ble_eq_true rfl⟩) (preV X hV (F_X12_room_13_g hc) rfl) rfl rfl hl.1 rfl (lv_room (Nat.le_of_ble_eq_true rfl)) dX13_room_17 ⟨(Nat.le_of_ble_eq_true rfl), (Nat.le_of_ble_eq_true rfl)⟩) hF (fun H locs hV hF => ?_)
    exact r_iret X hV hF h dX13_room_20
  · refine lv_aload_n X.1 X.2.1 dX13_room_8 rfl (lv_at hl 0 rfl) ?_
    refine r_gI X hV fl_X13_13_13 dX13_room_9 h (fun v3 h => ?_)
    refine lv_goto (tgt := 20) X.1 X.2.1 dX13_room_12 (by decide) ?_
    exact r_iret X hV hF h dX13_room_20
/-! PalaceOfRooms$Line.room for classes {0: 14} -/
abbrev rm_X12_room_14 : Room := { frames := 0, cells := 0, slots := 0, locals := 0 }
set_option maxHeartbeats 4000000 in
theorem c_X12_room_14 (l : Launch) {g : Gl} {σ : Hp} {x0 : Nat} {x1 : Int32} {r : Int32 × Hp} (h : F_X12_room_14 σ x0 x1 = some r) : Met l yX12_room (ws_ yX12_room cX12_room 2 (some .int)) rm_X12_room_14 (va_Pc [.ref x0, .int x1] (WV g σ)) (Qi g r) 0 0 (frN g) := by
  refine ct_of (by decide) (Nat.le_of_ble_eq_true rfl) ?_
  intro p e s m below meth c ls X hV hl
  have hF : FR g [] := FR_nil
  unfold F_X12_room_14 at h
  have hl : lv_has ls 2 [(0, .ref x0), (1, .int x1)] := hl
  have X : FX g p m c s _ meth cX12_room 2 RX12 (some .int) "room" := X
  obtain ⟨-, h⟩ := gd_inv h
  refine lv_iconst (v := (-1)) X.1 X.2.1 dX12_room_0 (by decide) ?_
  exact r_iret X hV hF h dX12_room_1
/-! PalaceOfRooms$Line.room for classes {0: 15} -/
abbrev rm_X12_room_15 : Room := { frames := 0, cells := 0, slots := 0, locals := 0 }
set_option maxHeartbeats 4000000 in
theorem c_X12_room_15 (l : Launch) {g : Gl} {σ : Hp} {x0 : Nat} {x1 : Int32} {r : Int32 × Hp} (h : F_X12_room_15 σ x0 x1 = some r) : Met l yX12_room (ws_ yX12_room cX12_room 2 (some .int)) rm_X12_room_15 (va_Pc [.ref x0, .int x1] (WV g σ)) (Qi g r) 0 0 (frN g) := by
  refine ct_of (by decide) (Nat.le_of_ble_eq_true rfl) ?_
  intro p e s m below meth c ls X hV hl
  have hF : FR g [] := FR_nil
  unfold F_X12_room_15 at h
  have hl : lv_has ls 2 [(0, .ref x0), (1, .int x1)] := hl
  have X : FX g p m c s _ meth cX12_room 2 RX12 (some .int) "room" := X
  obtain ⟨-, h⟩ := gd_inv h
  refine lv_iconst (v := (-1)) X.1 X.2.1 dX12_room_0 (by decide) ?_
  exact r_iret X hV hF h dX12_room_1
/-! PalaceOfRooms$Line.room for classes {0: 16} -/
abbrev rm_X12_room_16 : Room := { frames := 0, cells := 0, slots := 0, locals := 0 }
set_option maxHeartbeats 4000000 in
theorem c_X12_room_16 (l : Launch) {g : Gl} {σ : Hp} {x0 : Nat} {x1 : Int32} {r : Int32 × Hp} (h : F_X12_room_16 σ x0 x1 = some r) : Met l yX12_room (ws_ yX12_room cX12_room 2 (some .int)) rm_X12_room_16 (va_Pc [.ref x0, .int x1] (WV g σ)) (Qi g r) 0 0 (frN g) := by
  refine ct_of (by decide) (Nat.le_of_ble_eq_true rfl) ?_
  intro p e s m below meth c ls X hV hl
  have hF : FR g [] := FR_nil
  unfold F_X12_room_16 at h
  have hl : lv_has ls 2 [(0, .ref x0), (1, .int x1)] := hl
  have X : FX g p m c s _ meth cX12_room 2 RX12 (some .int) "room" := X
  obtain ⟨-, h⟩ := gd_inv h
  refine lv_iconst (v := (-1)) X.1 X.2.1 dX12_room_0 (by decide) ?_
  exact r_iret X hV hF h dX12_room_1
/-! PalaceOfRooms.roomFor -/
theorem dX0_roomFor_0 : decode cX0_roomFor 0 = .ok (.iconst (-1), 1) := by decide +kernel
theorem dX0_roomFor_1 : decode cX0_roomFor 1 = .ok (.istore_n 2, 1) := by decide +kernel
theorem dX0_roomFor_2 : decode cX0_roomFor 2 = .ok (.iconst 0, 1) := by decide +kernel
theorem dX0_roomFor_3 : decode cX0_roomFor 3 = .ok (.istore_n 3, 1) := by decide +kernel
theorem dX0_roomFor_4 : decode cX0_roomFor 4 = .ok (.iload_n 3, 1) := by decide +kernel
theorem dX0_roomFor_5 : decode cX0_roomFor 5 = .ok (.aload_n 0, 1) := by decide +kernel
theorem dX0_roomFor_6 : decode cX0_roomFor 6 = .ok (.getfield 212, 3) := by decide +kernel
theorem dX0_roomFor_9 : decode cX0_roomFor 9 = .ok (.if_icmp .ge 38, 3) := by decide +kernel
theorem dX0_roomFor_12 : decode cX0_roomFor 12 = .ok (.aload_n 0, 1) := by decide +kernel
theorem dX0_roomFor_13 : decode cX0_roomFor 13 = .ok (.getfield 55, 3) := by decide +kernel
theorem dX0_roomFor_16 : decode cX0_roomFor 16 = .ok (.iload_n 3, 1) := by decide +kernel
theorem dX0_roomFor_17 : decode cX0_roomFor 17 = .ok (.aaload, 1) := by decide +kernel
theorem dX0_roomFor_18 : decode cX0_roomFor 18 = .ok (.iload_n 1, 1) := by decide +kernel
theorem dX0_roomFor_19 : decode cX0_roomFor 19 = .ok (.invokevirtual 215, 3) := by decide +kernel
theorem dX0_roomFor_22 : decode cX0_roomFor 22 = .ok (.iconst (-1), 1) := by decide +kernel
theorem dX0_roomFor_23 : decode cX0_roomFor 23 = .ok (.if_icmp .ne 7, 3) := by decide +kernel
theorem dX0_roomFor_26 : decode cX0_roomFor 26 = .ok (.iload_n 2, 1) := by decide +kernel
theorem dX0_roomFor_27 : decode cX0_roomFor 27 = .ok (.goto 13, 3) := by decide +kernel
theorem dX0_roomFor_30 : decode cX0_roomFor 30 = .ok (.aload_n 0, 1) := by decide +kernel
theorem dX0_roomFor_31 : decode cX0_roomFor 31 = .ok (.getfield 55, 3) := by decide +kernel
theorem dX0_roomFor_34 : decode cX0_roomFor 34 = .ok (.iload_n 3, 1) := by decide +kernel
theorem dX0_roomFor_35 : decode cX0_roomFor 35 = .ok (.aaload, 1) := by decide +kernel
theorem dX0_roomFor_36 : decode cX0_roomFor 36 = .ok (.iload_n 1, 1) := by decide +kernel
theorem dX0_roomFor_37 : decode cX0_roomFor 37 = .ok (.invokevirtual 215, 3) := by decide +kernel
theorem dX0_roomFor_40 : decode cX0_roomFor 40 = .ok (.istore_n 2, 1) := by decide +kernel
theorem dX0_roomFor_41 : decode cX0_roomFor 41 = .ok (.iinc 3 1, 3) := by decide +kernel
theorem dX0_roomFor_44 : decode cX0_roomFor 44 = .ok (.goto (-40), 3) := by decide +kernel
theorem dX0_roomFor_47 : decode cX0_roomFor 47 = .ok (.iload_n 2, 1) := by decide +kernel
theorem dX0_roomFor_48 : decode cX0_roomFor 48 = .ok (.ireturn, 1) := by decide +kernel
theorem yd_X0_roomFor : yX0_roomFor.cls ≠ "java/lang/invoke/MethodHandle" ∧ yX0_roomFor.cls ≠ "java/lang/invoke/VarHandle" ∧ (parseMethodDescriptor yX0_roomFor.desc).map (fun d => d.parameters.length) = some 1 := by decide +kernel
theorem fl_X0_55_0 : FLk RX0 55 0 10 "[LPalaceOfRooms$Line;" := ⟨RX0, TX0, 22, "PalaceOfRooms", rfl, by decide, (fun q => by have h1 := q.1; have h2 := q.2; omega), rfl, in_X0, Or.inl q261, Or.inl rfl⟩
theorem dsp_X0_215 {p : Program} {l : Launch} {e : Env} {R : Room} {s : State} {m : MethodId} {args : Array Value} {below : List Frame} {meth : Method} {c : Code} {H : Heap} {locs : List Loc} {cells slots : Nat} {cc : ByteArray} {pc nL : Nat} {ls : Array Slot} {rest : List Value} {g : Gl} {σ σ1 : Hp} {nm : String} {rt : Option FieldType} {x0 : Nat} {v : Int32} {x1 : Int32} (X : FX g p m c s args meth cc nL RX0 rt nm) (hV : HV g σ H) (hc : D_room σ x0 x1 = some (v, σ1)) (hsz : ls.size = nL) (hR : 2 ≤ R.frames ∧ 42 ≤ R.locals) (hW : (rest.map fun v => v.category).sum ≤ 8) (hdg : decode cc pc = .ok (.invokevirtual 215, 3)) (hf : cells ≤ R.cells ∧ slots ≤ R.slots) : va_Run p l e R s m args below meth c H locs cells slots 0 0 (F0 m pc ls (.int x1 :: .ref x0 :: rest)) rest (Qi g (v, σ1) (.ref x0 :: [.int x1]).toArray) (frN g) := by
  unfold D_room at hc
  by_cases h13 : hT σ x0 = some (.inl 13)
  · rw [if_pos h13] at hc
    exact va_runU (C := RX13) (x := ⟨"PalaceOfRooms$Line", "room", "(I)I"⟩) (As := [.int x1]) (rest := rest) (cfX X) (c_X13_room l hc) (va_cwO (owner := RX12) 1 X.2.2.2.2.1 (lw_app (lw_in _ [720, 722, 721, 726, 727, 70] (by decide +kernel) (by decide +kernel)) (lw_meth q728)) rfl rfl rfl q730 (by decide +kernel) ⟨Nat.le_trans (Nat.le_of_ble_eq_true rfl) hR.1, Nat.le_trans (Nat.le_of_ble_eq_true rfl) hR.2⟩) (preV X hV h13 rfl) rfl rfl hsz rfl (lv_room hW) hdg hf
  rw [if_neg h13] at hc
  by_cases h14 : hT σ x0 = some (.inl 14)
  · rw [if_pos h14] at hc
    exact va_runU (C := RX14) (x := ⟨"PalaceOfRooms$Line", "room", "(I)I"⟩) (As := [.int x1]) (rest := rest) (cfX X) (c_X12_room_14 l hc) (va_cwU (owner := RX12) 1 X.2.2.2.2.1 (lw_app (lw_in _ [720, 722, 723, 721, 69] (by decide +kernel) (by decide +kernel)) (lw_meth q730)) rfl rfl rfl rfl yd_X12_room ⟨Nat.le_trans (Nat.le_of_ble_eq_true rfl) hR.1, Nat.le_trans (Nat.le_of_ble_eq_true rfl) hR.2⟩) (preV X hV h14 rfl) rfl rfl hsz rfl (lv_room hW) hdg hf
  rw [if_neg h14] at hc
  by_cases h15 : hT σ x0 = some (.inl 15)
  · rw [if_pos h15] at hc
    exact va_runU (C := RX15) (x := ⟨"PalaceOfRooms$Line", "room", "(I)I"⟩) (As := [.int x1]) (rest := rest) (cfX X) (c_X12_room_15 l hc) (va_cwU (owner := RX12) 1 X.2.2.2.2.1 (lw_app (lw_in _ [720, 722, 724, 721, 69] (by decide +kernel) (by decide +kernel)) (lw_meth q730)) rfl rfl rfl rfl yd_X12_room ⟨Nat.le_trans (Nat.le_of_ble_eq_true rfl) hR.1, Nat.le_trans (Nat.le_of_ble_eq_true rfl) hR.2⟩) (preV X hV h15 rfl) rfl rfl hsz rfl (lv_room hW) hdg hf
  rw [if_neg h15] at hc
  by_cases h16 : hT σ x0 = some (.inl 16)
  · rw [if_pos h16] at hc
    exact va_runU (C := RX16) (x := ⟨"PalaceOfRooms$Line", "room", "(I)I"⟩) (As := [.int x1]) (rest := rest) (cfX X) (c_X12_room_16 l hc) (va_cwU (owner := RX12) 1 X.2.2.2.2.1 (lw_app (lw_in _ [720, 722, 725, 721, 69] (by decide +kernel) (by decide +kernel)) (lw_meth q730)) rfl rfl rfl rfl yd_X12_room ⟨Nat.le_trans (Nat.le_of_ble_eq_true rfl) hR.1, Nat.le_trans (Nat.le_of_ble_eq_true rfl) hR.2⟩) (preV X hV h16 rfl) rfl rfl hsz rfl (lv_room hW) hdg hf
  rw [if_neg h16] at hc
  cases hc
abbrev rm_X0_roomFor : Room := { frames := 2, cells := 0, slots := 0, locals := 42 }
set_option maxHeartbeats 4000000 in
theorem w_X0_roomFor_4_b {p : Program} {l : Launch} {e : Env} {s : State} {m : MethodId} {args : Array Value} {below : List Frame} {meth : Method} {c : Code} {g : Gl} (X : FX g p m c s args meth cX0_roomFor 4 RX0 (some .int) "roomFor") {r : Int32 × Hp} {rec4 : Hp × Int32 × Int32 → Option (Int32 × Hp)} {x0 : Nat} {x1 : Int32} {σ : Hp} {x2 : Int32} {x3 : Int32} (hr4 : ∀ (st : Hp × Int32 × Int32), rec4 st = some r → ∀ (H : Heap) (locs : List Loc) (ls : Array Slot), HV g st.1 H → FR g locs → lv_has ls 4 [(0, .ref x0), (1, .int x1), (2, .int st.2.1), (3, .int st.2.2)] → W p l e rm_X0_roomFor s m args below meth c H locs 0 0 (MQ below (Qi g r) args s 0 0 (frN g)) (F0 m 4 ls [])) {H : Heap} {locs : List Loc} {ls : Array Slot} (h : B_X0_roomFor_4 x0 x1 rec4 σ x2 x3 = some r) (hV : HV g σ H) (hF : FR g locs) (hl : lv_has ls 4 [(0, .ref x0), (1, .int x1), (2, .int x2), (3, .int x3)]) : W p l e rm_X0_roomFor s m args below meth c H locs 0 0 (MQ below (Qi g r) args s 0 0 (frN g)) (F0 m 4 ls []) := by
  unfold B_X0_roomFor_4 at h
  refine lv_iload_n X.1 X.2.1 dX0_roomFor_4 rfl (lv_at hl 3 rfl) ?_
  refine lv_aload_n X.1 X.2.1 dX0_roomFor_5 rfl (lv_at hl 0 rfl) ?_
  refine r_gI X hV fl_X0_212_0 dX0_roomFor_6 h (fun v1 h => ?_)
  refine r_ge (tgt := 47) X.1 X.2.1 dX0_roomFor_9 (by decide) h (fun h => ?_) (fun h => ?_)
  · refine lv_iload_n X.1 X.2.1 dX0_roomFor_47 rfl (lv_at hl 2 rfl) ?_
    exact r_iret X hV hF h dX0_roomFor_48
  · refine lv_aload_n X.1 X.2.1 dX0_roomFor_12 rfl (lv_at hl 0 rfl) ?_
    refine r_gR X hV fl_X0_55_0 (by decide) dX0_roomFor_13 h (fun v2 h => ?_)
    refine lv_iload_n X.1 X.2.1 dX0_roomFor_16 rfl (lv_at hl 3 rfl) ?_
    refine r_aa X hV dX0_roomFor_17 (by decide) h (fun v3 h => ?_)
    refine lv_iload_n X.1 X.2.1 dX0_roomFor_18 rfl (lv_at hl 1 rfl) ?_
    obtain ⟨v4, s1, hc, h⟩ := b2_inv h
    refine r_ci (dsp_X0_215 (rest := []) X hV hc hl.1 ⟨Nat.le_of_ble_eq_true rfl, Nat.le_of_ble_eq_true rfl⟩ (Nat.le_of_ble_eq_true rfl) dX0_roomFor_19 ⟨Nat.le_of_ble_eq_true rfl, Nat.le_of_ble_eq_true rfl⟩) hF (fun H locs hV hF => ?_)
    refine lv_iconst (v := (-1)) X.1 X.2.1 dX0_roomFor_22 (by decide) ?_
    refine r_ne (tgt := 30) X.1 X.2.1 dX0_roomFor_23 (by decide) h (fun h => ?_) (fun h => ?_)
    · refine lv_aload_n X.1 X.2.1 dX0_roomFor_30 rfl (lv_at hl 0 rfl) ?_
      refine r_gR X hV fl_X0_55_0 (by decide) dX0_roomFor_31 h (fun v5 h => ?_)
      refine lv_iload_n X.1 X.2.1 dX0_roomFor_34 rfl (lv_at hl 3 rfl) ?_
      refine r_aa X hV dX0_roomFor_35 (by decide) h (fun v6 h => ?_)
      refine lv_iload_n X.1 X.2.1 dX0_roomFor_36 rfl (lv_at hl 1 rfl) ?_
      obtain ⟨v7, s2, hc, h⟩ := b2_inv h
      refine r_ci (dsp_X0_215 (rest := []) X hV hc hl.1 ⟨Nat.le_of_ble_eq_true rfl, Nat.le_of_ble_eq_true rfl⟩ (Nat.le_of_ble_eq_true rfl) dX0_roomFor_37 ⟨Nat.le_of_ble_eq_true rfl, Nat.le_of_ble_eq_true rfl⟩) hF (fun H locs hV hF => ?_)
      refine lv_istore_n (lv' := [(2, .int v7), (0, .ref x0), (1, .int x1), (3, .int x3)]) X.1 X.2.1 dX0_roomFor_40 rfl hl (by decide) rfl (fun ls hl => ?_)
      refine lv_iinc (v := x3 + 1) (lv' := [(3, .int (x3 + 1)), (2, .int v7), (0, .ref x0), (1, .int x1)]) X.1 X.2.1 dX0_roomFor_41 hl (k := 3) rfl rfl (by decide) rfl (fun ls hl => ?_)
      refine lv_goto (tgt := 4) X.1 X.2.1 dX0_roomFor_44 (by decide) ?_
      exact hr4 (s2, v7, x3 + 1) h _ _ _ hV hF (lv_sub hl [2, 3, 1, 0] rfl)
    · refine lv_iload_n X.1 X.2.1 dX0_roomFor_26 rfl (lv_at hl 2 rfl) ?_
      refine lv_goto (tgt := 40) X.1 X.2.1 dX0_roomFor_27 (by decide) ?_
      refine lv_istore_n (lv' := [(2, .int x2), (0, .ref x0), (1, .int x1), (3, .int x3)]) X.1 X.2.1 dX0_roomFor_40 rfl hl (by decide) rfl (fun ls hl => ?_)
      refine lv_iinc (v := x3 + 1) (lv' := [(3, .int (x3 + 1)), (2, .int x2), (0, .ref x0), (1, .int x1)]) X.1 X.2.1 dX0_roomFor_41 hl (k := 3) rfl rfl (by decide) rfl (fun ls hl => ?_)
      refine lv_goto (tgt := 4) X.1 X.2.1 dX0_roomFor_44 (by decide) ?_
      exact hr4 (s1, x2, x3 + 1) h _ _ _ hV hF (lv_sub hl [2, 3, 1, 0] rfl)
set_option maxHeartbeats 4000000 in
theorem w_X0_roomFor_4 {p : Program} {l : Launch} {e : Env} {s : State} {m : MethodId} {args : Array Value} {below : List Frame} {meth : Method} {c : Code} {g : Gl} (X : FX g p m c s args meth cX0_roomFor 4 RX0 (some .int) "roomFor") {r : Int32 × Hp} {x0 : Nat} {x1 : Int32}  : ∀ (n : Nat) (st : Hp × Int32 × Int32), L_X0_roomFor_4 x0 x1 n st = some r → ∀ (H : Heap) (locs : List Loc) (ls : Array Slot), HV g st.1 H → FR g locs → lv_has ls 4 [(0, .ref x0), (1, .int x1), (2, .int st.2.1), (3, .int st.2.2)] → W p l e rm_X0_roomFor s m args below meth c H locs 0 0 (MQ below (Qi g r) args s 0 0 (frN g)) (F0 m 4 ls []) := by
  intro n
  induction n with
  | zero =>
    intro st h
    rw [L_X0_roomFor_4_0] at h
    cases h
  | succ n ih =>
    intro st h H locs ls hV hF hl
    rw [L_X0_roomFor_4_s] at h
    exact w_X0_roomFor_4_b X  ih h hV hF hl
set_option maxHeartbeats 4000000 in
theorem c_X0_roomFor (l : Launch) {g : Gl} {σ : Hp} {x0 : Nat} {x1 : Int32} {r : Int32 × Hp} (h : F_X0_roomFor σ x0 x1 = some r) : Met l yX0_roomFor (ws_ yX0_roomFor cX0_roomFor 4 (some .int)) rm_X0_roomFor (va_Pc [.ref x0, .int x1] (WV g σ)) (Qi g r) 0 0 (frN g) := by
  refine ct_of (by decide) (Nat.le_of_ble_eq_true rfl) ?_
  intro p e s m below meth c ls X hV hl
  have hF : FR g [] := FR_nil
  unfold F_X0_roomFor at h
  have hl : lv_has ls 4 [(0, .ref x0), (1, .int x1)] := hl
  have X : FX g p m c s _ meth cX0_roomFor 4 RX0 (some .int) "roomFor" := X
  obtain ⟨-, h⟩ := gd_inv h
  refine lv_iconst (v := (-1)) X.1 X.2.1 dX0_roomFor_0 (by decide) ?_
  refine lv_istore_n (lv' := [(2, .int (-1)), (0, .ref x0), (1, .int x1)]) X.1 X.2.1 dX0_roomFor_1 rfl hl (by decide) rfl (fun ls hl => ?_)
  refine lv_iconst (v := 0) X.1 X.2.1 dX0_roomFor_2 (by decide) ?_
  refine lv_istore_n (lv' := [(3, .int 0), (2, .int (-1)), (0, .ref x0), (1, .int x1)]) X.1 X.2.1 dX0_roomFor_3 rfl hl (by decide) rfl (fun ls hl => ?_)
  exact w_X0_roomFor_4 X  FU (σ, (-1), 0) h _ _ _ hV hF (lv_sub hl [2, 3, 1, 0] rfl)
/-! PalaceOfRooms$House.held -/
theorem dX1_held_0 : decode cX1_held 0 = .ok (.iconst 0, 1) := by decide +kernel
theorem dX1_held_1 : decode cX1_held 1 = .ok (.istore_n 2, 1) := by decide +kernel
theorem dX1_held_2 : decode cX1_held 2 = .ok (.iload_n 1, 1) := by decide +kernel
theorem dX1_held_3 : decode cX1_held 3 = .ok (.bipush 6, 2) := by decide +kernel
theorem dX1_held_5 : decode cX1_held 5 = .ok (.imul, 1) := by decide +kernel
theorem dX1_held_6 : decode cX1_held 6 = .ok (.istore_n 3, 1) := by decide +kernel
theorem dX1_held_7 : decode cX1_held 7 = .ok (.iload_n 3, 1) := by decide +kernel
theorem dX1_held_8 : decode cX1_held 8 = .ok (.iload_n 1, 1) := by decide +kernel
theorem dX1_held_9 : decode cX1_held 9 = .ok (.iconst 1, 1) := by decide +kernel
theorem dX1_held_10 : decode cX1_held 10 = .ok (.iadd, 1) := by decide +kernel
theorem dX1_held_11 : decode cX1_held 11 = .ok (.bipush 6, 2) := by decide +kernel
theorem dX1_held_13 : decode cX1_held 13 = .ok (.imul, 1) := by decide +kernel
theorem dX1_held_14 : decode cX1_held 14 = .ok (.if_icmp .ge 29, 3) := by decide +kernel
theorem dX1_held_17 : decode cX1_held 17 = .ok (.iload_n 2, 1) := by decide +kernel
theorem dX1_held_18 : decode cX1_held 18 = .ok (.aload_n 0, 1) := by decide +kernel
theorem dX1_held_19 : decode cX1_held 19 = .ok (.getfield 17, 3) := by decide +kernel
theorem dX1_held_22 : decode cX1_held 22 = .ok (.iload_n 3, 1) := by decide +kernel
theorem dX1_held_23 : decode cX1_held 23 = .ok (.aaload, 1) := by decide +kernel
theorem dX1_held_24 : decode cX1_held 24 = .ok (.invokevirtual 26, 3) := by decide +kernel
theorem dX1_held_27 : decode cX1_held 27 = .ok (.ifCond .eq 7, 3) := by decide +kernel
theorem dX1_held_30 : decode cX1_held 30 = .ok (.iconst 1, 1) := by decide +kernel
theorem dX1_held_31 : decode cX1_held 31 = .ok (.goto 4, 3) := by decide +kernel
theorem dX1_held_34 : decode cX1_held 34 = .ok (.iconst 0, 1) := by decide +kernel
theorem dX1_held_35 : decode cX1_held 35 = .ok (.iadd, 1) := by decide +kernel
theorem dX1_held_36 : decode cX1_held 36 = .ok (.istore_n 2, 1) := by decide +kernel
theorem dX1_held_37 : decode cX1_held 37 = .ok (.iinc 3 1, 3) := by decide +kernel
theorem dX1_held_40 : decode cX1_held 40 = .ok (.goto (-33), 3) := by decide +kernel
theorem dX1_held_43 : decode cX1_held 43 = .ok (.iload_n 2, 1) := by decide +kernel
theorem dX1_held_44 : decode cX1_held 44 = .ok (.ireturn, 1) := by decide +kernel
theorem yd_X1_held : yX1_held.cls ≠ "java/lang/invoke/MethodHandle" ∧ yX1_held.cls ≠ "java/lang/invoke/VarHandle" ∧ (parseMethodDescriptor yX1_held.desc).map (fun d => d.parameters.length) = some 1 := by decide +kernel
abbrev rm_X1_held : Room := { frames := 1, cells := 0, slots := 0, locals := 20 }
set_option maxHeartbeats 4000000 in
theorem w_X1_held_7_b {p : Program} {l : Launch} {e : Env} {s : State} {m : MethodId} {args : Array Value} {below : List Frame} {meth : Method} {c : Code} {g : Gl} (X : FX g p m c s args meth cX1_held 4 RX1 (some .int) "held") {r : Int32 × Hp} {rec7 : Hp × Int32 × Int32 → Option (Int32 × Hp)} {x0 : Nat} {x1 : Int32} {σ : Hp} {x2 : Int32} {x3 : Int32} (hr7 : ∀ (st : Hp × Int32 × Int32), rec7 st = some r → ∀ (H : Heap) (locs : List Loc) (ls : Array Slot), HV g st.1 H → FR g locs → lv_has ls 4 [(0, .ref x0), (1, .int x1), (2, .int st.2.1), (3, .int st.2.2)] → W p l e rm_X1_held s m args below meth c H locs 0 0 (MQ below (Qi g r) args s 0 0 (frN g)) (F0 m 7 ls [])) {H : Heap} {locs : List Loc} {ls : Array Slot} (h : B_X1_held_7 x0 x1 rec7 σ x2 x3 = some r) (hV : HV g σ H) (hF : FR g locs) (hl : lv_has ls 4 [(0, .ref x0), (1, .int x1), (2, .int x2), (3, .int x3)]) : W p l e rm_X1_held s m args below meth c H locs 0 0 (MQ below (Qi g r) args s 0 0 (frN g)) (F0 m 7 ls []) := by
  unfold B_X1_held_7 at h
  refine lv_iload_n X.1 X.2.1 dX1_held_7 rfl (lv_at hl 3 rfl) ?_
  refine lv_iload_n X.1 X.2.1 dX1_held_8 rfl (lv_at hl 1 rfl) ?_
  refine lv_iconst (v := 1) X.1 X.2.1 dX1_held_9 (by decide) ?_
  refine lv_iadd X.1 X.2.1 dX1_held_10 ?_
  refine lv_bipush (v := 6) X.1 X.2.1 dX1_held_11 (by decide) ?_
  refine lv_imul X.1 X.2.1 dX1_held_13 ?_
  refine r_ge (tgt := 43) X.1 X.2.1 dX1_held_14 (by decide) h (fun h => ?_) (fun h => ?_)
  · refine lv_iload_n X.1 X.2.1 dX1_held_43 rfl (lv_at hl 2 rfl) ?_
    exact r_iret X hV hF h dX1_held_44
  · refine lv_iload_n X.1 X.2.1 dX1_held_17 rfl (lv_at hl 2 rfl) ?_
    refine lv_aload_n X.1 X.2.1 dX1_held_18 rfl (lv_at hl 0 rfl) ?_
    refine r_gR X hV fl_X1_17_1 (by decide) dX1_held_19 h (fun v1 h => ?_)
    refine lv_iload_n X.1 X.2.1 dX1_held_22 rfl (lv_at hl 3 rfl) ?_
    refine r_aa X hV dX1_held_23 (by decide) h (fun v2 h => ?_)
    obtain ⟨v3, s1, hc, h⟩ := b2_inv h
    refine r_ci (va_runU (C := RX3) (x := ⟨"PalaceOfRooms$Corner", "isThere", "()Z"⟩) (As := []) (rest := [.int x2]) (cfX X) (c_X2_isThere_3 l hc) (va_cwU (owner := RX2) 0 X.2.2.2.2.1 (lw_app (lw_in _ [436, 407, 409, 410, 51] (by decide +kernel) (by decide +kernel)) (lw_meth q411)) rfl rfl rfl rfl yd_X2_isThere ⟨Nat.le_of_ble_eq_true rfl, Nat.le_of_ble_eq_true rfl⟩) (preV X hV (F_X2_isThere_3_g hc) rfl) rfl rfl hl.1 rfl (lv_room (Nat.le_of_ble_eq_true rfl)) dX1_held_24 ⟨(Nat.le_of_ble_eq_true rfl), (Nat.le_of_ble_eq_true rfl)⟩) hF (fun H locs hV hF => ?_)
    refine r_ifeq (tgt := 34) X.1 X.2.1 dX1_held_27 (by decide) h (fun h => ?_) (fun h => ?_)
    · refine lv_iconst (v := 0) X.1 X.2.1 dX1_held_34 (by decide) ?_
      refine lv_iadd X.1 X.2.1 dX1_held_35 ?_
      refine lv_istore_n (lv' := [(2, .int (x2 + 0)), (0, .ref x0), (1, .int x1), (3, .int x3)]) X.1 X.2.1 dX1_held_36 rfl hl (by decide) rfl (fun ls hl => ?_)
      refine lv_iinc (v := x3 + 1) (lv' := [(3, .int (x3 + 1)), (2, .int (x2 + 0)), (0, .ref x0), (1, .int x1)]) X.1 X.2.1 dX1_held_37 hl (k := 3) rfl rfl (by decide) rfl (fun ls hl => ?_)
      refine lv_goto (tgt := 7) X.1 X.2.1 dX1_held_40 (by decide) ?_
      exact hr7 (s1, x2 + 0, x3 + 1) h _ _ _ hV hF (lv_sub hl [2, 3, 1, 0] rfl)
    · refine lv_iconst (v := 1) X.1 X.2.1 dX1_held_30 (by decide) ?_
      refine lv_goto (tgt := 35) X.1 X.2.1 dX1_held_31 (by decide) ?_
      refine lv_iadd X.1 X.2.1 dX1_held_35 ?_
      refine lv_istore_n (lv' := [(2, .int (x2 + 1)), (0, .ref x0), (1, .int x1), (3, .int x3)]) X.1 X.2.1 dX1_held_36 rfl hl (by decide) rfl (fun ls hl => ?_)
      refine lv_iinc (v := x3 + 1) (lv' := [(3, .int (x3 + 1)), (2, .int (x2 + 1)), (0, .ref x0), (1, .int x1)]) X.1 X.2.1 dX1_held_37 hl (k := 3) rfl rfl (by decide) rfl (fun ls hl => ?_)
      refine lv_goto (tgt := 7) X.1 X.2.1 dX1_held_40 (by decide) ?_
      exact hr7 (s1, x2 + 1, x3 + 1) h _ _ _ hV hF (lv_sub hl [2, 3, 1, 0] rfl)
set_option maxHeartbeats 4000000 in
theorem w_X1_held_7 {p : Program} {l : Launch} {e : Env} {s : State} {m : MethodId} {args : Array Value} {below : List Frame} {meth : Method} {c : Code} {g : Gl} (X : FX g p m c s args meth cX1_held 4 RX1 (some .int) "held") {r : Int32 × Hp} {x0 : Nat} {x1 : Int32}  : ∀ (n : Nat) (st : Hp × Int32 × Int32), L_X1_held_7 x0 x1 n st = some r → ∀ (H : Heap) (locs : List Loc) (ls : Array Slot), HV g st.1 H → FR g locs → lv_has ls 4 [(0, .ref x0), (1, .int x1), (2, .int st.2.1), (3, .int st.2.2)] → W p l e rm_X1_held s m args below meth c H locs 0 0 (MQ below (Qi g r) args s 0 0 (frN g)) (F0 m 7 ls []) := by
  intro n
  induction n with
  | zero =>
    intro st h
    rw [L_X1_held_7_0] at h
    cases h
  | succ n ih =>
    intro st h H locs ls hV hF hl
    rw [L_X1_held_7_s] at h
    exact w_X1_held_7_b X  ih h hV hF hl
set_option maxHeartbeats 4000000 in
theorem c_X1_held (l : Launch) {g : Gl} {σ : Hp} {x0 : Nat} {x1 : Int32} {r : Int32 × Hp} (h : F_X1_held σ x0 x1 = some r) : Met l yX1_held (ws_ yX1_held cX1_held 4 (some .int)) rm_X1_held (va_Pc [.ref x0, .int x1] (WV g σ)) (Qi g r) 0 0 (frN g) := by
  refine ct_of (by decide) (Nat.le_of_ble_eq_true rfl) ?_
  intro p e s m below meth c ls X hV hl
  have hF : FR g [] := FR_nil
  unfold F_X1_held at h
  have hl : lv_has ls 4 [(0, .ref x0), (1, .int x1)] := hl
  have X : FX g p m c s _ meth cX1_held 4 RX1 (some .int) "held" := X
  obtain ⟨-, h⟩ := gd_inv h
  refine lv_iconst (v := 0) X.1 X.2.1 dX1_held_0 (by decide) ?_
  refine lv_istore_n (lv' := [(2, .int 0), (0, .ref x0), (1, .int x1)]) X.1 X.2.1 dX1_held_1 rfl hl (by decide) rfl (fun ls hl => ?_)
  refine lv_iload_n X.1 X.2.1 dX1_held_2 rfl (lv_at hl 2 rfl) ?_
  refine lv_bipush (v := 6) X.1 X.2.1 dX1_held_3 (by decide) ?_
  refine lv_imul X.1 X.2.1 dX1_held_5 ?_
  refine lv_istore_n (lv' := [(3, .int (x1 * 6)), (2, .int 0), (0, .ref x0), (1, .int x1)]) X.1 X.2.1 dX1_held_6 rfl hl (by decide) rfl (fun ls hl => ?_)
  exact w_X1_held_7 X  FU (σ, 0, x1 * 6) h _ _ _ hV hF (lv_sub hl [2, 3, 1, 0] rfl)
/-! PalaceOfRooms.crowds -/
theorem dX0_crowds_0 : decode cX0_crowds 0 = .ok (.iload_n 3, 1) := by decide +kernel
theorem dX0_crowds_1 : decode cX0_crowds 1 = .ok (.i2l, 1) := by decide +kernel
theorem dX0_crowds_2 : decode cX0_crowds 2 = .ok (.lconst 0, 1) := by decide +kernel
theorem dX0_crowds_3 : decode cX0_crowds 3 = .ok (.ldc2_w 218, 3) := by decide +kernel
theorem dX0_crowds_6 : decode cX0_crowds 6 = .ok (.invokestatic 5, 3) := by decide +kernel
theorem dX0_crowds_9 : decode cX0_crowds 9 = .ok (.ifCond .ne 5, 3) := by decide +kernel
theorem dX0_crowds_12 : decode cX0_crowds 12 = .ok (.iconst 0, 1) := by decide +kernel
theorem dX0_crowds_13 : decode cX0_crowds 13 = .ok (.ireturn, 1) := by decide +kernel
theorem dX0_crowds_14 : decode cX0_crowds 14 = .ok (.aload_n 0, 1) := by decide +kernel
theorem dX0_crowds_15 : decode cX0_crowds 15 = .ok (.getfield 43, 3) := by decide +kernel
theorem dX0_crowds_18 : decode cX0_crowds 18 = .ok (.getfield 138, 3) := by decide +kernel
theorem dX0_crowds_21 : decode cX0_crowds 21 = .ok (.bipush 6, 2) := by decide +kernel
theorem dX0_crowds_23 : decode cX0_crowds 23 = .ok (.iload_n 2, 1) := by decide +kernel
theorem dX0_crowds_24 : decode cX0_crowds 24 = .ok (.imul, 1) := by decide +kernel
theorem dX0_crowds_25 : decode cX0_crowds 25 = .ok (.iload_n 3, 1) := by decide +kernel
theorem dX0_crowds_26 : decode cX0_crowds 26 = .ok (.iadd, 1) := by decide +kernel
theorem dX0_crowds_27 : decode cX0_crowds 27 = .ok (.aaload, 1) := by decide +kernel
theorem dX0_crowds_28 : decode cX0_crowds 28 = .ok (.astore 5, 2) := by decide +kernel
theorem dX0_crowds_30 : decode cX0_crowds 30 = .ok (.aload 5, 2) := by decide +kernel
theorem dX0_crowds_32 : decode cX0_crowds 32 = .ok (.invokevirtual 159, 3) := by decide +kernel
theorem dX0_crowds_35 : decode cX0_crowds 35 = .ok (.ifCond .eq 22, 3) := by decide +kernel
theorem dX0_crowds_38 : decode cX0_crowds 38 = .ok (.aload_n 0, 1) := by decide +kernel
theorem dX0_crowds_39 : decode cX0_crowds 39 = .ok (.iload_n 1, 1) := by decide +kernel
theorem dX0_crowds_40 : decode cX0_crowds 40 = .ok (.aload 5, 2) := by decide +kernel
theorem dX0_crowds_42 : decode cX0_crowds 42 = .ok (.getfield 142, 3) := by decide +kernel
theorem dX0_crowds_45 : decode cX0_crowds 45 = .ok (.invokevirtual 127, 3) := by decide +kernel
theorem dX0_crowds_48 : decode cX0_crowds 48 = .ok (.iload 4, 2) := by decide +kernel
theorem dX0_crowds_50 : decode cX0_crowds 50 = .ok (.if_icmp .le 7, 3) := by decide +kernel
theorem dX0_crowds_53 : decode cX0_crowds 53 = .ok (.iconst 1, 1) := by decide +kernel
theorem dX0_crowds_54 : decode cX0_crowds 54 = .ok (.goto 4, 3) := by decide +kernel
theorem dX0_crowds_57 : decode cX0_crowds 57 = .ok (.iconst 0, 1) := by decide +kernel
theorem dX0_crowds_58 : decode cX0_crowds 58 = .ok (.ireturn, 1) := by decide +kernel
theorem yd_X0_crowds : yX0_crowds.cls ≠ "java/lang/invoke/MethodHandle" ∧ yX0_crowds.cls ≠ "java/lang/invoke/VarHandle" ∧ (parseMethodDescriptor yX0_crowds.desc).map (fun d => d.parameters.length) = some 4 := by decide +kernel
abbrev rm_X0_crowds : Room := { frames := 2, cells := 0, slots := 0, locals := 42 }
set_option maxHeartbeats 4000000 in
theorem c_X0_crowds (l : Launch) {g : Gl} {σ : Hp} {x0 : Nat} {x1 : Int32} {x2 : Int32} {x3 : Int32} {x4 : Int32} {r : Int32 × Hp} (h : F_X0_crowds σ x0 x1 x2 x3 x4 = some r) : Met l yX0_crowds (ws_ yX0_crowds cX0_crowds 6 (some .boolean)) rm_X0_crowds (va_Pc [.ref x0, .int x1, .int x2, .int x3, .int x4] (WV g σ)) (Qi g r) 0 0 (frN g) := by
  refine ct_of (by decide) (Nat.le_of_ble_eq_true rfl) ?_
  intro p e s m below meth c ls X hV hl
  have hF : FR g [] := FR_nil
  unfold F_X0_crowds at h
  have hl : lv_has ls 6 [(0, .ref x0), (1, .int x1), (2, .int x2), (3, .int x3), (4, .int x4)] := hl
  have X : FX g p m c s _ meth cX0_crowds 6 RX0 (some .boolean) "crowds" := X
  obtain ⟨-, h⟩ := gd_inv h
  refine lv_iload_n X.1 X.2.1 dX0_crowds_0 rfl (lv_at hl 3 rfl) ?_
  refine lv_i2l (v := (x3 : Int32).toInt64) X.1 X.2.1 dX0_crowds_1 rfl ?_
  refine lv_lconst (v := 0) X.1 X.2.1 dX0_crowds_2 (by decide) ?_
  refine lv_ldc2 (v := 5) X.1 X.2.1 X.2.2.2.1 (X.2.2.2.2.1 _ q739) dX0_crowds_3 ?_
  obtain ⟨v1, s1, hc, h⟩ := b2_inv h
  refine r_ci (va_runS (As := [.long ((x3 : Int32).toInt64), .long 0, .long 5]) (rest := []) (cfX X) (c_X0_isIn l hc) (va_cwS 3 X.2.2.2.2.1 (lw_S q331 q332 q49 q333) rfl rfl rfl yd_X0_isIn ⟨Nat.le_of_ble_eq_true rfl, Nat.le_of_ble_eq_true rfl⟩) (preS X hV) rfl rfl hl.1 rfl (lv_room (Nat.le_of_ble_eq_true rfl)) dX0_crowds_6 ⟨(Nat.le_of_ble_eq_true rfl), (Nat.le_of_ble_eq_true rfl)⟩) hF (fun H locs hV hF => ?_)
  refine r_ifne (tgt := 14) X.1 X.2.1 dX0_crowds_9 (by decide) h (fun h => ?_) (fun h => ?_)
  · refine lv_aload_n X.1 X.2.1 dX0_crowds_14 rfl (lv_at hl 0 rfl) ?_
    refine r_gR X hV fl_X0_43_0 (by decide) dX0_crowds_15 h (fun v2 h => ?_)
    refine r_gR X hV fl_X0_138_1 (by decide) dX0_crowds_18 h (fun v3 h => ?_)
    refine lv_bipush (v := 6) X.1 X.2.1 dX0_crowds_21 (by decide) ?_
    refine lv_iload_n X.1 X.2.1 dX0_crowds_23 rfl (lv_at hl 2 rfl) ?_
    refine lv_imul X.1 X.2.1 dX0_crowds_24 ?_
    refine lv_iload_n X.1 X.2.1 dX0_crowds_25 rfl (lv_at hl 3 rfl) ?_
    refine lv_iadd X.1 X.2.1 dX0_crowds_26 ?_
    refine r_aa X hV dX0_crowds_27 (by decide) h (fun v4 h => ?_)
    refine lv_astore (lv' := [(5, .ref v4), (0, .ref x0), (1, .int x1), (2, .int x2), (3, .int x3), (4, .int x4)]) X.1 X.2.1 dX0_crowds_28 hl (by decide) rfl (fun ls hl => ?_)
    refine lv_aload X.1 X.2.1 dX0_crowds_30 (lv_at hl 0 rfl) ?_
    obtain ⟨v5, s2, hc, h⟩ := b2_inv h
    refine r_ci (va_runU (C := RX3) (x := ⟨"PalaceOfRooms$Corner", "isThere", "()Z"⟩) (As := []) (rest := []) (cfX X) (c_X2_isThere_3 l hc) (va_cwU (owner := RX2) 0 X.2.2.2.2.1 (lw_app (lw_in _ [406, 407, 409, 410, 51] (by decide +kernel) (by decide +kernel)) (lw_meth q411)) rfl rfl rfl rfl yd_X2_isThere ⟨Nat.le_of_ble_eq_true rfl, Nat.le_of_ble_eq_true rfl⟩) (preV X hV (F_X2_isThere_3_g hc) rfl) rfl rfl hl.1 rfl (lv_room (Nat.le_of_ble_eq_true rfl)) dX0_crowds_32 ⟨(Nat.le_of_ble_eq_true rfl), (Nat.le_of_ble_eq_true rfl)⟩) hF (fun H locs hV hF => ?_)
    refine r_ifeq (tgt := 57) X.1 X.2.1 dX0_crowds_35 (by decide) h (fun h => ?_) (fun h => ?_)
    · refine lv_iconst (v := 0) X.1 X.2.1 dX0_crowds_57 (by decide) ?_
      exact r_zret X hV hF h rfl dX0_crowds_58
    · refine lv_aload_n X.1 X.2.1 dX0_crowds_38 rfl (lv_at hl 1 rfl) ?_
      refine lv_iload_n X.1 X.2.1 dX0_crowds_39 rfl (lv_at hl 2 rfl) ?_
      refine lv_aload X.1 X.2.1 dX0_crowds_40 (lv_at hl 0 rfl) ?_
      refine r_gI X hV fl_X0_142_3 dX0_crowds_42 h (fun v6 h => ?_)
      obtain ⟨v7, s3, hc, h⟩ := b2_inv h
      refine r_ci (va_runV (C := RX0) (As := [.int x1, .int v6]) (rest := []) (cfX X) (c_X0_likeness l hc) (cwV 2 X.2.2.2.2.1 (lw_V q355 q357 qs1 q49 q358) rfl rfl rfl ⟨rfl, yd_X0_likeness⟩ ⟨Nat.le_of_ble_eq_true rfl, Nat.le_of_ble_eq_true rfl⟩) (preV X hV (F_X0_likeness_g hc) rfl) rfl rfl hl.1 rfl (lv_room (Nat.le_of_ble_eq_true rfl)) dX0_crowds_45 ⟨(Nat.le_of_ble_eq_true rfl), (Nat.le_of_ble_eq_true rfl)⟩) hF (fun H locs hV hF => ?_)
      refine lv_iload X.1 X.2.1 dX0_crowds_48 (lv_at hl 5 rfl) ?_
      refine r_le (tgt := 57) X.1 X.2.1 dX0_crowds_50 (by decide) h (fun h => ?_) (fun h => ?_)
      · refine lv_iconst (v := 0) X.1 X.2.1 dX0_crowds_57 (by decide) ?_
        exact r_zret X hV hF h rfl dX0_crowds_58
      · refine lv_iconst (v := 1) X.1 X.2.1 dX0_crowds_53 (by decide) ?_
        refine lv_goto (tgt := 58) X.1 X.2.1 dX0_crowds_54 (by decide) ?_
        exact r_zret X hV hF h rfl dX0_crowds_58
  · refine lv_iconst (v := 0) X.1 X.2.1 dX0_crowds_12 (by decide) ?_
    exact r_zret X hV hF h rfl dX0_crowds_13
/-! PalaceOfRooms$Line.apart for classes {0: 13} -/
theorem dX12_apart_0 : decode cX12_apart 0 = .ok (.iconst (-1), 1) := by decide +kernel
theorem dX12_apart_1 : decode cX12_apart 1 = .ok (.ireturn, 1) := by decide +kernel
theorem yd_X12_apart : yX12_apart.cls ≠ "java/lang/invoke/MethodHandle" ∧ yX12_apart.cls ≠ "java/lang/invoke/VarHandle" ∧ (parseMethodDescriptor yX12_apart.desc).map (fun d => d.parameters.length) = some 0 := by decide +kernel
abbrev rm_X12_apart_13 : Room := { frames := 0, cells := 0, slots := 0, locals := 0 }
set_option maxHeartbeats 4000000 in
theorem c_X12_apart_13 (l : Launch) {g : Gl} {σ : Hp} {x0 : Nat} {r : Int32 × Hp} (h : F_X12_apart_13 σ x0 = some r) : Met l yX12_apart (ws_ yX12_apart cX12_apart 1 (some .int)) rm_X12_apart_13 (va_Pc [.ref x0] (WV g σ)) (Qi g r) 0 0 (frN g) := by
  refine ct_of (by decide) (Nat.le_of_ble_eq_true rfl) ?_
  intro p e s m below meth c ls X hV hl
  have hF : FR g [] := FR_nil
  unfold F_X12_apart_13 at h
  have hl : lv_has ls 1 [(0, .ref x0)] := hl
  have X : FX g p m c s _ meth cX12_apart 1 RX12 (some .int) "apart" := X
  obtain ⟨-, h⟩ := gd_inv h
  refine lv_iconst (v := (-1)) X.1 X.2.1 dX12_apart_0 (by decide) ?_
  exact r_iret X hV hF h dX12_apart_1
/-! PalaceOfRooms$Line.apart for classes {0: 14} -/
abbrev rm_X12_apart_14 : Room := { frames := 0, cells := 0, slots := 0, locals := 0 }
set_option maxHeartbeats 4000000 in
theorem c_X12_apart_14 (l : Launch) {g : Gl} {σ : Hp} {x0 : Nat} {r : Int32 × Hp} (h : F_X12_apart_14 σ x0 = some r) : Met l yX12_apart (ws_ yX12_apart cX12_apart 1 (some .int)) rm_X12_apart_14 (va_Pc [.ref x0] (WV g σ)) (Qi g r) 0 0 (frN g) := by
  refine ct_of (by decide) (Nat.le_of_ble_eq_true rfl) ?_
  intro p e s m below meth c ls X hV hl
  have hF : FR g [] := FR_nil
  unfold F_X12_apart_14 at h
  have hl : lv_has ls 1 [(0, .ref x0)] := hl
  have X : FX g p m c s _ meth cX12_apart 1 RX12 (some .int) "apart" := X
  obtain ⟨-, h⟩ := gd_inv h
  refine lv_iconst (v := (-1)) X.1 X.2.1 dX12_apart_0 (by decide) ?_
  exact r_iret X hV hF h dX12_apart_1
/-! PalaceOfRooms$Apart.apart -/
theorem dX15_apart_0 : decode cX15_apart 0 = .ok (.aload_n 0, 1) := by decide +kernel
theorem dX15_apart_1 : decode cX15_apart 1 = .ok (.getfield 7, 3) := by decide +kernel
theorem dX15_apart_4 : decode cX15_apart 4 = .ok (.ireturn, 1) := by decide +kernel
theorem yd_X15_apart : yX15_apart.cls ≠ "java/lang/invoke/MethodHandle" ∧ yX15_apart.cls ≠ "java/lang/invoke/VarHandle" ∧ (parseMethodDescriptor yX15_apart.desc).map (fun d => d.parameters.length) = some 0 := by decide +kernel
theorem fl_X15_7_15 : FLk RX15 7 15 0 "I" := ⟨RX15, TX15, 1, "PalaceOfRooms$Apart", rfl, by decide, (fun q => by have h1 := q.1; have h2 := q.2; omega), rfl, in_X15, Or.inl q667, Or.inl rfl⟩
abbrev rm_X15_apart : Room := { frames := 0, cells := 0, slots := 0, locals := 0 }
set_option maxHeartbeats 4000000 in
theorem c_X15_apart (l : Launch) {g : Gl} {σ : Hp} {x0 : Nat} {r : Int32 × Hp} (h : F_X15_apart σ x0 = some r) : Met l yX15_apart (ws_ yX15_apart cX15_apart 1 (some .int)) rm_X15_apart (va_Pc [.ref x0] (WV g σ)) (Qi g r) 0 0 (frN g) := by
  refine ct_of (by decide) (Nat.le_of_ble_eq_true rfl) ?_
  intro p e s m below meth c ls X hV hl
  have hF : FR g [] := FR_nil
  unfold F_X15_apart at h
  have hl : lv_has ls 1 [(0, .ref x0)] := hl
  have X : FX g p m c s _ meth cX15_apart 1 RX15 (some .int) "apart" := X
  obtain ⟨-, h⟩ := gd_inv h
  refine lv_aload_n X.1 X.2.1 dX15_apart_0 rfl (lv_at hl 0 rfl) ?_
  refine r_gI X hV fl_X15_7_15 dX15_apart_1 h (fun v1 h => ?_)
  exact r_iret X hV hF h dX15_apart_4
/-! PalaceOfRooms$Line.apart for classes {0: 16} -/
abbrev rm_X12_apart_16 : Room := { frames := 0, cells := 0, slots := 0, locals := 0 }
set_option maxHeartbeats 4000000 in
theorem c_X12_apart_16 (l : Launch) {g : Gl} {σ : Hp} {x0 : Nat} {r : Int32 × Hp} (h : F_X12_apart_16 σ x0 = some r) : Met l yX12_apart (ws_ yX12_apart cX12_apart 1 (some .int)) rm_X12_apart_16 (va_Pc [.ref x0] (WV g σ)) (Qi g r) 0 0 (frN g) := by
  refine ct_of (by decide) (Nat.le_of_ble_eq_true rfl) ?_
  intro p e s m below meth c ls X hV hl
  have hF : FR g [] := FR_nil
  unfold F_X12_apart_16 at h
  have hl : lv_has ls 1 [(0, .ref x0)] := hl
  have X : FX g p m c s _ meth cX12_apart 1 RX12 (some .int) "apart" := X
  obtain ⟨-, h⟩ := gd_inv h
  refine lv_iconst (v := (-1)) X.1 X.2.1 dX12_apart_0 (by decide) ?_
  exact r_iret X hV hF h dX12_apart_1
/-! PalaceOfRooms$Line.again for classes {0: 13} -/
theorem dX12_again_0 : decode cX12_again 0 = .ok (.iconst (-1), 1) := by decide +kernel
theorem dX12_again_1 : decode cX12_again 1 = .ok (.ireturn, 1) := by decide +kernel
theorem yd_X12_again : yX12_again.cls ≠ "java/lang/invoke/MethodHandle" ∧ yX12_again.cls ≠ "java/lang/invoke/VarHandle" ∧ (parseMethodDescriptor yX12_again.desc).map (fun d => d.parameters.length) = some 0 := by decide +kernel
abbrev rm_X12_again_13 : Room := { frames := 0, cells := 0, slots := 0, locals := 0 }
set_option maxHeartbeats 4000000 in
theorem c_X12_again_13 (l : Launch) {g : Gl} {σ : Hp} {x0 : Nat} {r : Int32 × Hp} (h : F_X12_again_13 σ x0 = some r) : Met l yX12_again (ws_ yX12_again cX12_again 1 (some .int)) rm_X12_again_13 (va_Pc [.ref x0] (WV g σ)) (Qi g r) 0 0 (frN g) := by
  refine ct_of (by decide) (Nat.le_of_ble_eq_true rfl) ?_
  intro p e s m below meth c ls X hV hl
  have hF : FR g [] := FR_nil
  unfold F_X12_again_13 at h
  have hl : lv_has ls 1 [(0, .ref x0)] := hl
  have X : FX g p m c s _ meth cX12_again 1 RX12 (some .int) "again" := X
  obtain ⟨-, h⟩ := gd_inv h
  refine lv_iconst (v := (-1)) X.1 X.2.1 dX12_again_0 (by decide) ?_
  exact r_iret X hV hF h dX12_again_1
/-! PalaceOfRooms$Again.again -/
theorem dX14_again_0 : decode cX14_again 0 = .ok (.aload_n 0, 1) := by decide +kernel
theorem dX14_again_1 : decode cX14_again 1 = .ok (.getfield 7, 3) := by decide +kernel
theorem dX14_again_4 : decode cX14_again 4 = .ok (.ireturn, 1) := by decide +kernel
theorem yd_X14_again : yX14_again.cls ≠ "java/lang/invoke/MethodHandle" ∧ yX14_again.cls ≠ "java/lang/invoke/VarHandle" ∧ (parseMethodDescriptor yX14_again.desc).map (fun d => d.parameters.length) = some 0 := by decide +kernel
theorem fl_X14_7_14 : FLk RX14 7 14 0 "I" := ⟨RX14, TX14, 1, "PalaceOfRooms$Again", rfl, by decide, (fun q => by have h1 := q.1; have h2 := q.2; omega), rfl, in_X14, Or.inl q656, Or.inl rfl⟩
abbrev rm_X14_again : Room := { frames := 0, cells := 0, slots := 0, locals := 0 }
set_option maxHeartbeats 4000000 in
theorem c_X14_again (l : Launch) {g : Gl} {σ : Hp} {x0 : Nat} {r : Int32 × Hp} (h : F_X14_again σ x0 = some r) : Met l yX14_again (ws_ yX14_again cX14_again 1 (some .int)) rm_X14_again (va_Pc [.ref x0] (WV g σ)) (Qi g r) 0 0 (frN g) := by
  refine ct_of (by decide) (Nat.le_of_ble_eq_true rfl) ?_
  intro p e s m below meth c ls X hV hl
  have hF : FR g [] := FR_nil
  unfold F_X14_again at h
  have hl : lv_has ls 1 [(0, .ref x0)] := hl
  have X : FX g p m c s _ meth cX14_again 1 RX14 (some .int) "again" := X
  obtain ⟨-, h⟩ := gd_inv h
  refine lv_aload_n X.1 X.2.1 dX14_again_0 rfl (lv_at hl 0 rfl) ?_
  refine r_gI X hV fl_X14_7_14 dX14_again_1 h (fun v1 h => ?_)
  exact r_iret X hV hF h dX14_again_4
/-! PalaceOfRooms$Line.again for classes {0: 15} -/
abbrev rm_X12_again_15 : Room := { frames := 0, cells := 0, slots := 0, locals := 0 }
set_option maxHeartbeats 4000000 in
theorem c_X12_again_15 (l : Launch) {g : Gl} {σ : Hp} {x0 : Nat} {r : Int32 × Hp} (h : F_X12_again_15 σ x0 = some r) : Met l yX12_again (ws_ yX12_again cX12_again 1 (some .int)) rm_X12_again_15 (va_Pc [.ref x0] (WV g σ)) (Qi g r) 0 0 (frN g) := by
  refine ct_of (by decide) (Nat.le_of_ble_eq_true rfl) ?_
  intro p e s m below meth c ls X hV hl
  have hF : FR g [] := FR_nil
  unfold F_X12_again_15 at h
  have hl : lv_has ls 1 [(0, .ref x0)] := hl
  have X : FX g p m c s _ meth cX12_again 1 RX12 (some .int) "again" := X
  obtain ⟨-, h⟩ := gd_inv h
  refine lv_iconst (v := (-1)) X.1 X.2.1 dX12_again_0 (by decide) ?_
  exact r_iret X hV hF h dX12_again_1
/-! PalaceOfRooms$Line.again for classes {0: 16} -/
abbrev rm_X12_again_16 : Room := { frames := 0, cells := 0, slots := 0, locals := 0 }
set_option maxHeartbeats 4000000 in
theorem c_X12_again_16 (l : Launch) {g : Gl} {σ : Hp} {x0 : Nat} {r : Int32 × Hp} (h : F_X12_again_16 σ x0 = some r) : Met l yX12_again (ws_ yX12_again cX12_again 1 (some .int)) rm_X12_again_16 (va_Pc [.ref x0] (WV g σ)) (Qi g r) 0 0 (frN g) := by
  refine ct_of (by decide) (Nat.le_of_ble_eq_true rfl) ?_
  intro p e s m below meth c ls X hV hl
  have hF : FR g [] := FR_nil
  unfold F_X12_again_16 at h
  have hl : lv_has ls 1 [(0, .ref x0)] := hl
  have X : FX g p m c s _ meth cX12_again 1 RX12 (some .int) "again" := X
  obtain ⟨-, h⟩ := gd_inv h
  refine lv_iconst (v := (-1)) X.1 X.2.1 dX12_again_0 (by decide) ?_
  exact r_iret X hV hF h dX12_again_1
/-! PalaceOfRooms.bars -/
theorem dX0_bars_0 : decode cX0_bars 0 = .ok (.iload_n 1, 1) := by decide +kernel
theorem dX0_bars_1 : decode cX0_bars 1 = .ok (.invokestatic 116, 3) := by decide +kernel
theorem dX0_bars_4 : decode cX0_bars 4 = .ok (.ifCond .eq 10, 3) := by decide +kernel
theorem dX0_bars_7 : decode cX0_bars 7 = .ok (.iload_n 2, 1) := by decide +kernel
theorem dX0_bars_8 : decode cX0_bars 8 = .ok (.invokestatic 147, 3) := by decide +kernel
theorem dX0_bars_11 : decode cX0_bars 11 = .ok (.ifCond .ne 6, 3) := by decide +kernel
theorem dX0_bars_14 : decode cX0_bars 14 = .ok (.bipush (-2), 2) := by decide +kernel
theorem dX0_bars_16 : decode cX0_bars 16 = .ok (.ireturn, 1) := by decide +kernel
theorem dX0_bars_17 : decode cX0_bars 17 = .ok (.iload_n 2, 1) := by decide +kernel
theorem dX0_bars_18 : decode cX0_bars 18 = .ok (.bipush 6, 2) := by decide +kernel
theorem dX0_bars_20 : decode cX0_bars 20 = .ok (.idiv, 1) := by decide +kernel
theorem dX0_bars_21 : decode cX0_bars 21 = .ok (.istore_n 3, 1) := by decide +kernel
theorem dX0_bars_22 : decode cX0_bars 22 = .ok (.iload_n 2, 1) := by decide +kernel
theorem dX0_bars_23 : decode cX0_bars 23 = .ok (.bipush 6, 2) := by decide +kernel
theorem dX0_bars_25 : decode cX0_bars 25 = .ok (.irem, 1) := by decide +kernel
theorem dX0_bars_26 : decode cX0_bars 26 = .ok (.istore 4, 2) := by decide +kernel
theorem dX0_bars_28 : decode cX0_bars 28 = .ok (.iconst (-1), 1) := by decide +kernel
theorem dX0_bars_29 : decode cX0_bars 29 = .ok (.istore 5, 2) := by decide +kernel
theorem dX0_bars_31 : decode cX0_bars 31 = .ok (.iconst (-1), 1) := by decide +kernel
theorem dX0_bars_32 : decode cX0_bars 32 = .ok (.istore 6, 2) := by decide +kernel
theorem dX0_bars_34 : decode cX0_bars 34 = .ok (.iconst 0, 1) := by decide +kernel
theorem dX0_bars_35 : decode cX0_bars 35 = .ok (.istore 7, 2) := by decide +kernel
theorem dX0_bars_37 : decode cX0_bars 37 = .ok (.iload 7, 2) := by decide +kernel
theorem dX0_bars_39 : decode cX0_bars 39 = .ok (.aload_n 0, 1) := by decide +kernel
theorem dX0_bars_40 : decode cX0_bars 40 = .ok (.getfield 212, 3) := by decide +kernel
theorem dX0_bars_43 : decode cX0_bars 43 = .ok (.if_icmp .ge 71, 3) := by decide +kernel
theorem dX0_bars_46 : decode cX0_bars 46 = .ok (.aload_n 0, 1) := by decide +kernel
theorem dX0_bars_47 : decode cX0_bars 47 = .ok (.getfield 55, 3) := by decide +kernel
theorem dX0_bars_50 : decode cX0_bars 50 = .ok (.iload 7, 2) := by decide +kernel
theorem dX0_bars_52 : decode cX0_bars 52 = .ok (.aaload, 1) := by decide +kernel
theorem dX0_bars_53 : decode cX0_bars 53 = .ok (.invokevirtual 220, 3) := by decide +kernel
theorem dX0_bars_56 : decode cX0_bars 56 = .ok (.iconst (-1), 1) := by decide +kernel
theorem dX0_bars_57 : decode cX0_bars 57 = .ok (.if_icmp .ne 8, 3) := by decide +kernel
theorem dX0_bars_60 : decode cX0_bars 60 = .ok (.iload 5, 2) := by decide +kernel
theorem dX0_bars_62 : decode cX0_bars 62 = .ok (.goto 13, 3) := by decide +kernel
theorem dX0_bars_65 : decode cX0_bars 65 = .ok (.aload_n 0, 1) := by decide +kernel
theorem dX0_bars_66 : decode cX0_bars 66 = .ok (.getfield 55, 3) := by decide +kernel
theorem dX0_bars_69 : decode cX0_bars 69 = .ok (.iload 7, 2) := by decide +kernel
theorem dX0_bars_71 : decode cX0_bars 71 = .ok (.aaload, 1) := by decide +kernel
theorem dX0_bars_72 : decode cX0_bars 72 = .ok (.invokevirtual 220, 3) := by decide +kernel
theorem dX0_bars_75 : decode cX0_bars 75 = .ok (.istore 5, 2) := by decide +kernel
theorem dX0_bars_77 : decode cX0_bars 77 = .ok (.aload_n 0, 1) := by decide +kernel
theorem dX0_bars_78 : decode cX0_bars 78 = .ok (.getfield 55, 3) := by decide +kernel
theorem dX0_bars_81 : decode cX0_bars 81 = .ok (.iload 7, 2) := by decide +kernel
theorem dX0_bars_83 : decode cX0_bars 83 = .ok (.aaload, 1) := by decide +kernel
theorem dX0_bars_84 : decode cX0_bars 84 = .ok (.invokevirtual 223, 3) := by decide +kernel
theorem dX0_bars_87 : decode cX0_bars 87 = .ok (.iconst (-1), 1) := by decide +kernel
theorem dX0_bars_88 : decode cX0_bars 88 = .ok (.if_icmp .ne 8, 3) := by decide +kernel
theorem dX0_bars_91 : decode cX0_bars 91 = .ok (.iload 6, 2) := by decide +kernel
theorem dX0_bars_93 : decode cX0_bars 93 = .ok (.goto 13, 3) := by decide +kernel
theorem dX0_bars_96 : decode cX0_bars 96 = .ok (.aload_n 0, 1) := by decide +kernel
theorem dX0_bars_97 : decode cX0_bars 97 = .ok (.getfield 55, 3) := by decide +kernel
theorem dX0_bars_100 : decode cX0_bars 100 = .ok (.iload 7, 2) := by decide +kernel
theorem dX0_bars_102 : decode cX0_bars 102 = .ok (.aaload, 1) := by decide +kernel
theorem dX0_bars_103 : decode cX0_bars 103 = .ok (.invokevirtual 223, 3) := by decide +kernel
theorem dX0_bars_106 : decode cX0_bars 106 = .ok (.istore 6, 2) := by decide +kernel
theorem dX0_bars_108 : decode cX0_bars 108 = .ok (.iinc 7 1, 3) := by decide +kernel
theorem dX0_bars_111 : decode cX0_bars 111 = .ok (.goto (-74), 3) := by decide +kernel
theorem dX0_bars_114 : decode cX0_bars 114 = .ok (.aload_n 0, 1) := by decide +kernel
theorem dX0_bars_115 : decode cX0_bars 115 = .ok (.iload_n 3, 1) := by decide +kernel
theorem dX0_bars_116 : decode cX0_bars 116 = .ok (.invokevirtual 226, 3) := by decide +kernel
theorem dX0_bars_119 : decode cX0_bars 119 = .ok (.istore 7, 2) := by decide +kernel
theorem dX0_bars_121 : decode cX0_bars 121 = .ok (.aload_n 0, 1) := by decide +kernel
theorem dX0_bars_122 : decode cX0_bars 122 = .ok (.getfield 43, 3) := by decide +kernel
theorem dX0_bars_125 : decode cX0_bars 125 = .ok (.getfield 138, 3) := by decide +kernel
theorem dX0_bars_128 : decode cX0_bars 128 = .ok (.iload_n 2, 1) := by decide +kernel
theorem dX0_bars_129 : decode cX0_bars 129 = .ok (.aaload, 1) := by decide +kernel
theorem dX0_bars_130 : decode cX0_bars 130 = .ok (.getfield 180, 3) := by decide +kernel
theorem dX0_bars_133 : decode cX0_bars 133 = .ok (.istore 8, 2) := by decide +kernel
theorem dX0_bars_135 : decode cX0_bars 135 = .ok (.iload 7, 2) := by decide +kernel
theorem dX0_bars_137 : decode cX0_bars 137 = .ok (.iconst (-1), 1) := by decide +kernel
theorem dX0_bars_138 : decode cX0_bars 138 = .ok (.if_icmp .eq 20, 3) := by decide +kernel
theorem dX0_bars_141 : decode cX0_bars 141 = .ok (.aload_n 0, 1) := by decide +kernel
theorem dX0_bars_142 : decode cX0_bars 142 = .ok (.getfield 43, 3) := by decide +kernel
theorem dX0_bars_145 : decode cX0_bars 145 = .ok (.iload_n 3, 1) := by decide +kernel
theorem dX0_bars_146 : decode cX0_bars 146 = .ok (.invokevirtual 229, 3) := by decide +kernel
theorem dX0_bars_149 : decode cX0_bars 149 = .ok (.iload 7, 2) := by decide +kernel
theorem dX0_bars_151 : decode cX0_bars 151 = .ok (.if_icmp .lt 7, 3) := by decide +kernel
theorem dX0_bars_154 : decode cX0_bars 154 = .ok (.iconst 1, 1) := by decide +kernel
theorem dX0_bars_155 : decode cX0_bars 155 = .ok (.goto 4, 3) := by decide +kernel
theorem dX0_bars_158 : decode cX0_bars 158 = .ok (.iconst 0, 1) := by decide +kernel
theorem dX0_bars_159 : decode cX0_bars 159 = .ok (.istore 9, 2) := by decide +kernel
theorem dX0_bars_161 : decode cX0_bars 161 = .ok (.iload 9, 2) := by decide +kernel
theorem dX0_bars_163 : decode cX0_bars 163 = .ok (.iload 5, 2) := by decide +kernel
theorem dX0_bars_165 : decode cX0_bars 165 = .ok (.iconst (-1), 1) := by decide +kernel
theorem dX0_bars_166 : decode cX0_bars 166 = .ok (.if_icmp .eq 25, 3) := by decide +kernel
theorem dX0_bars_169 : decode cX0_bars 169 = .ok (.iload 8, 2) := by decide +kernel
theorem dX0_bars_171 : decode cX0_bars 171 = .ok (.iconst (-1), 1) := by decide +kernel
theorem dX0_bars_172 : decode cX0_bars 172 = .ok (.if_icmp .eq 19, 3) := by decide +kernel
theorem dX0_bars_175 : decode cX0_bars 175 = .ok (.aload_n 0, 1) := by decide +kernel
theorem dX0_bars_176 : decode cX0_bars 176 = .ok (.getfield 153, 3) := by decide +kernel
theorem dX0_bars_179 : decode cX0_bars 179 = .ok (.iload 8, 2) := by decide +kernel
theorem dX0_bars_181 : decode cX0_bars 181 = .ok (.isub, 1) := by decide +kernel
theorem dX0_bars_182 : decode cX0_bars 182 = .ok (.iload 5, 2) := by decide +kernel
theorem dX0_bars_184 : decode cX0_bars 184 = .ok (.if_icmp .ge 7, 3) := by decide +kernel
theorem dX0_bars_187 : decode cX0_bars 187 = .ok (.iconst 2, 1) := by decide +kernel
theorem dX0_bars_188 : decode cX0_bars 188 = .ok (.goto 4, 3) := by decide +kernel
theorem dX0_bars_191 : decode cX0_bars 191 = .ok (.iconst 0, 1) := by decide +kernel
theorem dX0_bars_192 : decode cX0_bars 192 = .ok (.iadd, 1) := by decide +kernel
theorem dX0_bars_193 : decode cX0_bars 193 = .ok (.istore 9, 2) := by decide +kernel
theorem dX0_bars_195 : decode cX0_bars 195 = .ok (.iload 9, 2) := by decide +kernel
theorem dX0_bars_197 : decode cX0_bars 197 = .ok (.iload 6, 2) := by decide +kernel
theorem dX0_bars_199 : decode cX0_bars 199 = .ok (.iconst (-1), 1) := by decide +kernel
theorem dX0_bars_200 : decode cX0_bars 200 = .ok (.if_icmp .eq 37, 3) := by decide +kernel
theorem dX0_bars_203 : decode cX0_bars 203 = .ok (.aload_n 0, 1) := by decide +kernel
theorem dX0_bars_204 : decode cX0_bars 204 = .ok (.iload_n 1, 1) := by decide +kernel
theorem dX0_bars_205 : decode cX0_bars 205 = .ok (.iload_n 3, 1) := by decide +kernel
theorem dX0_bars_206 : decode cX0_bars 206 = .ok (.iload 4, 2) := by decide +kernel
theorem dX0_bars_208 : decode cX0_bars 208 = .ok (.iconst 1, 1) := by decide +kernel
theorem dX0_bars_209 : decode cX0_bars 209 = .ok (.isub, 1) := by decide +kernel
theorem dX0_bars_210 : decode cX0_bars 210 = .ok (.iload 6, 2) := by decide +kernel
theorem dX0_bars_212 : decode cX0_bars 212 = .ok (.invokevirtual 232, 3) := by decide +kernel
theorem dX0_bars_215 : decode cX0_bars 215 = .ok (.ifCond .ne 18, 3) := by decide +kernel
theorem dX0_bars_218 : decode cX0_bars 218 = .ok (.aload_n 0, 1) := by decide +kernel
theorem dX0_bars_219 : decode cX0_bars 219 = .ok (.iload_n 1, 1) := by decide +kernel
theorem dX0_bars_220 : decode cX0_bars 220 = .ok (.iload_n 3, 1) := by decide +kernel
theorem dX0_bars_221 : decode cX0_bars 221 = .ok (.iload 4, 2) := by decide +kernel
theorem dX0_bars_223 : decode cX0_bars 223 = .ok (.iconst 1, 1) := by decide +kernel
theorem dX0_bars_224 : decode cX0_bars 224 = .ok (.iadd, 1) := by decide +kernel
theorem dX0_bars_225 : decode cX0_bars 225 = .ok (.iload 6, 2) := by decide +kernel
theorem dX0_bars_227 : decode cX0_bars 227 = .ok (.invokevirtual 232, 3) := by decide +kernel
theorem dX0_bars_230 : decode cX0_bars 230 = .ok (.ifCond .eq 7, 3) := by decide +kernel
theorem dX0_bars_233 : decode cX0_bars 233 = .ok (.iconst 4, 1) := by decide +kernel
theorem dX0_bars_234 : decode cX0_bars 234 = .ok (.goto 4, 3) := by decide +kernel
theorem dX0_bars_237 : decode cX0_bars 237 = .ok (.iconst 0, 1) := by decide +kernel
theorem dX0_bars_238 : decode cX0_bars 238 = .ok (.iadd, 1) := by decide +kernel
theorem dX0_bars_239 : decode cX0_bars 239 = .ok (.istore 9, 2) := by decide +kernel
theorem dX0_bars_241 : decode cX0_bars 241 = .ok (.iload 9, 2) := by decide +kernel
theorem dX0_bars_243 : decode cX0_bars 243 = .ok (.ireturn, 1) := by decide +kernel
theorem yd_X0_bars : yX0_bars.cls ≠ "java/lang/invoke/MethodHandle" ∧ yX0_bars.cls ≠ "java/lang/invoke/VarHandle" ∧ (parseMethodDescriptor yX0_bars.desc).map (fun d => d.parameters.length) = some 2 := by decide +kernel
theorem dsp_X0_223 {p : Program} {l : Launch} {e : Env} {R : Room} {s : State} {m : MethodId} {args : Array Value} {below : List Frame} {meth : Method} {c : Code} {H : Heap} {locs : List Loc} {cells slots : Nat} {cc : ByteArray} {pc nL : Nat} {ls : Array Slot} {rest : List Value} {g : Gl} {σ σ1 : Hp} {nm : String} {rt : Option FieldType} {x0 : Nat} {v : Int32}  (X : FX g p m c s args meth cc nL RX0 rt nm) (hV : HV g σ H) (hc : D_apart σ x0  = some (v, σ1)) (hsz : ls.size = nL) (hR : 1 ≤ R.frames ∧ 20 ≤ R.locals) (hW : (rest.map fun v => v.category).sum ≤ 8) (hdg : decode cc pc = .ok (.invokevirtual 223, 3)) (hf : cells ≤ R.cells ∧ slots ≤ R.slots) : va_Run p l e R s m args below meth c H locs cells slots 0 0 (F0 m pc ls (.ref x0 :: rest)) rest (Qi g (v, σ1) (.ref x0 :: []).toArray) (frN g) := by
  unfold D_apart at hc
  by_cases h13 : hT σ x0 = some (.inl 13)
  · rw [if_pos h13] at hc
    exact va_runU (C := RX13) (x := ⟨"PalaceOfRooms$Line", "apart", "()I"⟩) (As := []) (rest := rest) (cfX X) (c_X12_apart_13 l hc) (va_cwU (owner := RX12) 0 X.2.2.2.2.1 (lw_app (lw_in _ [706, 708, 714, 707, 69] (by decide +kernel) (by decide +kernel)) (lw_meth q715)) rfl rfl rfl rfl yd_X12_apart ⟨Nat.le_trans (Nat.le_of_ble_eq_true rfl) hR.1, Nat.le_trans (Nat.le_of_ble_eq_true rfl) hR.2⟩) (preV X hV h13 rfl) rfl rfl hsz rfl (lv_room hW) hdg hf
  rw [if_neg h13] at hc
  by_cases h14 : hT σ x0 = some (.inl 14)
  · rw [if_pos h14] at hc
    exact va_runU (C := RX14) (x := ⟨"PalaceOfRooms$Line", "apart", "()I"⟩) (As := []) (rest := rest) (cfX X) (c_X12_apart_14 l hc) (va_cwU (owner := RX12) 0 X.2.2.2.2.1 (lw_app (lw_in _ [706, 708, 709, 707, 69] (by decide +kernel) (by decide +kernel)) (lw_meth q715)) rfl rfl rfl rfl yd_X12_apart ⟨Nat.le_trans (Nat.le_of_ble_eq_true rfl) hR.1, Nat.le_trans (Nat.le_of_ble_eq_true rfl) hR.2⟩) (preV X hV h14 rfl) rfl rfl hsz rfl (lv_room hW) hdg hf
  rw [if_neg h14] at hc
  by_cases h15 : hT σ x0 = some (.inl 15)
  · rw [if_pos h15] at hc
    exact va_runU (C := RX15) (x := ⟨"PalaceOfRooms$Line", "apart", "()I"⟩) (As := []) (rest := rest) (cfX X) (c_X15_apart l hc) (va_cwO (owner := RX12) 0 X.2.2.2.2.1 (lw_app (lw_in _ [706, 708, 707, 710, 711, 72] (by decide +kernel) (by decide +kernel)) (lw_meth q712)) rfl rfl rfl q715 (by decide +kernel) ⟨Nat.le_trans (Nat.le_of_ble_eq_true rfl) hR.1, Nat.le_trans (Nat.le_of_ble_eq_true rfl) hR.2⟩) (preV X hV h15 rfl) rfl rfl hsz rfl (lv_room hW) hdg hf
  rw [if_neg h15] at hc
  by_cases h16 : hT σ x0 = some (.inl 16)
  · rw [if_pos h16] at hc
    exact va_runU (C := RX16) (x := ⟨"PalaceOfRooms$Line", "apart", "()I"⟩) (As := []) (rest := rest) (cfX X) (c_X12_apart_16 l hc) (va_cwU (owner := RX12) 0 X.2.2.2.2.1 (lw_app (lw_in _ [706, 708, 713, 707, 69] (by decide +kernel) (by decide +kernel)) (lw_meth q715)) rfl rfl rfl rfl yd_X12_apart ⟨Nat.le_trans (Nat.le_of_ble_eq_true rfl) hR.1, Nat.le_trans (Nat.le_of_ble_eq_true rfl) hR.2⟩) (preV X hV h16 rfl) rfl rfl hsz rfl (lv_room hW) hdg hf
  rw [if_neg h16] at hc
  cases hc
theorem dsp_X0_220 {p : Program} {l : Launch} {e : Env} {R : Room} {s : State} {m : MethodId} {args : Array Value} {below : List Frame} {meth : Method} {c : Code} {H : Heap} {locs : List Loc} {cells slots : Nat} {cc : ByteArray} {pc nL : Nat} {ls : Array Slot} {rest : List Value} {g : Gl} {σ σ1 : Hp} {nm : String} {rt : Option FieldType} {x0 : Nat} {v : Int32}  (X : FX g p m c s args meth cc nL RX0 rt nm) (hV : HV g σ H) (hc : D_again σ x0  = some (v, σ1)) (hsz : ls.size = nL) (hR : 1 ≤ R.frames ∧ 20 ≤ R.locals) (hW : (rest.map fun v => v.category).sum ≤ 8) (hdg : decode cc pc = .ok (.invokevirtual 220, 3)) (hf : cells ≤ R.cells ∧ slots ≤ R.slots) : va_Run p l e R s m args below meth c H locs cells slots 0 0 (F0 m pc ls (.ref x0 :: rest)) rest (Qi g (v, σ1) (.ref x0 :: []).toArray) (frN g) := by
  unfold D_again at hc
  by_cases h13 : hT σ x0 = some (.inl 13)
  · rw [if_pos h13] at hc
    exact va_runU (C := RX13) (x := ⟨"PalaceOfRooms$Line", "again", "()I"⟩) (As := []) (rest := rest) (cfX X) (c_X12_again_13 l hc) (va_cwU (owner := RX12) 0 X.2.2.2.2.1 (lw_app (lw_in _ [696, 698, 704, 697, 69] (by decide +kernel) (by decide +kernel)) (lw_meth q705)) rfl rfl rfl rfl yd_X12_again ⟨Nat.le_trans (Nat.le_of_ble_eq_true rfl) hR.1, Nat.le_trans (Nat.le_of_ble_eq_true rfl) hR.2⟩) (preV X hV h13 rfl) rfl rfl hsz rfl (lv_room hW) hdg hf
  rw [if_neg h13] at hc
  by_cases h14 : hT σ x0 = some (.inl 14)
  · rw [if_pos h14] at hc
    exact va_runU (C := RX14) (x := ⟨"PalaceOfRooms$Line", "again", "()I"⟩) (As := []) (rest := rest) (cfX X) (c_X14_again l hc) (va_cwO (owner := RX12) 0 X.2.2.2.2.1 (lw_app (lw_in _ [696, 698, 697, 699, 700, 71] (by decide +kernel) (by decide +kernel)) (lw_meth q701)) rfl rfl rfl q705 (by decide +kernel) ⟨Nat.le_trans (Nat.le_of_ble_eq_true rfl) hR.1, Nat.le_trans (Nat.le_of_ble_eq_true rfl) hR.2⟩) (preV X hV h14 rfl) rfl rfl hsz rfl (lv_room hW) hdg hf
  rw [if_neg h14] at hc
  by_cases h15 : hT σ x0 = some (.inl 15)
  · rw [if_pos h15] at hc
    exact va_runU (C := RX15) (x := ⟨"PalaceOfRooms$Line", "again", "()I"⟩) (As := []) (rest := rest) (cfX X) (c_X12_again_15 l hc) (va_cwU (owner := RX12) 0 X.2.2.2.2.1 (lw_app (lw_in _ [696, 698, 702, 697, 69] (by decide +kernel) (by decide +kernel)) (lw_meth q705)) rfl rfl rfl rfl yd_X12_again ⟨Nat.le_trans (Nat.le_of_ble_eq_true rfl) hR.1, Nat.le_trans (Nat.le_of_ble_eq_true rfl) hR.2⟩) (preV X hV h15 rfl) rfl rfl hsz rfl (lv_room hW) hdg hf
  rw [if_neg h15] at hc
  by_cases h16 : hT σ x0 = some (.inl 16)
  · rw [if_pos h16] at hc
    exact va_runU (C := RX16) (x := ⟨"PalaceOfRooms$Line", "again", "()I"⟩) (As := []) (rest := rest) (cfX X) (c_X12_again_16 l hc) (va_cwU (owner := RX12) 0 X.2.2.2.2.1 (lw_app (lw_in _ [696, 698, 703, 697, 69] (by decide +kernel) (by decide +kernel)) (lw_meth q705)) rfl rfl rfl rfl yd_X12_again ⟨Nat.le_trans (Nat.le_of_ble_eq_true rfl) hR.1, Nat.le_trans (Nat.le_of_ble_eq_true rfl) hR.2⟩) (preV X hV h16 rfl) rfl rfl hsz rfl (lv_room hW) hdg hf
  rw [if_neg h16] at hc
  cases hc
abbrev rm_X0_bars : Room := { frames := 3, cells := 0, slots := 0, locals := 67 }
set_option maxHeartbeats 4000000 in
theorem w_X0_bars_192 {p : Program} {l : Launch} {e : Env} {s : State} {m : MethodId} {args : Array Value} {below : List Frame} {meth : Method} {c : Code} {g : Gl} (X : FX g p m c s args meth cX0_bars 10 RX0 (some .int) "bars") {r : Int32 × Hp} {σ : Hp} {x0 : Nat} {x1 : Int32} {x3 : Int32} {x4 : Int32} {x6 : Int32} {y0 : Int32} {y1 : Int32}  {H : Heap} {locs : List Loc} {ls : Array Slot} (h : F_X0_bars_192 σ x0 x1 x3 x4 x6 y0 y1 = some r) (hV : HV g σ H) (hF : FR g locs) (hl : lv_has ls 10 [(0, .ref x0), (1, .int x1), (3, .int x3), (4, .int x4), (6, .int x6)]) : W p l e rm_X0_bars s m args below meth c H locs 0 0 (MQ below (Qi g r) args s 0 0 (frN g)) (F0 m 192 ls [.int y0, .int y1]) := by
  unfold F_X0_bars_192 at h
  refine lv_iadd X.1 X.2.1 dX0_bars_192 ?_
  refine lv_istore (lv' := [(9, .int (y1 + y0)), (0, .ref x0), (1, .int x1), (3, .int x3), (4, .int x4), (6, .int x6)]) X.1 X.2.1 dX0_bars_193 hl (by decide) rfl (fun ls hl => ?_)
  refine lv_iload X.1 X.2.1 dX0_bars_195 (lv_at hl 0 rfl) ?_
  refine lv_iload X.1 X.2.1 dX0_bars_197 (lv_at hl 5 rfl) ?_
  refine lv_iconst (v := (-1)) X.1 X.2.1 dX0_bars_199 (by decide) ?_
  refine r_eq (tgt := 237) X.1 X.2.1 dX0_bars_200 (by decide) h (fun h => ?_) (fun h => ?_)
  · refine lv_iconst (v := 0) X.1 X.2.1 dX0_bars_237 (by decide) ?_
    refine lv_iadd X.1 X.2.1 dX0_bars_238 ?_
    refine lv_istore (lv' := [(9, .int ((y1 + y0) + 0)), (0, .ref x0), (1, .int x1), (3, .int x3), (4, .int x4), (6, .int x6)]) X.1 X.2.1 dX0_bars_239 hl (by decide) rfl (fun ls hl => ?_)
    refine lv_iload X.1 X.2.1 dX0_bars_241 (lv_at hl 0 rfl) ?_
    exact r_iret X hV hF h dX0_bars_243
  · refine lv_aload_n X.1 X.2.1 dX0_bars_203 rfl (lv_at hl 1 rfl) ?_
    refine lv_iload_n X.1 X.2.1 dX0_bars_204 rfl (lv_at hl 2 rfl) ?_
    refine lv_iload_n X.1 X.2.1 dX0_bars_205 rfl (lv_at hl 3 rfl) ?_
    refine lv_iload X.1 X.2.1 dX0_bars_206 (lv_at hl 4 rfl) ?_
    refine lv_iconst (v := 1) X.1 X.2.1 dX0_bars_208 (by decide) ?_
    refine lv_isub X.1 X.2.1 dX0_bars_209 ?_
    refine lv_iload X.1 X.2.1 dX0_bars_210 (lv_at hl 5 rfl) ?_
    obtain ⟨v1, s1, hc, h⟩ := b2_inv h
    refine r_ci (va_runV (C := RX0) (As := [.int x1, .int x3, .int (x4 - 1), .int x6]) (rest := [.int (y1 + y0)]) (cfX X) (c_X0_crowds l hc) (cwV 4 X.2.2.2.2.1 (lw_V q735 q737 qs14 q49 q738) rfl rfl rfl ⟨rfl, yd_X0_crowds⟩ ⟨Nat.le_of_ble_eq_true rfl, Nat.le_of_ble_eq_true rfl⟩) (preV X hV (F_X0_crowds_g hc) rfl) rfl rfl hl.1 rfl (lv_room (Nat.le_of_ble_eq_true rfl)) dX0_bars_212 ⟨(Nat.le_of_ble_eq_true rfl), (Nat.le_of_ble_eq_true rfl)⟩) hF (fun H locs hV hF => ?_)
    refine r_ifne (tgt := 233) X.1 X.2.1 dX0_bars_215 (by decide) h (fun h => ?_) (fun h => ?_)
    · refine lv_iconst (v := 4) X.1 X.2.1 dX0_bars_233 (by decide) ?_
      refine lv_goto (tgt := 238) X.1 X.2.1 dX0_bars_234 (by decide) ?_
      refine lv_iadd X.1 X.2.1 dX0_bars_238 ?_
      refine lv_istore (lv' := [(9, .int ((y1 + y0) + 4)), (0, .ref x0), (1, .int x1), (3, .int x3), (4, .int x4), (6, .int x6)]) X.1 X.2.1 dX0_bars_239 hl (by decide) rfl (fun ls hl => ?_)
      refine lv_iload X.1 X.2.1 dX0_bars_241 (lv_at hl 0 rfl) ?_
      exact r_iret X hV hF h dX0_bars_243
    · refine lv_aload_n X.1 X.2.1 dX0_bars_218 rfl (lv_at hl 1 rfl) ?_
      refine lv_iload_n X.1 X.2.1 dX0_bars_219 rfl (lv_at hl 2 rfl) ?_
      refine lv_iload_n X.1 X.2.1 dX0_bars_220 rfl (lv_at hl 3 rfl) ?_
      refine lv_iload X.1 X.2.1 dX0_bars_221 (lv_at hl 4 rfl) ?_
      refine lv_iconst (v := 1) X.1 X.2.1 dX0_bars_223 (by decide) ?_
      refine lv_iadd X.1 X.2.1 dX0_bars_224 ?_
      refine lv_iload X.1 X.2.1 dX0_bars_225 (lv_at hl 5 rfl) ?_
      obtain ⟨v2, s2, hc, h⟩ := b2_inv h
      refine r_ci (va_runV (C := RX0) (As := [.int x1, .int x3, .int (x4 + 1), .int x6]) (rest := [.int (y1 + y0)]) (cfX X) (c_X0_crowds l hc) (cwV 4 X.2.2.2.2.1 (lw_V q735 q737 qs14 q49 q738) rfl rfl rfl ⟨rfl, yd_X0_crowds⟩ ⟨Nat.le_of_ble_eq_true rfl, Nat.le_of_ble_eq_true rfl⟩) (preV X hV (F_X0_crowds_g hc) rfl) rfl rfl hl.1 rfl (lv_room (Nat.le_of_ble_eq_true rfl)) dX0_bars_227 ⟨(Nat.le_of_ble_eq_true rfl), (Nat.le_of_ble_eq_true rfl)⟩) hF (fun H locs hV hF => ?_)
      refine r_ifeq (tgt := 237) X.1 X.2.1 dX0_bars_230 (by decide) h (fun h => ?_) (fun h => ?_)
      · refine lv_iconst (v := 0) X.1 X.2.1 dX0_bars_237 (by decide) ?_
        refine lv_iadd X.1 X.2.1 dX0_bars_238 ?_
        refine lv_istore (lv' := [(9, .int ((y1 + y0) + 0)), (0, .ref x0), (1, .int x1), (3, .int x3), (4, .int x4), (6, .int x6)]) X.1 X.2.1 dX0_bars_239 hl (by decide) rfl (fun ls hl => ?_)
        refine lv_iload X.1 X.2.1 dX0_bars_241 (lv_at hl 0 rfl) ?_
        exact r_iret X hV hF h dX0_bars_243
      · refine lv_iconst (v := 4) X.1 X.2.1 dX0_bars_233 (by decide) ?_
        refine lv_goto (tgt := 238) X.1 X.2.1 dX0_bars_234 (by decide) ?_
        refine lv_iadd X.1 X.2.1 dX0_bars_238 ?_
        refine lv_istore (lv' := [(9, .int ((y1 + y0) + 4)), (0, .ref x0), (1, .int x1), (3, .int x3), (4, .int x4), (6, .int x6)]) X.1 X.2.1 dX0_bars_239 hl (by decide) rfl (fun ls hl => ?_)
        refine lv_iload X.1 X.2.1 dX0_bars_241 (lv_at hl 0 rfl) ?_
        exact r_iret X hV hF h dX0_bars_243
set_option maxHeartbeats 4000000 in
theorem w_X0_bars_191 {p : Program} {l : Launch} {e : Env} {s : State} {m : MethodId} {args : Array Value} {below : List Frame} {meth : Method} {c : Code} {g : Gl} (X : FX g p m c s args meth cX0_bars 10 RX0 (some .int) "bars") {r : Int32 × Hp} {σ : Hp} {x0 : Nat} {x1 : Int32} {x3 : Int32} {x4 : Int32} {x6 : Int32} {y0 : Int32}  {H : Heap} {locs : List Loc} {ls : Array Slot} (h : F_X0_bars_191 σ x0 x1 x3 x4 x6 y0 = some r) (hV : HV g σ H) (hF : FR g locs) (hl : lv_has ls 10 [(0, .ref x0), (1, .int x1), (3, .int x3), (4, .int x4), (6, .int x6)]) : W p l e rm_X0_bars s m args below meth c H locs 0 0 (MQ below (Qi g r) args s 0 0 (frN g)) (F0 m 191 ls [.int y0]) := by
  unfold F_X0_bars_191 at h
  refine lv_iconst (v := 0) X.1 X.2.1 dX0_bars_191 (by decide) ?_
  exact w_X0_bars_192 X  h hV hF (lv_sub hl [0, 1, 2, 3, 4] rfl)
set_option maxHeartbeats 4000000 in
theorem w_X0_bars_159 {p : Program} {l : Launch} {e : Env} {s : State} {m : MethodId} {args : Array Value} {below : List Frame} {meth : Method} {c : Code} {g : Gl} (X : FX g p m c s args meth cX0_bars 10 RX0 (some .int) "bars") {r : Int32 × Hp} {σ : Hp} {x0 : Nat} {x1 : Int32} {x3 : Int32} {x4 : Int32} {x5 : Int32} {x6 : Int32} {x8 : Int32} {y0 : Int32}  {H : Heap} {locs : List Loc} {ls : Array Slot} (h : F_X0_bars_159 σ x0 x1 x3 x4 x5 x6 x8 y0 = some r) (hV : HV g σ H) (hF : FR g locs) (hl : lv_has ls 10 [(0, .ref x0), (1, .int x1), (3, .int x3), (4, .int x4), (5, .int x5), (6, .int x6), (8, .int x8)]) : W p l e rm_X0_bars s m args below meth c H locs 0 0 (MQ below (Qi g r) args s 0 0 (frN g)) (F0 m 159 ls [.int y0]) := by
  unfold F_X0_bars_159 at h
  refine lv_istore (lv' := [(9, .int y0), (0, .ref x0), (1, .int x1), (3, .int x3), (4, .int x4), (5, .int x5), (6, .int x6), (8, .int x8)]) X.1 X.2.1 dX0_bars_159 hl (by decide) rfl (fun ls hl => ?_)
  refine lv_iload X.1 X.2.1 dX0_bars_161 (lv_at hl 0 rfl) ?_
  refine lv_iload X.1 X.2.1 dX0_bars_163 (lv_at hl 5 rfl) ?_
  refine lv_iconst (v := (-1)) X.1 X.2.1 dX0_bars_165 (by decide) ?_
  refine r_eq (tgt := 191) X.1 X.2.1 dX0_bars_166 (by decide) h (fun h => ?_) (fun h => ?_)
  · exact w_X0_bars_191 X  h hV hF (lv_sub hl [1, 2, 3, 4, 6] rfl)
  · refine lv_iload X.1 X.2.1 dX0_bars_169 (lv_at hl 7 rfl) ?_
    refine lv_iconst (v := (-1)) X.1 X.2.1 dX0_bars_171 (by decide) ?_
    refine r_eq (tgt := 191) X.1 X.2.1 dX0_bars_172 (by decide) h (fun h => ?_) (fun h => ?_)
    · exact w_X0_bars_191 X  h hV hF (lv_sub hl [1, 2, 3, 4, 6] rfl)
    · refine lv_aload_n X.1 X.2.1 dX0_bars_175 rfl (lv_at hl 1 rfl) ?_
      refine r_gI X hV fl_X0_153_0 dX0_bars_176 h (fun v1 h => ?_)
      refine lv_iload X.1 X.2.1 dX0_bars_179 (lv_at hl 7 rfl) ?_
      refine lv_isub X.1 X.2.1 dX0_bars_181 ?_
      refine lv_iload X.1 X.2.1 dX0_bars_182 (lv_at hl 5 rfl) ?_
      refine r_ge (tgt := 191) X.1 X.2.1 dX0_bars_184 (by decide) h (fun h => ?_) (fun h => ?_)
      · exact w_X0_bars_191 X  h hV hF (lv_sub hl [1, 2, 3, 4, 6] rfl)
      · refine lv_iconst (v := 2) X.1 X.2.1 dX0_bars_187 (by decide) ?_
        refine lv_goto (tgt := 192) X.1 X.2.1 dX0_bars_188 (by decide) ?_
        exact w_X0_bars_192 X  h hV hF (lv_sub hl [1, 2, 3, 4, 6] rfl)
set_option maxHeartbeats 4000000 in
theorem w_X0_bars_158 {p : Program} {l : Launch} {e : Env} {s : State} {m : MethodId} {args : Array Value} {below : List Frame} {meth : Method} {c : Code} {g : Gl} (X : FX g p m c s args meth cX0_bars 10 RX0 (some .int) "bars") {r : Int32 × Hp} {σ : Hp} {x0 : Nat} {x1 : Int32} {x3 : Int32} {x4 : Int32} {x5 : Int32} {x6 : Int32} {x8 : Int32}  {H : Heap} {locs : List Loc} {ls : Array Slot} (h : F_X0_bars_158 σ x0 x1 x3 x4 x5 x6 x8 = some r) (hV : HV g σ H) (hF : FR g locs) (hl : lv_has ls 10 [(0, .ref x0), (1, .int x1), (3, .int x3), (4, .int x4), (5, .int x5), (6, .int x6), (8, .int x8)]) : W p l e rm_X0_bars s m args below meth c H locs 0 0 (MQ below (Qi g r) args s 0 0 (frN g)) (F0 m 158 ls []) := by
  unfold F_X0_bars_158 at h
  refine lv_iconst (v := 0) X.1 X.2.1 dX0_bars_158 (by decide) ?_
  exact w_X0_bars_159 X  h hV hF (lv_sub hl [0, 1, 2, 3, 4, 5, 6] rfl)
set_option maxHeartbeats 4000000 in
theorem w_X0_bars_114 {p : Program} {l : Launch} {e : Env} {s : State} {m : MethodId} {args : Array Value} {below : List Frame} {meth : Method} {c : Code} {g : Gl} (X : FX g p m c s args meth cX0_bars 10 RX0 (some .int) "bars") {r : Int32 × Hp} {σ : Hp} {x0 : Nat} {x1 : Int32} {x2 : Int32} {x3 : Int32} {x4 : Int32} {x5 : Int32} {x6 : Int32}  {H : Heap} {locs : List Loc} {ls : Array Slot} (h : F_X0_bars_114 σ x0 x1 x2 x3 x4 x5 x6 = some r) (hV : HV g σ H) (hF : FR g locs) (hl : lv_has ls 10 [(0, .ref x0), (1, .int x1), (2, .int x2), (3, .int x3), (4, .int x4), (5, .int x5), (6, .int x6)]) : W p l e rm_X0_bars s m args below meth c H locs 0 0 (MQ below (Qi g r) args s 0 0 (frN g)) (F0 m 114 ls []) := by
  unfold F_X0_bars_114 at h
  refine lv_aload_n X.1 X.2.1 dX0_bars_114 rfl (lv_at hl 0 rfl) ?_
  refine lv_iload_n X.1 X.2.1 dX0_bars_115 rfl (lv_at hl 3 rfl) ?_
  obtain ⟨v1, s1, hc, h⟩ := b2_inv h
  refine r_ci (va_runV (C := RX0) (As := [.int x3]) (rest := []) (cfX X) (c_X0_roomFor l hc) (cwV 1 X.2.2.2.2.1 (lw_V q716 q718 qs13 q49 q719) rfl rfl rfl ⟨rfl, yd_X0_roomFor⟩ ⟨Nat.le_of_ble_eq_true rfl, Nat.le_of_ble_eq_true rfl⟩) (preV X hV (F_X0_roomFor_g hc) rfl) rfl rfl hl.1 rfl (lv_room (Nat.le_of_ble_eq_true rfl)) dX0_bars_116 ⟨(Nat.le_of_ble_eq_true rfl), (Nat.le_of_ble_eq_true rfl)⟩) hF (fun H locs hV hF => ?_)
  refine lv_istore (lv' := [(7, .int v1), (0, .ref x0), (1, .int x1), (2, .int x2), (3, .int x3), (4, .int x4), (5, .int x5), (6, .int x6)]) X.1 X.2.1 dX0_bars_119 hl (by decide) rfl (fun ls hl => ?_)
  refine lv_aload_n X.1 X.2.1 dX0_bars_121 rfl (lv_at hl 1 rfl) ?_
  refine r_gR X hV fl_X0_43_0 (by decide) dX0_bars_122 h (fun v2 h => ?_)
  refine r_gR X hV fl_X0_138_1 (by decide) dX0_bars_125 h (fun v3 h => ?_)
  refine lv_iload_n X.1 X.2.1 dX0_bars_128 rfl (lv_at hl 3 rfl) ?_
  refine r_aa X hV dX0_bars_129 (by decide) h (fun v4 h => ?_)
  refine r_gI X hV fl_X0_180_3 dX0_bars_130 h (fun v5 h => ?_)
  refine lv_istore (lv' := [(8, .int v5), (7, .int v1), (0, .ref x0), (1, .int x1), (2, .int x2), (3, .int x3), (4, .int x4), (5, .int x5), (6, .int x6)]) X.1 X.2.1 dX0_bars_133 hl (by decide) rfl (fun ls hl => ?_)
  refine lv_iload X.1 X.2.1 dX0_bars_135 (lv_at hl 1 rfl) ?_
  refine lv_iconst (v := (-1)) X.1 X.2.1 dX0_bars_137 (by decide) ?_
  refine r_eq (tgt := 158) X.1 X.2.1 dX0_bars_138 (by decide) h (fun h => ?_) (fun h => ?_)
  · exact w_X0_bars_158 X  h hV hF (lv_sub hl [2, 3, 5, 6, 7, 8, 0] rfl)
  · refine lv_aload_n X.1 X.2.1 dX0_bars_141 rfl (lv_at hl 2 rfl) ?_
    refine r_gR X hV fl_X0_43_0 (by decide) dX0_bars_142 h (fun v6 h => ?_)
    refine lv_iload_n X.1 X.2.1 dX0_bars_145 rfl (lv_at hl 5 rfl) ?_
    obtain ⟨v7, s2, hc, h⟩ := b2_inv h
    refine r_ci (va_runV (C := RX1) (As := [.int x3]) (rest := []) (cfX X) (c_X1_held l hc) (cwV 1 X.2.2.2.2.1 (lw_V q731 q732 q733 q50 q734) rfl rfl rfl ⟨rfl, yd_X1_held⟩ ⟨Nat.le_of_ble_eq_true rfl, Nat.le_of_ble_eq_true rfl⟩) (preV X hV (F_X1_held_g hc) rfl) rfl rfl hl.1 rfl (lv_room (Nat.le_of_ble_eq_true rfl)) dX0_bars_146 ⟨(Nat.le_of_ble_eq_true rfl), (Nat.le_of_ble_eq_true rfl)⟩) hF (fun H locs hV hF => ?_)
    refine lv_iload X.1 X.2.1 dX0_bars_149 (lv_at hl 1 rfl) ?_
    refine r_lt (tgt := 158) X.1 X.2.1 dX0_bars_151 (by decide) h (fun h => ?_) (fun h => ?_)
    · exact w_X0_bars_158 X  h hV hF (lv_sub hl [2, 3, 5, 6, 7, 8, 0] rfl)
    · refine lv_iconst (v := 1) X.1 X.2.1 dX0_bars_154 (by decide) ?_
      refine lv_goto (tgt := 159) X.1 X.2.1 dX0_bars_155 (by decide) ?_
      exact w_X0_bars_159 X  h hV hF (lv_sub hl [2, 3, 5, 6, 7, 8, 0] rfl)
set_option maxHeartbeats 4000000 in
theorem w_X0_bars_75 {p : Program} {l : Launch} {e : Env} {s : State} {m : MethodId} {args : Array Value} {below : List Frame} {meth : Method} {c : Code} {g : Gl} (X : FX g p m c s args meth cX0_bars 10 RX0 (some .int) "bars") {r : Int32 × Hp} {rec37 : Hp × Int32 × Int32 × Int32 → Option (Int32 × Hp)} {σ : Hp} {x0 : Nat} {x1 : Int32} {x2 : Int32} {x3 : Int32} {x4 : Int32} {x6 : Int32} {x7 : Int32} {y0 : Int32} (hr37 : ∀ (st : Hp × Int32 × Int32 × Int32), rec37 st = some r → ∀ (H : Heap) (locs : List Loc) (ls : Array Slot), HV g st.1 H → FR g locs → lv_has ls 10 [(0, .ref x0), (1, .int x1), (2, .int x2), (3, .int x3), (4, .int x4), (5, .int st.2.1), (6, .int st.2.2.1), (7, .int st.2.2.2)] → W p l e rm_X0_bars s m args below meth c H locs 0 0 (MQ below (Qi g r) args s 0 0 (frN g)) (F0 m 37 ls [])) {H : Heap} {locs : List Loc} {ls : Array Slot} (h : F_X0_bars_75 rec37 σ x0 x1 x2 x3 x4 x6 x7 y0 = some r) (hV : HV g σ H) (hF : FR g locs) (hl : lv_has ls 10 [(0, .ref x0), (1, .int x1), (2, .int x2), (3, .int x3), (4, .int x4), (6, .int x6), (7, .int x7)]) : W p l e rm_X0_bars s m args below meth c H locs 0 0 (MQ below (Qi g r) args s 0 0 (frN g)) (F0 m 75 ls [.int y0]) := by
  unfold F_X0_bars_75 at h
  refine lv_istore (lv' := [(5, .int y0), (0, .ref x0), (1, .int x1), (2, .int x2), (3, .int x3), (4, .int x4), (6, .int x6), (7, .int x7)]) X.1 X.2.1 dX0_bars_75 hl (by decide) rfl (fun ls hl => ?_)
  refine lv_aload_n X.1 X.2.1 dX0_bars_77 rfl (lv_at hl 1 rfl) ?_
  refine r_gR X hV fl_X0_55_0 (by decide) dX0_bars_78 h (fun v1 h => ?_)
  refine lv_iload X.1 X.2.1 dX0_bars_81 (lv_at hl 7 rfl) ?_
  refine r_aa X hV dX0_bars_83 (by decide) h (fun v2 h => ?_)
  obtain ⟨v3, s1, hc, h⟩ := b2_inv h
  refine r_ci (dsp_X0_223 (rest := []) X hV hc hl.1 ⟨Nat.le_of_ble_eq_true rfl, Nat.le_of_ble_eq_true rfl⟩ (Nat.le_of_ble_eq_true rfl) dX0_bars_84 ⟨Nat.le_of_ble_eq_true rfl, Nat.le_of_ble_eq_true rfl⟩) hF (fun H locs hV hF => ?_)
  refine lv_iconst (v := (-1)) X.1 X.2.1 dX0_bars_87 (by decide) ?_
  refine r_ne (tgt := 96) X.1 X.2.1 dX0_bars_88 (by decide) h (fun h => ?_) (fun h => ?_)
  · refine lv_aload_n X.1 X.2.1 dX0_bars_96 rfl (lv_at hl 1 rfl) ?_
    refine r_gR X hV fl_X0_55_0 (by decide) dX0_bars_97 h (fun v4 h => ?_)
    refine lv_iload X.1 X.2.1 dX0_bars_100 (lv_at hl 7 rfl) ?_
    refine r_aa X hV dX0_bars_102 (by decide) h (fun v5 h => ?_)
    obtain ⟨v6, s2, hc, h⟩ := b2_inv h
    refine r_ci (dsp_X0_223 (rest := []) X hV hc hl.1 ⟨Nat.le_of_ble_eq_true rfl, Nat.le_of_ble_eq_true rfl⟩ (Nat.le_of_ble_eq_true rfl) dX0_bars_103 ⟨Nat.le_of_ble_eq_true rfl, Nat.le_of_ble_eq_true rfl⟩) hF (fun H locs hV hF => ?_)
    refine lv_istore (lv' := [(6, .int v6), (5, .int y0), (0, .ref x0), (1, .int x1), (2, .int x2), (3, .int x3), (4, .int x4), (7, .int x7)]) X.1 X.2.1 dX0_bars_106 hl (by decide) rfl (fun ls hl => ?_)
    refine lv_iinc (v := x7 + 1) (lv' := [(7, .int (x7 + 1)), (6, .int v6), (5, .int y0), (0, .ref x0), (1, .int x1), (2, .int x2), (3, .int x3), (4, .int x4)]) X.1 X.2.1 dX0_bars_108 hl (k := 7) rfl rfl (by decide) rfl (fun ls hl => ?_)
    refine lv_goto (tgt := 37) X.1 X.2.1 dX0_bars_111 (by decide) ?_
    exact hr37 (s2, y0, v6, x7 + 1) h _ _ _ hV hF (lv_sub hl [3, 4, 5, 6, 7, 2, 1, 0] rfl)
  · refine lv_iload X.1 X.2.1 dX0_bars_91 (lv_at hl 6 rfl) ?_
    refine lv_goto (tgt := 106) X.1 X.2.1 dX0_bars_93 (by decide) ?_
    refine lv_istore (lv' := [(6, .int x6), (5, .int y0), (0, .ref x0), (1, .int x1), (2, .int x2), (3, .int x3), (4, .int x4), (7, .int x7)]) X.1 X.2.1 dX0_bars_106 hl (by decide) rfl (fun ls hl => ?_)
    refine lv_iinc (v := x7 + 1) (lv' := [(7, .int (x7 + 1)), (6, .int x6), (5, .int y0), (0, .ref x0), (1, .int x1), (2, .int x2), (3, .int x3), (4, .int x4)]) X.1 X.2.1 dX0_bars_108 hl (k := 7) rfl rfl (by decide) rfl (fun ls hl => ?_)
    refine lv_goto (tgt := 37) X.1 X.2.1 dX0_bars_111 (by decide) ?_
    exact hr37 (s1, y0, x6, x7 + 1) h _ _ _ hV hF (lv_sub hl [3, 4, 5, 6, 7, 2, 1, 0] rfl)
set_option maxHeartbeats 4000000 in
theorem w_X0_bars_37_b {p : Program} {l : Launch} {e : Env} {s : State} {m : MethodId} {args : Array Value} {below : List Frame} {meth : Method} {c : Code} {g : Gl} (X : FX g p m c s args meth cX0_bars 10 RX0 (some .int) "bars") {r : Int32 × Hp} {rec37 : Hp × Int32 × Int32 × Int32 → Option (Int32 × Hp)} {x0 : Nat} {x1 : Int32} {x2 : Int32} {x3 : Int32} {x4 : Int32} {σ : Hp} {x5 : Int32} {x6 : Int32} {x7 : Int32} (hr37 : ∀ (st : Hp × Int32 × Int32 × Int32), rec37 st = some r → ∀ (H : Heap) (locs : List Loc) (ls : Array Slot), HV g st.1 H → FR g locs → lv_has ls 10 [(0, .ref x0), (1, .int x1), (2, .int x2), (3, .int x3), (4, .int x4), (5, .int st.2.1), (6, .int st.2.2.1), (7, .int st.2.2.2)] → W p l e rm_X0_bars s m args below meth c H locs 0 0 (MQ below (Qi g r) args s 0 0 (frN g)) (F0 m 37 ls [])) {H : Heap} {locs : List Loc} {ls : Array Slot} (h : B_X0_bars_37 x0 x1 x2 x3 x4 rec37 σ x5 x6 x7 = some r) (hV : HV g σ H) (hF : FR g locs) (hl : lv_has ls 10 [(0, .ref x0), (1, .int x1), (2, .int x2), (3, .int x3), (4, .int x4), (5, .int x5), (6, .int x6), (7, .int x7)]) : W p l e rm_X0_bars s m args below meth c H locs 0 0 (MQ below (Qi g r) args s 0 0 (frN g)) (F0 m 37 ls []) := by
  unfold B_X0_bars_37 at h
  refine lv_iload X.1 X.2.1 dX0_bars_37 (lv_at hl 7 rfl) ?_
  refine lv_aload_n X.1 X.2.1 dX0_bars_39 rfl (lv_at hl 0 rfl) ?_
  refine r_gI X hV fl_X0_212_0 dX0_bars_40 h (fun v1 h => ?_)
  refine r_ge (tgt := 114) X.1 X.2.1 dX0_bars_43 (by decide) h (fun h => ?_) (fun h => ?_)
  · exact w_X0_bars_114 X  h hV hF (lv_sub hl [0, 1, 2, 3, 4, 5, 6] rfl)
  · refine lv_aload_n X.1 X.2.1 dX0_bars_46 rfl (lv_at hl 0 rfl) ?_
    refine r_gR X hV fl_X0_55_0 (by decide) dX0_bars_47 h (fun v2 h => ?_)
    refine lv_iload X.1 X.2.1 dX0_bars_50 (lv_at hl 7 rfl) ?_
    refine r_aa X hV dX0_bars_52 (by decide) h (fun v3 h => ?_)
    obtain ⟨v4, s1, hc, h⟩ := b2_inv h
    refine r_ci (dsp_X0_220 (rest := []) X hV hc hl.1 ⟨Nat.le_of_ble_eq_true rfl, Nat.le_of_ble_eq_true rfl⟩ (Nat.le_of_ble_eq_true rfl) dX0_bars_53 ⟨Nat.le_of_ble_eq_true rfl, Nat.le_of_ble_eq_true rfl⟩) hF (fun H locs hV hF => ?_)
    refine lv_iconst (v := (-1)) X.1 X.2.1 dX0_bars_56 (by decide) ?_
    refine r_ne (tgt := 65) X.1 X.2.1 dX0_bars_57 (by decide) h (fun h => ?_) (fun h => ?_)
    · refine lv_aload_n X.1 X.2.1 dX0_bars_65 rfl (lv_at hl 0 rfl) ?_
      refine r_gR X hV fl_X0_55_0 (by decide) dX0_bars_66 h (fun v5 h => ?_)
      refine lv_iload X.1 X.2.1 dX0_bars_69 (lv_at hl 7 rfl) ?_
      refine r_aa X hV dX0_bars_71 (by decide) h (fun v6 h => ?_)
      obtain ⟨v7, s2, hc, h⟩ := b2_inv h
      refine r_ci (dsp_X0_220 (rest := []) X hV hc hl.1 ⟨Nat.le_of_ble_eq_true rfl, Nat.le_of_ble_eq_true rfl⟩ (Nat.le_of_ble_eq_true rfl) dX0_bars_72 ⟨Nat.le_of_ble_eq_true rfl, Nat.le_of_ble_eq_true rfl⟩) hF (fun H locs hV hF => ?_)
      exact w_X0_bars_75 X hr37 h hV hF (lv_sub hl [0, 1, 2, 3, 4, 6, 7] rfl)
    · refine lv_iload X.1 X.2.1 dX0_bars_60 (lv_at hl 5 rfl) ?_
      refine lv_goto (tgt := 75) X.1 X.2.1 dX0_bars_62 (by decide) ?_
      exact w_X0_bars_75 X hr37 h hV hF (lv_sub hl [0, 1, 2, 3, 4, 6, 7] rfl)
set_option maxHeartbeats 4000000 in
theorem w_X0_bars_37 {p : Program} {l : Launch} {e : Env} {s : State} {m : MethodId} {args : Array Value} {below : List Frame} {meth : Method} {c : Code} {g : Gl} (X : FX g p m c s args meth cX0_bars 10 RX0 (some .int) "bars") {r : Int32 × Hp} {x0 : Nat} {x1 : Int32} {x2 : Int32} {x3 : Int32} {x4 : Int32}  : ∀ (n : Nat) (st : Hp × Int32 × Int32 × Int32), L_X0_bars_37 x0 x1 x2 x3 x4 n st = some r → ∀ (H : Heap) (locs : List Loc) (ls : Array Slot), HV g st.1 H → FR g locs → lv_has ls 10 [(0, .ref x0), (1, .int x1), (2, .int x2), (3, .int x3), (4, .int x4), (5, .int st.2.1), (6, .int st.2.2.1), (7, .int st.2.2.2)] → W p l e rm_X0_bars s m args below meth c H locs 0 0 (MQ below (Qi g r) args s 0 0 (frN g)) (F0 m 37 ls []) := by
  intro n
  induction n with
  | zero =>
    intro st h
    rw [L_X0_bars_37_0] at h
    cases h
  | succ n ih =>
    intro st h H locs ls hV hF hl
    rw [L_X0_bars_37_s] at h
    exact w_X0_bars_37_b X  ih h hV hF hl
set_option maxHeartbeats 4000000 in
theorem c_X0_bars (l : Launch) {g : Gl} {σ : Hp} {x0 : Nat} {x1 : Int32} {x2 : Int32} {r : Int32 × Hp} (h : F_X0_bars σ x0 x1 x2 = some r) : Met l yX0_bars (ws_ yX0_bars cX0_bars 10 (some .int)) rm_X0_bars (va_Pc [.ref x0, .int x1, .int x2] (WV g σ)) (Qi g r) 0 0 (frN g) := by
  refine ct_of (by decide) (Nat.le_of_ble_eq_true rfl) ?_
  intro p e s m below meth c ls X hV hl
  have hF : FR g [] := FR_nil
  unfold F_X0_bars at h
  have hl : lv_has ls 10 [(0, .ref x0), (1, .int x1), (2, .int x2)] := hl
  have X : FX g p m c s _ meth cX0_bars 10 RX0 (some .int) "bars" := X
  obtain ⟨-, h⟩ := gd_inv h
  refine lv_iload_n X.1 X.2.1 dX0_bars_0 rfl (lv_at hl 1 rfl) ?_
  obtain ⟨v1, s1, hc, h⟩ := b2_inv h
  refine r_ci (va_runS (As := [.int x1]) (rest := []) (cfX X) (c_X0_isThing l hc) (va_cwS 1 X.2.2.2.2.1 (lw_S q346 q347 q49 q348) rfl rfl rfl yd_X0_isThing ⟨Nat.le_of_ble_eq_true rfl, Nat.le_of_ble_eq_true rfl⟩) (preS X hV) rfl rfl hl.1 rfl (lv_room (Nat.le_of_ble_eq_true rfl)) dX0_bars_1 ⟨(Nat.le_of_ble_eq_true rfl), (Nat.le_of_ble_eq_true rfl)⟩) hF (fun H locs hV hF => ?_)
  refine r_ifeq (tgt := 14) X.1 X.2.1 dX0_bars_4 (by decide) h (fun h => ?_) (fun h => ?_)
  · refine lv_bipush (v := (-2)) X.1 X.2.1 dX0_bars_14 (by decide) ?_
    exact r_iret X hV hF h dX0_bars_16
  · refine lv_iload_n X.1 X.2.1 dX0_bars_7 rfl (lv_at hl 2 rfl) ?_
    obtain ⟨v2, s2, hc, h⟩ := b2_inv h
    refine r_ci (va_runS (As := [.int x2]) (rest := []) (cfX X) (c_X0_isCorner l hc) (va_cwS 1 X.2.2.2.2.1 (lw_S q381 q382 q49 q383) rfl rfl rfl yd_X0_isCorner ⟨Nat.le_of_ble_eq_true rfl, Nat.le_of_ble_eq_true rfl⟩) (preS X hV) rfl rfl hl.1 rfl (lv_room (Nat.le_of_ble_eq_true rfl)) dX0_bars_8 ⟨(Nat.le_of_ble_eq_true rfl), (Nat.le_of_ble_eq_true rfl)⟩) hF (fun H locs hV hF => ?_)
    refine r_ifne (tgt := 17) X.1 X.2.1 dX0_bars_11 (by decide) h (fun h => ?_) (fun h => ?_)
    · refine lv_iload_n X.1 X.2.1 dX0_bars_17 rfl (lv_at hl 2 rfl) ?_
      refine lv_bipush (v := 6) X.1 X.2.1 dX0_bars_18 (by decide) ?_
      refine lv_idiv X.1 X.2.1 dX0_bars_20 (by decide) ?_
      refine lv_istore_n (lv' := [(3, .int (x2 / 6)), (0, .ref x0), (1, .int x1), (2, .int x2)]) X.1 X.2.1 dX0_bars_21 rfl hl (by decide) rfl (fun ls hl => ?_)
      refine lv_iload_n X.1 X.2.1 dX0_bars_22 rfl (lv_at hl 3 rfl) ?_
      refine lv_bipush (v := 6) X.1 X.2.1 dX0_bars_23 (by decide) ?_
      refine lv_irem X.1 X.2.1 dX0_bars_25 (by decide) ?_
      refine lv_istore (lv' := [(4, .int (x2 - x2 / 6 * 6)), (3, .int (x2 / 6)), (0, .ref x0), (1, .int x1), (2, .int x2)]) X.1 X.2.1 dX0_bars_26 hl (by decide) rfl (fun ls hl => ?_)
      refine lv_iconst (v := (-1)) X.1 X.2.1 dX0_bars_28 (by decide) ?_
      refine lv_istore (lv' := [(5, .int (-1)), (4, .int (x2 - x2 / 6 * 6)), (3, .int (x2 / 6)), (0, .ref x0), (1, .int x1), (2, .int x2)]) X.1 X.2.1 dX0_bars_29 hl (by decide) rfl (fun ls hl => ?_)
      refine lv_iconst (v := (-1)) X.1 X.2.1 dX0_bars_31 (by decide) ?_
      refine lv_istore (lv' := [(6, .int (-1)), (5, .int (-1)), (4, .int (x2 - x2 / 6 * 6)), (3, .int (x2 / 6)), (0, .ref x0), (1, .int x1), (2, .int x2)]) X.1 X.2.1 dX0_bars_32 hl (by decide) rfl (fun ls hl => ?_)
      refine lv_iconst (v := 0) X.1 X.2.1 dX0_bars_34 (by decide) ?_
      refine lv_istore (lv' := [(7, .int 0), (6, .int (-1)), (5, .int (-1)), (4, .int (x2 - x2 / 6 * 6)), (3, .int (x2 / 6)), (0, .ref x0), (1, .int x1), (2, .int x2)]) X.1 X.2.1 dX0_bars_35 hl (by decide) rfl (fun ls hl => ?_)
      exact w_X0_bars_37 X  FU (s2, (-1), (-1), 0) h _ _ _ hV hF (lv_sub hl [5, 6, 7, 4, 3, 2, 1, 0] rfl)
    · refine lv_bipush (v := (-2)) X.1 X.2.1 dX0_bars_14 (by decide) ?_
      exact r_iret X hV hF h dX0_bars_16
/-! PalaceOfRooms$Line.every for classes {0: 13} -/
theorem dX12_every_0 : decode cX12_every 0 = .ok (.iconst (-1), 1) := by decide +kernel
theorem dX12_every_1 : decode cX12_every 1 = .ok (.ireturn, 1) := by decide +kernel
theorem yd_X12_every : yX12_every.cls ≠ "java/lang/invoke/MethodHandle" ∧ yX12_every.cls ≠ "java/lang/invoke/VarHandle" ∧ (parseMethodDescriptor yX12_every.desc).map (fun d => d.parameters.length) = some 1 := by decide +kernel
abbrev rm_X12_every_13 : Room := { frames := 0, cells := 0, slots := 0, locals := 0 }
set_option maxHeartbeats 4000000 in
theorem c_X12_every_13 (l : Launch) {g : Gl} {σ : Hp} {x0 : Nat} {x1 : Int32} {r : Int32 × Hp} (h : F_X12_every_13 σ x0 x1 = some r) : Met l yX12_every (ws_ yX12_every cX12_every 2 (some .int)) rm_X12_every_13 (va_Pc [.ref x0, .int x1] (WV g σ)) (Qi g r) 0 0 (frN g) := by
  refine ct_of (by decide) (Nat.le_of_ble_eq_true rfl) ?_
  intro p e s m below meth c ls X hV hl
  have hF : FR g [] := FR_nil
  unfold F_X12_every_13 at h
  have hl : lv_has ls 2 [(0, .ref x0), (1, .int x1)] := hl
  have X : FX g p m c s _ meth cX12_every 2 RX12 (some .int) "every" := X
  obtain ⟨-, h⟩ := gd_inv h
  refine lv_iconst (v := (-1)) X.1 X.2.1 dX12_every_0 (by decide) ?_
  exact r_iret X hV hF h dX12_every_1
/-! PalaceOfRooms$Line.every for classes {0: 14} -/
abbrev rm_X12_every_14 : Room := { frames := 0, cells := 0, slots := 0, locals := 0 }
set_option maxHeartbeats 4000000 in
theorem c_X12_every_14 (l : Launch) {g : Gl} {σ : Hp} {x0 : Nat} {x1 : Int32} {r : Int32 × Hp} (h : F_X12_every_14 σ x0 x1 = some r) : Met l yX12_every (ws_ yX12_every cX12_every 2 (some .int)) rm_X12_every_14 (va_Pc [.ref x0, .int x1] (WV g σ)) (Qi g r) 0 0 (frN g) := by
  refine ct_of (by decide) (Nat.le_of_ble_eq_true rfl) ?_
  intro p e s m below meth c ls X hV hl
  have hF : FR g [] := FR_nil
  unfold F_X12_every_14 at h
  have hl : lv_has ls 2 [(0, .ref x0), (1, .int x1)] := hl
  have X : FX g p m c s _ meth cX12_every 2 RX12 (some .int) "every" := X
  obtain ⟨-, h⟩ := gd_inv h
  refine lv_iconst (v := (-1)) X.1 X.2.1 dX12_every_0 (by decide) ?_
  exact r_iret X hV hF h dX12_every_1
/-! PalaceOfRooms$Line.every for classes {0: 15} -/
abbrev rm_X12_every_15 : Room := { frames := 0, cells := 0, slots := 0, locals := 0 }
set_option maxHeartbeats 4000000 in
theorem c_X12_every_15 (l : Launch) {g : Gl} {σ : Hp} {x0 : Nat} {x1 : Int32} {r : Int32 × Hp} (h : F_X12_every_15 σ x0 x1 = some r) : Met l yX12_every (ws_ yX12_every cX12_every 2 (some .int)) rm_X12_every_15 (va_Pc [.ref x0, .int x1] (WV g σ)) (Qi g r) 0 0 (frN g) := by
  refine ct_of (by decide) (Nat.le_of_ble_eq_true rfl) ?_
  intro p e s m below meth c ls X hV hl
  have hF : FR g [] := FR_nil
  unfold F_X12_every_15 at h
  have hl : lv_has ls 2 [(0, .ref x0), (1, .int x1)] := hl
  have X : FX g p m c s _ meth cX12_every 2 RX12 (some .int) "every" := X
  obtain ⟨-, h⟩ := gd_inv h
  refine lv_iconst (v := (-1)) X.1 X.2.1 dX12_every_0 (by decide) ?_
  exact r_iret X hV hF h dX12_every_1
/-! PalaceOfRooms$Line.every for classes {0: 16} -/
abbrev rm_X12_every_16 : Room := { frames := 0, cells := 0, slots := 0, locals := 0 }
set_option maxHeartbeats 4000000 in
theorem c_X12_every_16 (l : Launch) {g : Gl} {σ : Hp} {x0 : Nat} {x1 : Int32} {r : Int32 × Hp} (h : F_X12_every_16 σ x0 x1 = some r) : Met l yX12_every (ws_ yX12_every cX12_every 2 (some .int)) rm_X12_every_16 (va_Pc [.ref x0, .int x1] (WV g σ)) (Qi g r) 0 0 (frN g) := by
  refine ct_of (by decide) (Nat.le_of_ble_eq_true rfl) ?_
  intro p e s m below meth c ls X hV hl
  have hF : FR g [] := FR_nil
  unfold F_X12_every_16 at h
  have hl : lv_has ls 2 [(0, .ref x0), (1, .int x1)] := hl
  have X : FX g p m c s _ meth cX12_every 2 RX12 (some .int) "every" := X
  obtain ⟨-, h⟩ := gd_inv h
  refine lv_iconst (v := (-1)) X.1 X.2.1 dX12_every_0 (by decide) ?_
  exact r_iret X hV hF h dX12_every_1
