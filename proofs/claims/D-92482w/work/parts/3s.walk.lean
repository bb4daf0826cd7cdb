set_option maxRecDepth 100000
/-! PalaceOfRooms$Every.every -/
theorem dX16_every_0 : decode cX16_every 0 = .ok (.iload_n 1, 1) := by decide +kernel
theorem dX16_every_1 : decode cX16_every 1 = .ok (.aload_n 0, 1) := by decide +kernel
theorem dX16_every_2 : decode cX16_every 2 = .ok (.getfield 7, 3) := by decide +kernel
theorem dX16_every_5 : decode cX16_every 5 = .ok (.if_icmp .ne 10, 3) := by decide +kernel
theorem dX16_every_8 : decode cX16_every 8 = .ok (.aload_n 0, 1) := by decide +kernel
theorem dX16_every_9 : decode cX16_every 9 = .ok (.getfield 13, 3) := by decide +kernel
theorem dX16_every_12 : decode cX16_every 12 = .ok (.goto 8, 3) := by decide +kernel
theorem dX16_every_15 : decode cX16_every 15 = .ok (.aload_n 0, 1) := by decide +kernel
theorem dX16_every_16 : decode cX16_every 16 = .ok (.iload_n 1, 1) := by decide +kernel
theorem dX16_every_17 : decode cX16_every 17 = .ok (.invokespecial 16, 3) := by decide +kernel
theorem dX16_every_20 : decode cX16_every 20 = .ok (.ireturn, 1) := by decide +kernel
theorem yd_X16_every : yX16_every.cls ≠ "java/lang/invoke/MethodHandle" ∧ yX16_every.cls ≠ "java/lang/invoke/VarHandle" ∧ (parseMethodDescriptor yX16_every.desc).map (fun d => d.parameters.length) = some 1 := by decide +kernel
theorem fl_X16_7_16 : FLk RX16 7 16 0 "I" := ⟨RX16, TX16, 2, "PalaceOfRooms$Every", rfl, by decide, (fun q => by have h1 := q.1; have h2 := q.2; omega), rfl, in_X16, Or.inl q679, Or.inl rfl⟩
theorem fl_X16_13_16 : FLk RX16 13 16 1 "I" := ⟨RX16, TX16, 2, "PalaceOfRooms$Every", rfl, by decide, (fun q => by have h1 := q.1; have h2 := q.2; omega), rfl, in_X16, Or.inl q680, Or.inl rfl⟩
abbrev rm_X16_every : Room := { frames := 1, cells := 0, slots := 0, locals := 21 }
set_option maxHeartbeats 4000000 in
theorem c_X16_every (l : Launch) {g : Gl} {σ : Hp} {x0 : Nat} {x1 : Int32} {r : Int32 × Hp} (h : F_X16_every σ x0 x1 = some r) : Met l yX16_every (ws_ yX16_every cX16_every 2 (some .int)) rm_X16_every (va_Pc [.ref x0, .int x1] (WV g σ)) (Qi g r) 0 0 (frN g) := by
  refine ct_of (by decide) (Nat.le_of_ble_eq_true rfl) ?_
  intro p e s m below meth c ls X hV hl
  have hF : FR g [] := FR_nil
  unfold F_X16_every at h
  have hl : lv_has ls 2 [(0, .ref x0), (1, .int x1)] := hl
  have X : FX g p m c s _ meth cX16_every 2 RX16 (some .int) "every" := X
  obtain ⟨-, h⟩ := gd_inv h
  refine lv_iload_n X.1 X.2.1 dX16_every_0 rfl (lv_at hl 1 rfl) ?_
  refine lv_aload_n X.1 X.2.1 dX16_every_1 rfl (lv_at hl 0 rfl) ?_
  refine r_gI X hV fl_X16_7_16 dX16_every_2 h (fun v1 h => ?_)
  refine r_ne (tgt := 15) X.1 X.2.1 dX16_every_5 (by decide) h (fun h => ?_) (fun h => ?_)
  · refine lv_aload_n X.1 X.2.1 dX16_every_15 rfl (lv_at hl 0 rfl) ?_
    refine lv_iload_n X.1 X.2.1 dX16_every_16 rfl (lv_at hl 1 rfl) ?_
    obtain ⟨v2, s1, hc, h⟩ := b2_inv h
    refine r_ci (va_runSU (C := RX16) (X.2.2.2.2.2.1.1 16 _ rfl).2 (As := [.int x1]) (rest := []) (cfX X) (c_X12_every_16 l hc) (va_cwSU 1 X.2.2.2.2.1 (lw_app (lw_in _ [752, 746, 685, 745, 69] (by decide +kernel) (by decide +kernel)) (lw_meth q754)) rfl rfl rfl ⟨by decide +kernel, (yd_X12_every).2.2⟩ ⟨Nat.le_of_ble_eq_true rfl, Nat.le_of_ble_eq_true rfl⟩) (preV X hV (F_X12_every_16_g hc) rfl) rfl rfl hl.1 rfl (lv_room (Nat.le_of_ble_eq_true rfl)) dX16_every_17 ⟨(Nat.le_of_ble_eq_true rfl), (Nat.le_of_ble_eq_true rfl)⟩) hF (fun H locs hV hF => ?_)
    exact r_iret X hV hF h dX16_every_20
  · refine lv_aload_n X.1 X.2.1 dX16_every_8 rfl (lv_at hl 0 rfl) ?_
    refine r_gI X hV fl_X16_13_16 dX16_every_9 h (fun v3 h => ?_)
    refine lv_goto (tgt := 20) X.1 X.2.1 dX16_every_12 (by decide) ?_
    exact r_iret X hV hF h dX16_every_20
/-! PalaceOfRooms.due -/
theorem dX0_due_0 : decode cX0_due 0 = .ok (.iconst 0, 1) := by decide +kernel
theorem dX0_due_1 : decode cX0_due 1 = .ok (.istore_n 1, 1) := by decide +kernel
theorem dX0_due_2 : decode cX0_due 2 = .ok (.iconst 0, 1) := by decide +kernel
theorem dX0_due_3 : decode cX0_due 3 = .ok (.istore_n 2, 1) := by decide +kernel
theorem dX0_due_4 : decode cX0_due 4 = .ok (.iload_n 2, 1) := by decide +kernel
theorem dX0_due_5 : decode cX0_due 5 = .ok (.bipush 8, 2) := by decide +kernel
theorem dX0_due_7 : decode cX0_due 7 = .ok (.if_icmp .ge 100, 3) := by decide +kernel
theorem dX0_due_10 : decode cX0_due 10 = .ok (.iconst (-1), 1) := by decide +kernel
theorem dX0_due_11 : decode cX0_due 11 = .ok (.istore_n 3, 1) := by decide +kernel
theorem dX0_due_12 : decode cX0_due 12 = .ok (.iconst 0, 1) := by decide +kernel
theorem dX0_due_13 : decode cX0_due 13 = .ok (.istore 4, 2) := by decide +kernel
theorem dX0_due_15 : decode cX0_due 15 = .ok (.iload 4, 2) := by decide +kernel
theorem dX0_due_17 : decode cX0_due 17 = .ok (.aload_n 0, 1) := by decide +kernel
theorem dX0_due_18 : decode cX0_due 18 = .ok (.getfield 212, 3) := by decide +kernel
theorem dX0_due_21 : decode cX0_due 21 = .ok (.if_icmp .ge 40, 3) := by decide +kernel
theorem dX0_due_24 : decode cX0_due 24 = .ok (.aload_n 0, 1) := by decide +kernel
theorem dX0_due_25 : decode cX0_due 25 = .ok (.getfield 55, 3) := by decide +kernel
theorem dX0_due_28 : decode cX0_due 28 = .ok (.iload 4, 2) := by decide +kernel
theorem dX0_due_30 : decode cX0_due 30 = .ok (.aaload, 1) := by decide +kernel
theorem dX0_due_31 : decode cX0_due 31 = .ok (.iload_n 2, 1) := by decide +kernel
theorem dX0_due_32 : decode cX0_due 32 = .ok (.invokevirtual 236, 3) := by decide +kernel
theorem dX0_due_35 : decode cX0_due 35 = .ok (.iconst (-1), 1) := by decide +kernel
theorem dX0_due_36 : decode cX0_due 36 = .ok (.if_icmp .ne 7, 3) := by decide +kernel
theorem dX0_due_39 : decode cX0_due 39 = .ok (.iload_n 3, 1) := by decide +kernel
theorem dX0_due_40 : decode cX0_due 40 = .ok (.goto 14, 3) := by decide +kernel
theorem dX0_due_43 : decode cX0_due 43 = .ok (.aload_n 0, 1) := by decide +kernel
theorem dX0_due_44 : decode cX0_due 44 = .ok (.getfield 55, 3) := by decide +kernel
theorem dX0_due_47 : decode cX0_due 47 = .ok (.iload 4, 2) := by decide +kernel
theorem dX0_due_49 : decode cX0_due 49 = .ok (.aaload, 1) := by decide +kernel
theorem dX0_due_50 : decode cX0_due 50 = .ok (.iload_n 2, 1) := by decide +kernel
theorem dX0_due_51 : decode cX0_due 51 = .ok (.invokevirtual 236, 3) := by decide +kernel
theorem dX0_due_54 : decode cX0_due 54 = .ok (.istore_n 3, 1) := by decide +kernel
theorem dX0_due_55 : decode cX0_due 55 = .ok (.iinc 4 1, 3) := by decide +kernel
theorem dX0_due_58 : decode cX0_due 58 = .ok (.goto (-43), 3) := by decide +kernel
theorem dX0_due_61 : decode cX0_due 61 = .ok (.iload_n 1, 1) := by decide +kernel
theorem dX0_due_62 : decode cX0_due 62 = .ok (.iload_n 3, 1) := by decide +kernel
theorem dX0_due_63 : decode cX0_due 63 = .ok (.iconst (-1), 1) := by decide +kernel
theorem dX0_due_64 : decode cX0_due 64 = .ok (.if_icmp .eq 34, 3) := by decide +kernel
theorem dX0_due_67 : decode cX0_due 67 = .ok (.aload_n 0, 1) := by decide +kernel
theorem dX0_due_68 : decode cX0_due 68 = .ok (.getfield 50, 3) := by decide +kernel
theorem dX0_due_71 : decode cX0_due 71 = .ok (.iload_n 2, 1) := by decide +kernel
theorem dX0_due_72 : decode cX0_due 72 = .ok (.iaload, 1) := by decide +kernel
theorem dX0_due_73 : decode cX0_due 73 = .ok (.iconst (-1), 1) := by decide +kernel
theorem dX0_due_74 : decode cX0_due 74 = .ok (.if_icmp .eq 18, 3) := by decide +kernel
theorem dX0_due_77 : decode cX0_due 77 = .ok (.aload_n 0, 1) := by decide +kernel
theorem dX0_due_78 : decode cX0_due 78 = .ok (.getfield 153, 3) := by decide +kernel
theorem dX0_due_81 : decode cX0_due 81 = .ok (.aload_n 0, 1) := by decide +kernel
theorem dX0_due_82 : decode cX0_due 82 = .ok (.getfield 50, 3) := by decide +kernel
theorem dX0_due_85 : decode cX0_due 85 = .ok (.iload_n 2, 1) := by decide +kernel
theorem dX0_due_86 : decode cX0_due 86 = .ok (.iaload, 1) := by decide +kernel
theorem dX0_due_87 : decode cX0_due 87 = .ok (.isub, 1) := by decide +kernel
theorem dX0_due_88 : decode cX0_due 88 = .ok (.iload_n 3, 1) := by decide +kernel
theorem dX0_due_89 : decode cX0_due 89 = .ok (.if_icmp .lt 9, 3) := by decide +kernel
theorem dX0_due_92 : decode cX0_due 92 = .ok (.iconst 1, 1) := by decide +kernel
theorem dX0_due_93 : decode cX0_due 93 = .ok (.iload_n 2, 1) := by decide +kernel
theorem dX0_due_94 : decode cX0_due 94 = .ok (.ishl, 1) := by decide +kernel
theorem dX0_due_95 : decode cX0_due 95 = .ok (.goto 4, 3) := by decide +kernel
theorem dX0_due_98 : decode cX0_due 98 = .ok (.iconst 0, 1) := by decide +kernel
theorem dX0_due_99 : decode cX0_due 99 = .ok (.ior, 1) := by decide +kernel
theorem dX0_due_100 : decode cX0_due 100 = .ok (.istore_n 1, 1) := by decide +kernel
theorem dX0_due_101 : decode cX0_due 101 = .ok (.iinc 2 1, 3) := by decide +kernel
theorem dX0_due_104 : decode cX0_due 104 = .ok (.goto (-100), 3) := by decide +kernel
theorem dX0_due_107 : decode cX0_due 107 = .ok (.iload_n 1, 1) := by decide +kernel
theorem dX0_due_108 : decode cX0_due 108 = .ok (.ireturn, 1) := by decide +kernel
theorem yd_X0_due : yX0_due.cls ≠ "java/lang/invoke/MethodHandle" ∧ yX0_due.cls ≠ "java/lang/invoke/VarHandle" ∧ (parseMethodDescriptor yX0_due.desc).map (fun d => d.parameters.length) = some 0 := by decide +kernel
theorem dsp_X0_236 {p : Program} {l : Launch} {e : Env} {R : Room} {s : State} {m : MethodId} {args : Array Value} {below : List Frame} {meth : Method} {c : Code} {H : Heap} {locs : List Loc} {cells slots : Nat} {cc : ByteArray} {pc nL : Nat} {ls : Array Slot} {rest : List Value} {g : Gl} {σ σ1 : Hp} {nm : String} {rt : Option FieldType} {x0 : Nat} {v : Int32} {x1 : Int32} (X : FX g p m c s args meth cc nL RX0 rt nm) (hV : HV g σ H) (hc : D_every σ x0 x1 = some (v, σ1)) (hsz : ls.size = nL) (hR : 2 ≤ R.frames ∧ 42 ≤ R.locals) (hW : (rest.map fun v => v.category).sum ≤ 8) (hdg : decode cc pc = .ok (.invokevirtual 236, 3)) (hf : cells ≤ R.cells ∧ slots ≤ R.slots) : va_Run p l e R s m args below meth c H locs cells slots 0 0 (F0 m pc ls (.int x1 :: .ref x0 :: rest)) rest (Qi g (v, σ1) (.ref x0 :: [.int x1]).toArray) (frN g) := by
  unfold D_every at hc
  by_cases h13 : hT σ x0 = some (.inl 13)
  · rw [if_pos h13] at hc
    exact va_runU (C := RX13) (x := ⟨"PalaceOfRooms$Line", "every", "(I)I"⟩) (As := [.int x1]) (rest := rest) (cfX X) (c_X12_every_13 l hc) (va_cwU (owner := RX12) 1 X.2.2.2.2.1 (lw_app (lw_in _ [744, 746, 753, 745, 69] (by decide +kernel) (by decide +kernel)) (lw_meth q754)) rfl rfl rfl rfl yd_X12_every ⟨Nat.le_trans (Nat.le_of_ble_eq_true rfl) hR.1, Nat.le_trans (Nat.le_of_ble_eq_true rfl) hR.2⟩) (preV X hV h13 rfl) rfl rfl hsz rfl (lv_room hW) hdg hf
  rw [if_neg h13] at hc
  by_cases h14 : hT σ x0 = some (.inl 14)
  · rw [if_pos h14] at hc
    exact va_runU (C := RX14) (x := ⟨"PalaceOfRooms$Line", "every", "(I)I"⟩) (As := [.int x1]) (rest := rest) (cfX X) (c_X12_every_14 l hc) (va_cwU (owner := RX12) 1 X.2.2.2.2.1 (lw_app (lw_in _ [744, 746, 747, 745, 69] (by decide +kernel) (by decide +kernel)) (lw_meth q754)) rfl rfl rfl rfl yd_X12_every ⟨Nat.le_trans (Nat.le_of_ble_eq_true rfl) hR.1, Nat.le_trans (Nat.le_of_ble_eq_true rfl) hR.2⟩) (preV X hV h14 rfl) rfl rfl hsz rfl (lv_room hW) hdg hf
  rw [if_neg h14] at hc
  by_cases h15 : hT σ x0 = some (.inl 15)
  · rw [if_pos h15] at hc
    exact va_runU (C := RX15) (x := ⟨"PalaceOfRooms$Line", "every", "(I)I"⟩) (As := [.int x1]) (rest := rest) (cfX X) (c_X12_every_15 l hc) (va_cwU (owner := RX12) 1 X.2.2.2.2.1 (lw_app (lw_in _ [744, 746, 748, 745, 69] (by decide +kernel) (by decide +kernel)) (lw_meth q754)) rfl rfl rfl rfl yd_X12_every ⟨Nat.le_trans (Nat.le_of_ble_eq_true rfl) hR.1, Nat.le_trans (Nat.le_of_ble_eq_true rfl) hR.2⟩) (preV X hV h15 rfl) rfl rfl hsz rfl (lv_room hW) hdg hf
  rw [if_neg h15] at hc
  by_cases h16 : hT σ x0 = some (.inl 16)
  · rw [if_pos h16] at hc
    exact va_runU (C := RX16) (x := ⟨"PalaceOfRooms$Line", "every", "(I)I"⟩) (As := [.int x1]) (rest := rest) (cfX X) (c_X16_every l hc) (va_cwO (owner := RX12) 1 X.2.2.2.2.1 (lw_app (lw_in _ [744, 746, 745, 749, 750, 73] (by decide +kernel) (by decide +kernel)) (lw_meth q751)) rfl rfl rfl q754 (by decide +kernel) ⟨Nat.le_trans (Nat.le_of_ble_eq_true rfl) hR.1, Nat.le_trans (Nat.le_of_ble_eq_true rfl) hR.2⟩) (preV X hV h16 rfl) rfl rfl hsz rfl (lv_room hW) hdg hf
  rw [if_neg h16] at hc
  cases hc
abbrev rm_X0_due : Room := { frames := 2, cells := 0, slots := 0, locals := 42 }
set_option maxHeartbeats 4000000 in
theorem w_X0_due_61 {p : Program} {l : Launch} {e : Env} {s : State} {m : MethodId} {args : Array Value} {below : List Frame} {meth : Method} {c : Code} {g : Gl} (X : FX g p m c s args meth cX0_due 5 RX0 (some .int) "due") {r : Int32 × Hp} {rec4 : Hp × Int32 × Int32 → Option (Int32 × Hp)} {σ : Hp} {x0 : Nat} {x1 : Int32} {x2 : Int32} {x3 : Int32} (hr4 : ∀ (st : Hp × Int32 × Int32), rec4 st = some r → ∀ (H : Heap) (locs : List Loc) (ls : Array Slot), HV g st.1 H → FR g locs → lv_has ls 5 [(0, .ref x0), (1, .int st.2.1), (2, .int st.2.2)] → W p l e rm_X0_due s m args below meth c H locs 0 0 (MQ below (Qi g r) args s 0 0 (frN g)) (F0 m 4 ls [])) {H : Heap} {locs : List Loc} {ls : Array Slot} (h : F_X0_due_61 rec4 σ x0 x1 x2 x3 = some r) (hV : HV g σ H) (hF : FR g locs) (hl : lv_has ls 5 [(0, .ref x0), (1, .int x1), (2, .int x2), (3, .int x3)]) : W p l e rm_X0_due s m args below meth c H locs 0 0 (MQ below (Qi g r) args s 0 0 (frN g)) (F0 m 61 ls []) := by
  unfold F_X0_due_61 at h
  refine lv_iload_n X.1 X.2.1 dX0_due_61 rfl (lv_at hl 1 rfl) ?_
  refine lv_iload_n X.1 X.2.1 dX0_due_62 rfl (lv_at hl 3 rfl) ?_
  refine lv_iconst (v := (-1)) X.1 X.2.1 dX0_due_63 (by decide) ?_
  refine r_eq (tgt := 98) X.1 X.2.1 dX0_due_64 (by decide) h (fun h => ?_) (fun h => ?_)
  · refine lv_iconst (v := 0) X.1 X.2.1 dX0_due_98 (by decide) ?_
    refine lv_ior X.1 X.2.1 dX0_due_99 ?_
    refine lv_istore_n (lv' := [(1, .int (x1 ||| 0)), (0, .ref x0), (2, .int x2), (3, .int x3)]) X.1 X.2.1 dX0_due_100 rfl hl (by decide) rfl (fun ls hl => ?_)
    refine lv_iinc (v := x2 + 1) (lv' := [(2, .int (x2 + 1)), (1, .int (x1 ||| 0)), (0, .ref x0), (3, .int x3)]) X.1 X.2.1 dX0_due_101 hl (k := 2) rfl rfl (by decide) rfl (fun ls hl => ?_)
    refine lv_goto (tgt := 4) X.1 X.2.1 dX0_due_104 (by decide) ?_
    exact hr4 (σ, x1 ||| 0, x2 + 1) h _ _ _ hV hF (lv_sub hl [2, 1, 0] rfl)
  · refine lv_aload_n X.1 X.2.1 dX0_due_67 rfl (lv_at hl 0 rfl) ?_
    refine r_gR X hV fl_X0_50_0 (by decide) dX0_due_68 h (fun v1 h => ?_)
    refine lv_iload_n X.1 X.2.1 dX0_due_71 rfl (lv_at hl 2 rfl) ?_
    refine r_ia X hV dX0_due_72 h (fun v2 h => ?_)
    refine lv_iconst (v := (-1)) X.1 X.2.1 dX0_due_73 (by decide) ?_
    refine r_eq (tgt := 92) X.1 X.2.1 dX0_due_74 (by decide) h (fun h => ?_) (fun h => ?_)
    · refine lv_iconst (v := 1) X.1 X.2.1 dX0_due_92 (by decide) ?_
      refine lv_iload_n X.1 X.2.1 dX0_due_93 rfl (lv_at hl 2 rfl) ?_
      refine lv_ishl X.1 X.2.1 dX0_due_94 ?_
      refine lv_goto (tgt := 99) X.1 X.2.1 dX0_due_95 (by decide) ?_
      refine lv_ior X.1 X.2.1 dX0_due_99 ?_
      refine lv_istore_n (lv' := [(1, .int (x1 ||| (1 <<< (x2 &&& 31)))), (0, .ref x0), (2, .int x2), (3, .int x3)]) X.1 X.2.1 dX0_due_100 rfl hl (by decide) rfl (fun ls hl => ?_)
      refine lv_iinc (v := x2 + 1) (lv' := [(2, .int (x2 + 1)), (1, .int (x1 ||| (1 <<< (x2 &&& 31)))), (0, .ref x0), (3, .int x3)]) X.1 X.2.1 dX0_due_101 hl (k := 2) rfl rfl (by decide) rfl (fun ls hl => ?_)
      refine lv_goto (tgt := 4) X.1 X.2.1 dX0_due_104 (by decide) ?_
      exact hr4 (σ, x1 ||| (1 <<< (x2 &&& 31)), x2 + 1) h _ _ _ hV hF (lv_sub hl [2, 1, 0] rfl)
    · refine lv_aload_n X.1 X.2.1 dX0_due_77 rfl (lv_at hl 0 rfl) ?_
      refine r_gI X hV fl_X0_153_0 dX0_due_78 h (fun v3 h => ?_)
      refine lv_aload_n X.1 X.2.1 dX0_due_81 rfl (lv_at hl 0 rfl) ?_
      refine r_gR X hV fl_X0_50_0 (by decide) dX0_due_82 h (fun v4 h => ?_)
      refine lv_iload_n X.1 X.2.1 dX0_due_85 rfl (lv_at hl 2 rfl) ?_
      refine r_ia X hV dX0_due_86 h (fun v5 h => ?_)
      refine lv_isub X.1 X.2.1 dX0_due_87 ?_
      refine lv_iload_n X.1 X.2.1 dX0_due_88 rfl (lv_at hl 3 rfl) ?_
      refine r_lt (tgt := 98) X.1 X.2.1 dX0_due_89 (by decide) h (fun h => ?_) (fun h => ?_)
      · refine lv_iconst (v := 0) X.1 X.2.1 dX0_due_98 (by decide) ?_
        refine lv_ior X.1 X.2.1 dX0_due_99 ?_
        refine lv_istore_n (lv' := [(1, .int (x1 ||| 0)), (0, .ref x0), (2, .int x2), (3, .int x3)]) X.1 X.2.1 dX0_due_100 rfl hl (by decide) rfl (fun ls hl => ?_)
        refine lv_iinc (v := x2 + 1) (lv' := [(2, .int (x2 + 1)), (1, .int (x1 ||| 0)), (0, .ref x0), (3, .int x3)]) X.1 X.2.1 dX0_due_101 hl (k := 2) rfl rfl (by decide) rfl (fun ls hl => ?_)
        refine lv_goto (tgt := 4) X.1 X.2.1 dX0_due_104 (by decide) ?_
        exact hr4 (σ, x1 ||| 0, x2 + 1) h _ _ _ hV hF (lv_sub hl [2, 1, 0] rfl)
      · refine lv_iconst (v := 1) X.1 X.2.1 dX0_due_92 (by decide) ?_
        refine lv_iload_n X.1 X.2.1 dX0_due_93 rfl (lv_at hl 2 rfl) ?_
        refine lv_ishl X.1 X.2.1 dX0_due_94 ?_
        refine lv_goto (tgt := 99) X.1 X.2.1 dX0_due_95 (by decide) ?_
        refine lv_ior X.1 X.2.1 dX0_due_99 ?_
        refine lv_istore_n (lv' := [(1, .int (x1 ||| (1 <<< (x2 &&& 31)))), (0, .ref x0), (2, .int x2), (3, .int x3)]) X.1 X.2.1 dX0_due_100 rfl hl (by decide) rfl (fun ls hl => ?_)
        refine lv_iinc (v := x2 + 1) (lv' := [(2, .int (x2 + 1)), (1, .int (x1 ||| (1 <<< (x2 &&& 31)))), (0, .ref x0), (3, .int x3)]) X.1 X.2.1 dX0_due_101 hl (k := 2) rfl rfl (by decide) rfl (fun ls hl => ?_)
        refine lv_goto (tgt := 4) X.1 X.2.1 dX0_due_104 (by decide) ?_
        exact hr4 (σ, x1 ||| (1 <<< (x2 &&& 31)), x2 + 1) h _ _ _ hV hF (lv_sub hl [2, 1, 0] rfl)
set_option maxHeartbeats 4000000 in
theorem w_X0_due_15_b {p : Program} {l : Launch} {e : Env} {s : State} {m : MethodId} {args : Array Value} {below : List Frame} {meth : Method} {c : Code} {g : Gl} (X : FX g p m c s args meth cX0_due 5 RX0 (some .int) "due") {r : Int32 × Hp} {rec4 : Hp × Int32 × Int32 → Option (Int32 × Hp)} {rec15 : Hp × Int32 × Int32 → Option (Int32 × Hp)} {x0 : Nat} {x1 : Int32} {x2 : Int32} {σ : Hp} {x3 : Int32} {x4 : Int32} (hr4 : ∀ (st : Hp × Int32 × Int32), rec4 st = some r → ∀ (H : Heap) (locs : List Loc) (ls : Array Slot), HV g st.1 H → FR g locs → lv_has ls 5 [(0, .ref x0), (1, .int st.2.1), (2, .int st.2.2)] → W p l e rm_X0_due s m args below meth c H locs 0 0 (MQ below (Qi g r) args s 0 0 (frN g)) (F0 m 4 ls [])) (hr15 : ∀ (st : Hp × Int32 × Int32), rec15 st = some r → ∀ (H : Heap) (locs : List Loc) (ls : Array Slot), HV g st.1 H → FR g locs → lv_has ls 5 [(0, .ref x0), (1, .int x1), (2, .int x2), (3, .int st.2.1), (4, .int st.2.2)] → W p l e rm_X0_due s m args below meth c H locs 0 0 (MQ below (Qi g r) args s 0 0 (frN g)) (F0 m 15 ls [])) {H : Heap} {locs : List Loc} {ls : Array Slot} (h : B_X0_due_15 rec4 x0 x1 x2 rec15 σ x3 x4 = some r) (hV : HV g σ H) (hF : FR g locs) (hl : lv_has ls 5 [(0, .ref x0), (1, .int x1), (2, .int x2), (3, .int x3), (4, .int x4)]) : W p l e rm_X0_due s m args below meth c H locs 0 0 (MQ below (Qi g r) args s 0 0 (frN g)) (F0 m 15 ls []) := by
  unfold B_X0_due_15 at h
  refine lv_iload X.1 X.2.1 dX0_due_15 (lv_at hl 4 rfl) ?_
  refine lv_aload_n X.1 X.2.1 dX0_due_17 rfl (lv_at hl 0 rfl) ?_
  refine r_gI X hV fl_X0_212_0 dX0_due_18 h (fun v1 h => ?_)
  refine r_ge (tgt := 61) X.1 X.2.1 dX0_due_21 (by decide) h (fun h => ?_) (fun h => ?_)
  · exact w_X0_due_61 X hr4 h hV hF (lv_sub hl [0, 1, 2, 3] rfl)
  · refine lv_aload_n X.1 X.2.1 dX0_due_24 rfl (lv_at hl 0 rfl) ?_
    refine r_gR X hV fl_X0_55_0 (by decide) dX0_due_25 h (fun v2 h => ?_)
    refine lv_iload X.1 X.2.1 dX0_due_28 (lv_at hl 4 rfl) ?_
    refine r_aa X hV dX0_due_30 (by decide) h (fun v3 h => ?_)
    refine lv_iload_n X.1 X.2.1 dX0_due_31 rfl (lv_at hl 2 rfl) ?_
    obtain ⟨v4, s1, hc, h⟩ := b2_inv h
    refine r_ci (dsp_X0_236 (rest := []) X hV hc hl.1 ⟨Nat.le_of_ble_eq_true rfl, Nat.le_of_ble_eq_true rfl⟩ (Nat.le_of_ble_eq_true rfl) dX0_due_32 ⟨Nat.le_of_ble_eq_true rfl, Nat.le_of_ble_eq_true rfl⟩) hF (fun H locs hV hF => ?_)
    refine lv_iconst (v := (-1)) X.1 X.2.1 dX0_due_35 (by decide) ?_
    refine r_ne (tgt := 43) X.1 X.2.1 dX0_due_36 (by decide) h (fun h => ?_) (fun h => ?_)
    · refine lv_aload_n X.1 X.2.1 dX0_due_43 rfl (lv_at hl 0 rfl) ?_
      refine r_gR X hV fl_X0_55_0 (by decide) dX0_due_44 h (fun v5 h => ?_)
      refine lv_iload X.1 X.2.1 dX0_due_47 (lv_at hl 4 rfl) ?_
      refine r_aa X hV dX0_due_49 (by decide) h (fun v6 h => ?_)
      refine lv_iload_n X.1 X.2.1 dX0_due_50 rfl (lv_at hl 2 rfl) ?_
      obtain ⟨v7, s2, hc, h⟩ := b2_inv h
      refine r_ci (dsp_X0_236 (rest := []) X hV hc hl.1 ⟨Nat.le_of_ble_eq_true rfl, Nat.le_of_ble_eq_true rfl⟩ (Nat.le_of_ble_eq_true rfl) dX0_due_51 ⟨Nat.le_of_ble_eq_true rfl, Nat.le_of_ble_eq_true rfl⟩) hF (fun H locs hV hF => ?_)
      refine lv_istore_n (lv' := [(3, .int v7), (0, .ref x0), (1, .int x1), (2, .int x2), (4, .int x4)]) X.1 X.2.1 dX0_due_54 rfl hl (by decide) rfl (fun ls hl => ?_)
      refine lv_iinc (v := x4 + 1) (lv' := [(4, .int (x4 + 1)), (3, .int v7), (0, .ref x0), (1, .int x1), (2, .int x2)]) X.1 X.2.1 dX0_due_55 hl (k := 4) rfl rfl (by decide) rfl (fun ls hl => ?_)
      refine lv_goto (tgt := 15) X.1 X.2.1 dX0_due_58 (by decide) ?_
      exact hr15 (s2, v7, x4 + 1) h _ _ _ hV hF (lv_sub hl [2, 3, 4, 1, 0] rfl)
    · refine lv_iload_n X.1 X.2.1 dX0_due_39 rfl (lv_at hl 3 rfl) ?_
      refine lv_goto (tgt := 54) X.1 X.2.1 dX0_due_40 (by decide) ?_
      refine lv_istore_n (lv' := [(3, .int x3), (0, .ref x0), (1, .int x1), (2, .int x2), (4, .int x4)]) X.1 X.2.1 dX0_due_54 rfl hl (by decide) rfl (fun ls hl => ?_)
      refine lv_iinc (v := x4 + 1) (lv' := [(4, .int (x4 + 1)), (3, .int x3), (0, .ref x0), (1, .int x1), (2, .int x2)]) X.1 X.2.1 dX0_due_55 hl (k := 4) rfl rfl (by decide) rfl (fun ls hl => ?_)
      refine lv_goto (tgt := 15) X.1 X.2.1 dX0_due_58 (by decide) ?_
      exact hr15 (s1, x3, x4 + 1) h _ _ _ hV hF (lv_sub hl [2, 3, 4, 1, 0] rfl)
set_option maxHeartbeats 4000000 in
theorem w_X0_due_15 {p : Program} {l : Launch} {e : Env} {s : State} {m : MethodId} {args : Array Value} {below : List Frame} {meth : Method} {c : Code} {g : Gl} (X : FX g p m c s args meth cX0_due 5 RX0 (some .int) "due") {r : Int32 × Hp} {rec4 : Hp × Int32 × Int32 → Option (Int32 × Hp)} {x0 : Nat} {x1 : Int32} {x2 : Int32} (hr4 : ∀ (st : Hp × Int32 × Int32), rec4 st = some r → ∀ (H : Heap) (locs : List Loc) (ls : Array Slot), HV g st.1 H → FR g locs → lv_has ls 5 [(0, .ref x0), (1, .int st.2.1), (2, .int st.2.2)] → W p l e rm_X0_due s m args below meth c H locs 0 0 (MQ below (Qi g r) args s 0 0 (frN g)) (F0 m 4 ls [])) : ∀ (n : Nat) (st : Hp × Int32 × Int32), L_X0_due_15 rec4 x0 x1 x2 n st = some r → ∀ (H : Heap) (locs : List Loc) (ls : Array Slot), HV g st.1 H → FR g locs → lv_has ls 5 [(0, .ref x0), (1, .int x1), (2, .int x2), (3, .int st.2.1), (4, .int st.2.2)] → W p l e rm_X0_due s m args below meth c H locs 0 0 (MQ below (Qi g r) args s 0 0 (frN g)) (F0 m 15 ls []) := by
  intro n
  induction n with
  | zero =>
    intro st h
    rw [L_X0_due_15_0] at h
    cases h
  | succ n ih =>
    intro st h H locs ls hV hF hl
    rw [L_X0_due_15_s] at h
    exact w_X0_due_15_b X hr4 ih h hV hF hl
set_option maxHeartbeats 4000000 in
theorem w_X0_due_4_b {p : Program} {l : Launch} {e : Env} {s : State} {m : MethodId} {args : Array Value} {below : List Frame} {meth : Method} {c : Code} {g : Gl} (X : FX g p m c s args meth cX0_due 5 RX0 (some .int) "due") {r : Int32 × Hp} {rec4 : Hp × Int32 × Int32 → Option (Int32 × Hp)} {x0 : Nat} {σ : Hp} {x1 : Int32} {x2 : Int32} (hr4 : ∀ (st : Hp × Int32 × Int32), rec4 st = some r → ∀ (H : Heap) (locs : List Loc) (ls : Array Slot), HV g st.1 H → FR g locs → lv_has ls 5 [(0, .ref x0), (1, .int st.2.1), (2, .int st.2.2)] → W p l e rm_X0_due s m args below meth c H locs 0 0 (MQ below (Qi g r) args s 0 0 (frN g)) (F0 m 4 ls [])) {H : Heap} {locs : List Loc} {ls : Array Slot} (h : B_X0_due_4 x0 rec4 σ x1 x2 = some r) (hV : HV g σ H) (hF : FR g locs) (hl : lv_has ls 5 [(0, .ref x0), (1, .int x1), (2, .int x2)]) : W p l e rm_X0_due s m args below meth c H locs 0 0 (MQ below (Qi g r) args s 0 0 (frN g)) (F0 m 4 ls []) := by
  unfold B_X0_due_4 at h
  refine lv_iload_n X.1 X.2.1 dX0_due_4 rfl (lv_at hl 2 rfl) ?_
  refine lv_bipush (v := 8) X.1 X.2.1 dX0_due_5 (by decide) ?_
  refine r_ge (tgt := 107) X.1 X.2.1 dX0_due_7 (by decide) h (fun h => ?_) (fun h => ?_)
  · refine lv_iload_n X.1 X.2.1 dX0_due_107 rfl (lv_at hl 1 rfl) ?_
    exact r_iret X hV hF h dX0_due_108
  · refine lv_iconst (v := (-1)) X.1 X.2.1 dX0_due_10 (by decide) ?_
    refine lv_istore_n (lv' := [(3, .int (-1)), (0, .ref x0), (1, .int x1), (2, .int x2)]) X.1 X.2.1 dX0_due_11 rfl hl (by decide) rfl (fun ls hl => ?_)
    refine lv_iconst (v := 0) X.1 X.2.1 dX0_due_12 (by decide) ?_
    refine lv_istore (lv' := [(4, .int 0), (3, .int (-1)), (0, .ref x0), (1, .int x1), (2, .int x2)]) X.1 X.2.1 dX0_due_13 hl (by decide) rfl (fun ls hl => ?_)
    exact w_X0_due_15 X hr4 FU (σ, (-1), 0) h _ _ _ hV hF (lv_sub hl [2, 3, 4, 1, 0] rfl)
set_option maxHeartbeats 4000000 in
theorem w_X0_due_4 {p : Program} {l : Launch} {e : Env} {s : State} {m : MethodId} {args : Array Value} {below : List Frame} {meth : Method} {c : Code} {g : Gl} (X : FX g p m c s args meth cX0_due 5 RX0 (some .int) "due") {r : Int32 × Hp} {x0 : Nat}  : ∀ (n : Nat) (st : Hp × Int32 × Int32), L_X0_due_4 x0 n st = some r → ∀ (H : Heap) (locs : List Loc) (ls : Array Slot), HV g st.1 H → FR g locs → lv_has ls 5 [(0, .ref x0), (1, .int st.2.1), (2, .int st.2.2)] → W p l e rm_X0_due s m args below meth c H locs 0 0 (MQ below (Qi g r) args s 0 0 (frN g)) (F0 m 4 ls []) := by
  intro n
  induction n with
  | zero =>
    intro st h
    rw [L_X0_due_4_0] at h
    cases h
  | succ n ih =>
    intro st h H locs ls hV hF hl
    rw [L_X0_due_4_s] at h
    exact w_X0_due_4_b X  ih h hV hF hl
set_option maxHeartbeats 4000000 in
theorem c_X0_due (l : Launch) {g : Gl} {σ : Hp} {x0 : Nat} {r : Int32 × Hp} (h : F_X0_due σ x0 = some r) : Met l yX0_due (ws_ yX0_due cX0_due 5 (some .int)) rm_X0_due (va_Pc [.ref x0] (WV g σ)) (Qi g r) 0 0 (frN g) := by
  refine ct_of (by decide) (Nat.le_of_ble_eq_true rfl) ?_
  intro p e s m below meth c ls X hV hl
  have hF : FR g [] := FR_nil
  unfold F_X0_due at h
  have hl : lv_has ls 5 [(0, .ref x0)] := hl
  have X : FX g p m c s _ meth cX0_due 5 RX0 (some .int) "due" := X
  obtain ⟨-, h⟩ := gd_inv h
  refine lv_iconst (v := 0) X.1 X.2.1 dX0_due_0 (by decide) ?_
  refine lv_istore_n (lv' := [(1, .int 0), (0, .ref x0)]) X.1 X.2.1 dX0_due_1 rfl hl (by decide) rfl (fun ls hl => ?_)
  refine lv_iconst (v := 0) X.1 X.2.1 dX0_due_2 (by decide) ?_
  refine lv_istore_n (lv' := [(2, .int 0), (1, .int 0), (0, .ref x0)]) X.1 X.2.1 dX0_due_3 rfl hl (by decide) rfl (fun ls hl => ?_)
  exact w_X0_due_4 X  FU (σ, 0, 0) h _ _ _ hV hF (lv_sub hl [2, 1, 0] rfl)
/-! PalaceOfRooms.layHand -/
theorem dX0_layHand_0 : decode cX0_layHand 0 = .ok (.iload_n 3, 1) := by decide +kernel
theorem dX0_layHand_1 : decode cX0_layHand 1 = .ok (.i2l, 1) := by decide +kernel
theorem dX0_layHand_2 : decode cX0_layHand 2 = .ok (.iload 4, 2) := by decide +kernel
theorem dX0_layHand_4 : decode cX0_layHand 4 = .ok (.i2l, 1) := by decide +kernel
theorem dX0_layHand_5 : decode cX0_layHand 5 = .ok (.iload 5, 2) := by decide +kernel
theorem dX0_layHand_7 : decode cX0_layHand 7 = .ok (.i2l, 1) := by decide +kernel
theorem dX0_layHand_8 : decode cX0_layHand 8 = .ok (.invokestatic 5, 3) := by decide +kernel
theorem dX0_layHand_11 : decode cX0_layHand 11 = .ok (.ifCond .ne 6, 3) := by decide +kernel
theorem dX0_layHand_14 : decode cX0_layHand 14 = .ok (.bipush (-3), 2) := by decide +kernel
theorem dX0_layHand_16 : decode cX0_layHand 16 = .ok (.ireturn, 1) := by decide +kernel
theorem dX0_layHand_17 : decode cX0_layHand 17 = .ok (.iconst 1, 1) := by decide +kernel
theorem dX0_layHand_18 : decode cX0_layHand 18 = .ok (.istore 7, 2) := by decide +kernel
theorem dX0_layHand_20 : decode cX0_layHand 20 = .ok (.iconst 1, 1) := by decide +kernel
theorem dX0_layHand_21 : decode cX0_layHand 21 = .ok (.istore 8, 2) := by decide +kernel
theorem dX0_layHand_23 : decode cX0_layHand 23 = .ok (.iconst 0, 1) := by decide +kernel
theorem dX0_layHand_24 : decode cX0_layHand 24 = .ok (.istore 9, 2) := by decide +kernel
theorem dX0_layHand_26 : decode cX0_layHand 26 = .ok (.iload 9, 2) := by decide +kernel
theorem dX0_layHand_28 : decode cX0_layHand 28 = .ok (.iload_n 3, 1) := by decide +kernel
theorem dX0_layHand_29 : decode cX0_layHand 29 = .ok (.if_icmp .ge 97, 3) := by decide +kernel
theorem dX0_layHand_32 : decode cX0_layHand 32 = .ok (.aload_n 0, 1) := by decide +kernel
theorem dX0_layHand_33 : decode cX0_layHand 33 = .ok (.getfield 70, 3) := by decide +kernel
theorem dX0_layHand_36 : decode cX0_layHand 36 = .ok (.iload 9, 2) := by decide +kernel
theorem dX0_layHand_38 : decode cX0_layHand 38 = .ok (.lload_n 1, 1) := by decide +kernel
theorem dX0_layHand_39 : decode cX0_layHand 39 = .ok (.iconst 5, 1) := by decide +kernel
theorem dX0_layHand_40 : decode cX0_layHand 40 = .ok (.iload 9, 2) := by decide +kernel
theorem dX0_layHand_42 : decode cX0_layHand 42 = .ok (.imul, 1) := by decide +kernel
theorem dX0_layHand_43 : decode cX0_layHand 43 = .ok (.lshr, 1) := by decide +kernel
theorem dX0_layHand_44 : decode cX0_layHand 44 = .ok (.ldc2_w 239, 3) := by decide +kernel
theorem dX0_layHand_47 : decode cX0_layHand 47 = .ok (.land, 1) := by decide +kernel
theorem dX0_layHand_48 : decode cX0_layHand 48 = .ok (.l2i, 1) := by decide +kernel
theorem dX0_layHand_49 : decode cX0_layHand 49 = .ok (.iastore, 1) := by decide +kernel
theorem dX0_layHand_50 : decode cX0_layHand 50 = .ok (.iload 7, 2) := by decide +kernel
theorem dX0_layHand_52 : decode cX0_layHand 52 = .ok (.ifCond .eq 20, 3) := by decide +kernel
theorem dX0_layHand_55 : decode cX0_layHand 55 = .ok (.aload_n 0, 1) := by decide +kernel
theorem dX0_layHand_56 : decode cX0_layHand 56 = .ok (.getfield 70, 3) := by decide +kernel
theorem dX0_layHand_59 : decode cX0_layHand 59 = .ok (.iload 9, 2) := by decide +kernel
theorem dX0_layHand_61 : decode cX0_layHand 61 = .ok (.iaload, 1) := by decide +kernel
theorem dX0_layHand_62 : decode cX0_layHand 62 = .ok (.invokestatic 116, 3) := by decide +kernel
theorem dX0_layHand_65 : decode cX0_layHand 65 = .ok (.ifCond .eq 7, 3) := by decide +kernel
theorem dX0_layHand_68 : decode cX0_layHand 68 = .ok (.iconst 1, 1) := by decide +kernel
theorem dX0_layHand_69 : decode cX0_layHand 69 = .ok (.goto 4, 3) := by decide +kernel
theorem dX0_layHand_72 : decode cX0_layHand 72 = .ok (.iconst 0, 1) := by decide +kernel
theorem dX0_layHand_73 : decode cX0_layHand 73 = .ok (.istore 7, 2) := by decide +kernel
theorem dX0_layHand_75 : decode cX0_layHand 75 = .ok (.iconst 0, 1) := by decide +kernel
theorem dX0_layHand_76 : decode cX0_layHand 76 = .ok (.istore 10, 2) := by decide +kernel
theorem dX0_layHand_78 : decode cX0_layHand 78 = .ok (.iload 10, 2) := by decide +kernel
theorem dX0_layHand_80 : decode cX0_layHand 80 = .ok (.iload 9, 2) := by decide +kernel
theorem dX0_layHand_82 : decode cX0_layHand 82 = .ok (.if_icmp .ge 38, 3) := by decide +kernel
theorem dX0_layHand_85 : decode cX0_layHand 85 = .ok (.iload 8, 2) := by decide +kernel
theorem dX0_layHand_87 : decode cX0_layHand 87 = .ok (.ifCond .eq 24, 3) := by decide +kernel
theorem dX0_layHand_90 : decode cX0_layHand 90 = .ok (.aload_n 0, 1) := by decide +kernel
theorem dX0_layHand_91 : decode cX0_layHand 91 = .ok (.getfield 70, 3) := by decide +kernel
theorem dX0_layHand_94 : decode cX0_layHand 94 = .ok (.iload 10, 2) := by decide +kernel
theorem dX0_layHand_96 : decode cX0_layHand 96 = .ok (.iaload, 1) := by decide +kernel
theorem dX0_layHand_97 : decode cX0_layHand 97 = .ok (.aload_n 0, 1) := by decide +kernel
theorem dX0_layHand_98 : decode cX0_layHand 98 = .ok (.getfield 70, 3) := by decide +kernel
theorem dX0_layHand_101 : decode cX0_layHand 101 = .ok (.iload 9, 2) := by decide +kernel
theorem dX0_layHand_103 : decode cX0_layHand 103 = .ok (.iaload, 1) := by decide +kernel
theorem dX0_layHand_104 : decode cX0_layHand 104 = .ok (.if_icmp .eq 7, 3) := by decide +kernel
theorem dX0_layHand_107 : decode cX0_layHand 107 = .ok (.iconst 1, 1) := by decide +kernel
theorem dX0_layHand_108 : decode cX0_layHand 108 = .ok (.goto 4, 3) := by decide +kernel
theorem dX0_layHand_111 : decode cX0_layHand 111 = .ok (.iconst 0, 1) := by decide +kernel
theorem dX0_layHand_112 : decode cX0_layHand 112 = .ok (.istore 8, 2) := by decide +kernel
theorem dX0_layHand_114 : decode cX0_layHand 114 = .ok (.iinc 10 1, 3) := by decide +kernel
theorem dX0_layHand_117 : decode cX0_layHand 117 = .ok (.goto (-39), 3) := by decide +kernel
theorem dX0_layHand_120 : decode cX0_layHand 120 = .ok (.iinc 9 1, 3) := by decide +kernel
theorem dX0_layHand_123 : decode cX0_layHand 123 = .ok (.goto (-97), 3) := by decide +kernel
theorem dX0_layHand_126 : decode cX0_layHand 126 = .ok (.iload 7, 2) := by decide +kernel
theorem dX0_layHand_128 : decode cX0_layHand 128 = .ok (.ifCond .ne 8, 3) := by decide +kernel
theorem dX0_layHand_131 : decode cX0_layHand 131 = .ok (.bipush (-2), 2) := by decide +kernel
theorem dX0_layHand_133 : decode cX0_layHand 133 = .ok (.goto 20, 3) := by decide +kernel
theorem dX0_layHand_136 : decode cX0_layHand 136 = .ok (.iload 8, 2) := by decide +kernel
theorem dX0_layHand_138 : decode cX0_layHand 138 = .ok (.ifCond .eq 9, 3) := by decide +kernel
theorem dX0_layHand_141 : decode cX0_layHand 141 = .ok (.iload 6, 2) := by decide +kernel
theorem dX0_layHand_143 : decode cX0_layHand 143 = .ok (.iconst (-1), 1) := by decide +kernel
theorem dX0_layHand_144 : decode cX0_layHand 144 = .ok (.if_icmp .ge 8, 3) := by decide +kernel
theorem dX0_layHand_147 : decode cX0_layHand 147 = .ok (.bipush (-3), 2) := by decide +kernel
theorem dX0_layHand_149 : decode cX0_layHand 149 = .ok (.goto 4, 3) := by decide +kernel
theorem dX0_layHand_152 : decode cX0_layHand 152 = .ok (.iconst 0, 1) := by decide +kernel
theorem dX0_layHand_153 : decode cX0_layHand 153 = .ok (.ireturn, 1) := by decide +kernel
theorem yd_X0_layHand : yX0_layHand.cls ≠ "java/lang/invoke/MethodHandle" ∧ yX0_layHand.cls ≠ "java/lang/invoke/VarHandle" ∧ (parseMethodDescriptor yX0_layHand.desc).map (fun d => d.parameters.length) = some 5 := by decide +kernel
theorem fl_X0_70_0 : FLk RX0 70 0 15 "[I" := ⟨RX0, TX0, 22, "PalaceOfRooms", rfl, by decide, (fun q => by have h1 := q.1; have h2 := q.2; omega), rfl, in_X0, Or.inl q270, Or.inl rfl⟩
abbrev rm_X0_layHand : Room := { frames := 2, cells := 0, slots := 0, locals := 45 }
set_option maxHeartbeats 4000000 in
theorem w_X0_layHand_126 {p : Program} {l : Launch} {e : Env} {s : State} {m : MethodId} {args : Array Value} {below : List Frame} {meth : Method} {c : Code} {g : Gl} (X : FX g p m c s args meth cX0_layHand 11 RX0 (some .int) "layHand") {r : Int32 × Hp} {σ : Hp} {x6 : Int32} {x7 : Int32} {x8 : Int32}  {H : Heap} {locs : List Loc} {ls : Array Slot} (h : F_X0_layHand_126 σ x6 x7 x8 = some r) (hV : HV g σ H) (hF : FR g locs) (hl : lv_has ls 11 [(6, .int x6), (7, .int x7), (8, .int x8)]) : W p l e rm_X0_layHand s m args below meth c H locs 0 0 (MQ below (Qi g r) args s 0 0 (frN g)) (F0 m 126 ls []) := by
  unfold F_X0_layHand_126 at h
  refine lv_iload X.1 X.2.1 dX0_layHand_126 (lv_at hl 1 rfl) ?_
  refine r_ifne (tgt := 136) X.1 X.2.1 dX0_layHand_128 (by decide) h (fun h => ?_) (fun h => ?_)
  · refine lv_iload X.1 X.2.1 dX0_layHand_136 (lv_at hl 2 rfl) ?_
    refine r_ifeq (tgt := 147) X.1 X.2.1 dX0_layHand_138 (by decide) h (fun h => ?_) (fun h => ?_)
    · refine lv_bipush (v := (-3)) X.1 X.2.1 dX0_layHand_147 (by decide) ?_
      refine lv_goto (tgt := 153) X.1 X.2.1 dX0_layHand_149 (by decide) ?_
      exact r_iret X hV hF h dX0_layHand_153
    · refine lv_iload X.1 X.2.1 dX0_layHand_141 (lv_at hl 0 rfl) ?_
      refine lv_iconst (v := (-1)) X.1 X.2.1 dX0_layHand_143 (by decide) ?_
      refine r_ge (tgt := 152) X.1 X.2.1 dX0_layHand_144 (by decide) h (fun h => ?_) (fun h => ?_)
      · refine lv_iconst (v := 0) X.1 X.2.1 dX0_layHand_152 (by decide) ?_
        exact r_iret X hV hF h dX0_layHand_153
      · refine lv_bipush (v := (-3)) X.1 X.2.1 dX0_layHand_147 (by decide) ?_
        refine lv_goto (tgt := 153) X.1 X.2.1 dX0_layHand_149 (by decide) ?_
        exact r_iret X hV hF h dX0_layHand_153
  · refine lv_bipush (v := (-2)) X.1 X.2.1 dX0_layHand_131 (by decide) ?_
    refine lv_goto (tgt := 153) X.1 X.2.1 dX0_layHand_133 (by decide) ?_
    exact r_iret X hV hF h dX0_layHand_153
set_option maxHeartbeats 4000000 in
theorem w_X0_layHand_78_b {p : Program} {l : Launch} {e : Env} {s : State} {m : MethodId} {args : Array Value} {below : List Frame} {meth : Method} {c : Code} {g : Gl} (X : FX g p m c s args meth cX0_layHand 11 RX0 (some .int) "layHand") {r : Int32 × Hp} {rec26 : Hp × Int32 × Int32 × Int32 → Option (Int32 × Hp)} {rec78 : Int32 × Int32 → Option (Int32 × Hp)} {σ : Hp} {x0 : Nat} {x1 : Int64} {x3 : Int32} {x6 : Int32} {x7 : Int32} {x9 : Int32} {x8 : Int32} {x10 : Int32} (hr26 : ∀ (st : Hp × Int32 × Int32 × Int32), rec26 st = some r → ∀ (H : Heap) (locs : List Loc) (ls : Array Slot), HV g st.1 H → FR g locs → lv_has ls 11 [(0, .ref x0), (1, .long x1), (3, .int x3), (6, .int x6), (7, .int st.2.1), (8, .int st.2.2.1), (9, .int st.2.2.2)] → W p l e rm_X0_layHand s m args below meth c H locs 0 0 (MQ below (Qi g r) args s 0 0 (frN g)) (F0 m 26 ls [])) (hr78 : ∀ (st : Int32 × Int32), rec78 st = some r → ∀ (H : Heap) (locs : List Loc) (ls : Array Slot), HV g σ H → FR g locs → lv_has ls 11 [(0, .ref x0), (1, .long x1), (3, .int x3), (6, .int x6), (7, .int x7), (8, .int st.1), (9, .int x9), (10, .int st.2)] → W p l e rm_X0_layHand s m args below meth c H locs 0 0 (MQ below (Qi g r) args s 0 0 (frN g)) (F0 m 78 ls [])) {H : Heap} {locs : List Loc} {ls : Array Slot} (h : B_X0_layHand_78 rec26 σ x0 x1 x3 x6 x7 x9 rec78 x8 x10 = some r) (hV : HV g σ H) (hF : FR g locs) (hl : lv_has ls 11 [(0, .ref x0), (1, .long x1), (3, .int x3), (6, .int x6), (7, .int x7), (8, .int x8), (9, .int x9), (10, .int x10)]) : W p l e rm_X0_layHand s m args below meth c H locs 0 0 (MQ below (Qi g r) args s 0 0 (frN g)) (F0 m 78 ls []) := by
  unfold B_X0_layHand_78 at h
  refine lv_iload X.1 X.2.1 dX0_layHand_78 (lv_at hl 7 rfl) ?_
  refine lv_iload X.1 X.2.1 dX0_layHand_80 (lv_at hl 6 rfl) ?_
  refine r_ge (tgt := 120) X.1 X.2.1 dX0_layHand_82 (by decide) h (fun h => ?_) (fun h => ?_)
  · refine lv_iinc (v := x9 + 1) (lv' := [(9, .int (x9 + 1)), (0, .ref x0), (1, .long x1), (3, .int x3), (6, .int x6), (7, .int x7), (8, .int x8), (10, .int x10)]) X.1 X.2.1 dX0_layHand_120 hl (k := 6) rfl rfl (by decide) rfl (fun ls hl => ?_)
    refine lv_goto (tgt := 26) X.1 X.2.1 dX0_layHand_123 (by decide) ?_
    exact hr26 (σ, x7, x8, x9 + 1) h _ _ _ hV hF (lv_sub hl [1, 2, 3, 4, 5, 6, 0] rfl)
  · refine lv_iload X.1 X.2.1 dX0_layHand_85 (lv_at hl 5 rfl) ?_
    refine r_ifeq (tgt := 111) X.1 X.2.1 dX0_layHand_87 (by decide) h (fun h => ?_) (fun h => ?_)
    · refine lv_iconst (v := 0) X.1 X.2.1 dX0_layHand_111 (by decide) ?_
      refine lv_istore (lv' := [(8, .int 0), (0, .ref x0), (1, .long x1), (3, .int x3), (6, .int x6), (7, .int x7), (9, .int x9), (10, .int x10)]) X.1 X.2.1 dX0_layHand_112 hl (by decide) rfl (fun ls hl => ?_)
      refine lv_iinc (v := x10 + 1) (lv' := [(10, .int (x10 + 1)), (8, .int 0), (0, .ref x0), (1, .long x1), (3, .int x3), (6, .int x6), (7, .int x7), (9, .int x9)]) X.1 X.2.1 dX0_layHand_114 hl (k := 7) rfl rfl (by decide) rfl (fun ls hl => ?_)
      refine lv_goto (tgt := 78) X.1 X.2.1 dX0_layHand_117 (by decide) ?_
      exact hr78 (0, x10 + 1) h _ _ _ hV hF (lv_sub hl [2, 3, 4, 5, 6, 1, 7, 0] rfl)
    · refine lv_aload_n X.1 X.2.1 dX0_layHand_90 rfl (lv_at hl 0 rfl) ?_
      refine r_gR X hV fl_X0_70_0 (by decide) dX0_layHand_91 h (fun v1 h => ?_)
      refine lv_iload X.1 X.2.1 dX0_layHand_94 (lv_at hl 7 rfl) ?_
      refine r_ia X hV dX0_layHand_96 h (fun v2 h => ?_)
      refine lv_aload_n X.1 X.2.1 dX0_layHand_97 rfl (lv_at hl 0 rfl) ?_
      refine r_gR X hV fl_X0_70_0 (by decide) dX0_layHand_98 h (fun v3 h => ?_)
      refine lv_iload X.1 X.2.1 dX0_layHand_101 (lv_at hl 6 rfl) ?_
      refine r_ia X hV dX0_layHand_103 h (fun v4 h => ?_)
      refine r_eq (tgt := 111) X.1 X.2.1 dX0_layHand_104 (by decide) h (fun h => ?_) (fun h => ?_)
      · refine lv_iconst (v := 0) X.1 X.2.1 dX0_layHand_111 (by decide) ?_
        refine lv_istore (lv' := [(8, .int 0), (0, .ref x0), (1, .long x1), (3, .int x3), (6, .int x6), (7, .int x7), (9, .int x9), (10, .int x10)]) X.1 X.2.1 dX0_layHand_112 hl (by decide) rfl (fun ls hl => ?_)
        refine lv_iinc (v := x10 + 1) (lv' := [(10, .int (x10 + 1)), (8, .int 0), (0, .ref x0), (1, .long x1), (3, .int x3), (6, .int x6), (7, .int x7), (9, .int x9)]) X.1 X.2.1 dX0_layHand_114 hl (k := 7) rfl rfl (by decide) rfl (fun ls hl => ?_)
        refine lv_goto (tgt := 78) X.1 X.2.1 dX0_layHand_117 (by decide) ?_
        exact hr78 (0, x10 + 1) h _ _ _ hV hF (lv_sub hl [2, 3, 4, 5, 6, 1, 7, 0] rfl)
      · refine lv_iconst (v := 1) X.1 X.2.1 dX0_layHand_107 (by decide) ?_
        refine lv_goto (tgt := 112) X.1 X.2.1 dX0_layHand_108 (by decide) ?_
        refine lv_istore (lv' := [(8, .int 1), (0, .ref x0), (1, .long x1), (3, .int x3), (6, .int x6), (7, .int x7), (9, .int x9), (10, .int x10)]) X.1 X.2.1 dX0_layHand_112 hl (by decide) rfl (fun ls hl => ?_)
        refine lv_iinc (v := x10 + 1) (lv' := [(10, .int (x10 + 1)), (8, .int 1), (0, .ref x0), (1, .long x1), (3, .int x3), (6, .int x6), (7, .int x7), (9, .int x9)]) X.1 X.2.1 dX0_layHand_114 hl (k := 7) rfl rfl (by decide) rfl (fun ls hl => ?_)
        refine lv_goto (tgt := 78) X.1 X.2.1 dX0_layHand_117 (by decide) ?_
        exact hr78 (1, x10 + 1) h _ _ _ hV hF (lv_sub hl [2, 3, 4, 5, 6, 1, 7, 0] rfl)
set_option maxHeartbeats 4000000 in
theorem w_X0_layHand_78 {p : Program} {l : Launch} {e : Env} {s : State} {m : MethodId} {args : Array Value} {below : List Frame} {meth : Method} {c : Code} {g : Gl} (X : FX g p m c s args meth cX0_layHand 11 RX0 (some .int) "layHand") {r : Int32 × Hp} {rec26 : Hp × Int32 × Int32 × Int32 → Option (Int32 × Hp)} {σ : Hp} {x0 : Nat} {x1 : Int64} {x3 : Int32} {x6 : Int32} {x7 : Int32} {x9 : Int32} (hr26 : ∀ (st : Hp × Int32 × Int32 × Int32), rec26 st = some r → ∀ (H : Heap) (locs : List Loc) (ls : Array Slot), HV g st.1 H → FR g locs → lv_has ls 11 [(0, .ref x0), (1, .long x1), (3, .int x3), (6, .int x6), (7, .int st.2.1), (8, .int st.2.2.1), (9, .int st.2.2.2)] → W p l e rm_X0_layHand s m args below meth c H locs 0 0 (MQ below (Qi g r) args s 0 0 (frN g)) (F0 m 26 ls [])) : ∀ (n : Nat) (st : Int32 × Int32), L_X0_layHand_78 rec26 σ x0 x1 x3 x6 x7 x9 n st = some r → ∀ (H : Heap) (locs : List Loc) (ls : Array Slot), HV g σ H → FR g locs → lv_has ls 11 [(0, .ref x0), (1, .long x1), (3, .int x3), (6, .int x6), (7, .int x7), (8, .int st.1), (9, .int x9), (10, .int st.2)] → W p l e rm_X0_layHand s m args below meth c H locs 0 0 (MQ below (Qi g r) args s 0 0 (frN g)) (F0 m 78 ls []) := by
  intro n
  induction n with
  | zero =>
    intro st h
    rw [L_X0_layHand_78_0] at h
    cases h
  | succ n ih =>
    intro st h H locs ls hV hF hl
    rw [L_X0_layHand_78_s] at h
    exact w_X0_layHand_78_b X hr26 ih h hV hF hl
set_option maxHeartbeats 4000000 in
theorem w_X0_layHand_26_b {p : Program} {l : Launch} {e : Env} {s : State} {m : MethodId} {args : Array Value} {below : List Frame} {meth : Method} {c : Code} {g : Gl} (X : FX g p m c s args meth cX0_layHand 11 RX0 (some .int) "layHand") {r : Int32 × Hp} {rec26 : Hp × Int32 × Int32 × Int32 → Option (Int32 × Hp)} {x0 : Nat} {x1 : Int64} {x3 : Int32} {x6 : Int32} {σ : Hp} {x7 : Int32} {x8 : Int32} {x9 : Int32} (hr26 : ∀ (st : Hp × Int32 × Int32 × Int32), rec26 st = some r → ∀ (H : Heap) (locs : List Loc) (ls : Array Slot), HV g st.1 H → FR g locs → lv_has ls 11 [(0, .ref x0), (1, .long x1), (3, .int x3), (6, .int x6), (7, .int st.2.1), (8, .int st.2.2.1), (9, .int st.2.2.2)] → W p l e rm_X0_layHand s m args below meth c H locs 0 0 (MQ below (Qi g r) args s 0 0 (frN g)) (F0 m 26 ls [])) {H : Heap} {locs : List Loc} {ls : Array Slot} (h : B_X0_layHand_26 x0 x1 x3 x6 rec26 σ x7 x8 x9 = some r) (hV : HV g σ H) (hF : FR g locs) (hl : lv_has ls 11 [(0, .ref x0), (1, .long x1), (3, .int x3), (6, .int x6), (7, .int x7), (8, .int x8), (9, .int x9)]) : W p l e rm_X0_layHand s m args below meth c H locs 0 0 (MQ below (Qi g r) args s 0 0 (frN g)) (F0 m 26 ls []) := by
  unfold B_X0_layHand_26 at h
  refine lv_iload X.1 X.2.1 dX0_layHand_26 (lv_at hl 6 rfl) ?_
  refine lv_iload_n X.1 X.2.1 dX0_layHand_28 rfl (lv_at hl 2 rfl) ?_
  refine r_ge (tgt := 126) X.1 X.2.1 dX0_layHand_29 (by decide) h (fun h => ?_) (fun h => ?_)
  · exact w_X0_layHand_126 X  h hV hF (lv_sub hl [3, 4, 5] rfl)
  · refine lv_aload_n X.1 X.2.1 dX0_layHand_32 rfl (lv_at hl 0 rfl) ?_
    refine r_gR X hV fl_X0_70_0 (by decide) dX0_layHand_33 h (fun v1 h => ?_)
    refine lv_iload X.1 X.2.1 dX0_layHand_36 (lv_at hl 6 rfl) ?_
    refine lv_lload_n X.1 X.2.1 dX0_layHand_38 rfl (lv_at hl 1 rfl) ?_
    refine lv_iconst (v := 5) X.1 X.2.1 dX0_layHand_39 (by decide) ?_
    refine lv_iload X.1 X.2.1 dX0_layHand_40 (lv_at hl 6 rfl) ?_
    refine lv_imul X.1 X.2.1 dX0_layHand_42 ?_
    refine lv_lshr (v := x1 >>> ((5 * x9 : Int32).toInt64 &&& 63)) X.1 X.2.1 dX0_layHand_43 rfl ?_
    refine lv_ldc2 (v := 31) X.1 X.2.1 X.2.2.2.1 (X.2.2.2.2.1 _ q763) dX0_layHand_44 ?_
    refine lv_land X.1 X.2.1 dX0_layHand_47 ?_
    refine lv_l2i (v := ((x1 >>> ((5 * x9 : Int32).toInt64 &&& 63)) &&& 31 : Int64).toInt32) X.1 X.2.1 dX0_layHand_48 rfl ?_
    refine r_is X hV hF dX0_layHand_49 h (fun s1 H locs hV hF h => ?_)
    refine lv_iload X.1 X.2.1 dX0_layHand_50 (lv_at hl 4 rfl) ?_
    refine r_ifeq (tgt := 72) X.1 X.2.1 dX0_layHand_52 (by decide) h (fun h => ?_) (fun h => ?_)
    · refine lv_iconst (v := 0) X.1 X.2.1 dX0_layHand_72 (by decide) ?_
      refine lv_istore (lv' := [(7, .int 0), (0, .ref x0), (1, .long x1), (3, .int x3), (6, .int x6), (8, .int x8), (9, .int x9)]) X.1 X.2.1 dX0_layHand_73 hl (by decide) rfl (fun ls hl => ?_)
      refine lv_iconst (v := 0) X.1 X.2.1 dX0_layHand_75 (by decide) ?_
      refine lv_istore (lv' := [(10, .int 0), (7, .int 0), (0, .ref x0), (1, .long x1), (3, .int x3), (6, .int x6), (8, .int x8), (9, .int x9)]) X.1 X.2.1 dX0_layHand_76 hl (by decide) rfl (fun ls hl => ?_)
      exact w_X0_layHand_78 X hr26 FU (x8, 0) h _ _ _ hV hF (lv_sub hl [2, 3, 4, 5, 1, 6, 7, 0] rfl)
    · refine lv_aload_n X.1 X.2.1 dX0_layHand_55 rfl (lv_at hl 0 rfl) ?_
      refine r_gR X hV fl_X0_70_0 (by decide) dX0_layHand_56 h (fun v2 h => ?_)
      refine lv_iload X.1 X.2.1 dX0_layHand_59 (lv_at hl 6 rfl) ?_
      refine r_ia X hV dX0_layHand_61 h (fun v3 h => ?_)
      obtain ⟨v4, s2, hc, h⟩ := b2_inv h
      refine r_ci (va_runS (As := [.int v3]) (rest := []) (cfX X) (c_X0_isThing l hc) (va_cwS 1 X.2.2.2.2.1 (lw_S q346 q347 q49 q348) rfl rfl rfl yd_X0_isThing ⟨Nat.le_of_ble_eq_true rfl, Nat.le_of_ble_eq_true rfl⟩) (preS X hV) rfl rfl hl.1 rfl (lv_room (Nat.le_of_ble_eq_true rfl)) dX0_layHand_62 ⟨(Nat.le_of_ble_eq_true rfl), (Nat.le_of_ble_eq_true rfl)⟩) hF (fun H locs hV hF => ?_)
      refine r_ifeq (tgt := 72) X.1 X.2.1 dX0_layHand_65 (by decide) h (fun h => ?_) (fun h => ?_)
      · refine lv_iconst (v := 0) X.1 X.2.1 dX0_layHand_72 (by decide) ?_
        refine lv_istore (lv' := [(7, .int 0), (0, .ref x0), (1, .long x1), (3, .int x3), (6, .int x6), (8, .int x8), (9, .int x9)]) X.1 X.2.1 dX0_layHand_73 hl (by decide) rfl (fun ls hl => ?_)
        refine lv_iconst (v := 0) X.1 X.2.1 dX0_layHand_75 (by decide) ?_
        refine lv_istore (lv' := [(10, .int 0), (7, .int 0), (0, .ref x0), (1, .long x1), (3, .int x3), (6, .int x6), (8, .int x8), (9, .int x9)]) X.1 X.2.1 dX0_layHand_76 hl (by decide) rfl (fun ls hl => ?_)
        exact w_X0_layHand_78 X hr26 FU (x8, 0) h _ _ _ hV hF (lv_sub hl [2, 3, 4, 5, 1, 6, 7, 0] rfl)
      · refine lv_iconst (v := 1) X.1 X.2.1 dX0_layHand_68 (by decide) ?_
        refine lv_goto (tgt := 73) X.1 X.2.1 dX0_layHand_69 (by decide) ?_
        refine lv_istore (lv' := [(7, .int 1), (0, .ref x0), (1, .long x1), (3, .int x3), (6, .int x6), (8, .int x8), (9, .int x9)]) X.1 X.2.1 dX0_layHand_73 hl (by decide) rfl (fun ls hl => ?_)
        refine lv_iconst (v := 0) X.1 X.2.1 dX0_layHand_75 (by decide) ?_
        refine lv_istore (lv' := [(10, .int 0), (7, .int 1), (0, .ref x0), (1, .long x1), (3, .int x3), (6, .int x6), (8, .int x8), (9, .int x9)]) X.1 X.2.1 dX0_layHand_76 hl (by decide) rfl (fun ls hl => ?_)
        exact w_X0_layHand_78 X hr26 FU (x8, 0) h _ _ _ hV hF (lv_sub hl [2, 3, 4, 5, 1, 6, 7, 0] rfl)
set_option maxHeartbeats 4000000 in
theorem w_X0_layHand_26 {p : Program} {l : Launch} {e : Env} {s : State} {m : MethodId} {args : Array Value} {below : List Frame} {meth : Method} {c : Code} {g : Gl} (X : FX g p m c s args meth cX0_layHand 11 RX0 (some .int) "layHand") {r : Int32 × Hp} {x0 : Nat} {x1 : Int64} {x3 : Int32} {x6 : Int32}  : ∀ (n : Nat) (st : Hp × Int32 × Int32 × Int32), L_X0_layHand_26 x0 x1 x3 x6 n st = some r → ∀ (H : Heap) (locs : List Loc) (ls : Array Slot), HV g st.1 H → FR g locs → lv_has ls 11 [(0, .ref x0), (1, .long x1), (3, .int x3), (6, .int x6), (7, .int st.2.1), (8, .int st.2.2.1), (9, .int st.2.2.2)] → W p l e rm_X0_layHand s m args below meth c H locs 0 0 (MQ below (Qi g r) args s 0 0 (frN g)) (F0 m 26 ls []) := by
  intro n
  induction n with
  | zero =>
    intro st h
    rw [L_X0_layHand_26_0] at h
    cases h
  | succ n ih =>
    intro st h H locs ls hV hF hl
    rw [L_X0_layHand_26_s] at h
    exact w_X0_layHand_26_b X  ih h hV hF hl
set_option maxHeartbeats 4000000 in
theorem c_X0_layHand (l : Launch) {g : Gl} {σ : Hp} {x0 : Nat} {x1 : Int64} {x3 : Int32} {x4 : Int32} {x5 : Int32} {x6 : Int32} {r : Int32 × Hp} (h : F_X0_layHand σ x0 x1 x3 x4 x5 x6 = some r) : Met l yX0_layHand (ws_ yX0_layHand cX0_layHand 11 (some .int)) rm_X0_layHand (va_Pc [.ref x0, .long x1, .int x3, .int x4, .int x5, .int x6] (WV g σ)) (Qi g r) 0 0 (frN g) := by
  refine ct_of (by decide) (Nat.le_of_ble_eq_true rfl) ?_
  intro p e s m below meth c ls X hV hl
  have hF : FR g [] := FR_nil
  unfold F_X0_layHand at h
  have hl : lv_has ls 11 [(0, .ref x0), (1, .long x1), (3, .int x3), (4, .int x4), (5, .int x5), (6, .int x6)] := hl
  have X : FX g p m c s _ meth cX0_layHand 11 RX0 (some .int) "layHand" := X
  obtain ⟨-, h⟩ := gd_inv h
  refine lv_iload_n X.1 X.2.1 dX0_layHand_0 rfl (lv_at hl 2 rfl) ?_
  refine lv_i2l (v := (x3 : Int32).toInt64) X.1 X.2.1 dX0_layHand_1 rfl ?_
  refine lv_iload X.1 X.2.1 dX0_layHand_2 (lv_at hl 3 rfl) ?_
  refine lv_i2l (v := (x4 : Int32).toInt64) X.1 X.2.1 dX0_layHand_4 rfl ?_
  refine lv_iload X.1 X.2.1 dX0_layHand_5 (lv_at hl 4 rfl) ?_
  refine lv_i2l (v := (x5 : Int32).toInt64) X.1 X.2.1 dX0_layHand_7 rfl ?_
  obtain ⟨v1, s1, hc, h⟩ := b2_inv h
  refine r_ci (va_runS (As := [.long ((x3 : Int32).toInt64), .long ((x4 : Int32).toInt64), .long ((x5 : Int32).toInt64)]) (rest := []) (cfX X) (c_X0_isIn l hc) (va_cwS 3 X.2.2.2.2.1 (lw_S q331 q332 q49 q333) rfl rfl rfl yd_X0_isIn ⟨Nat.le_of_ble_eq_true rfl, Nat.le_of_ble_eq_true rfl⟩) (preS X hV) rfl rfl hl.1 rfl (lv_room (Nat.le_of_ble_eq_true rfl)) dX0_layHand_8 ⟨(Nat.le_of_ble_eq_true rfl), (Nat.le_of_ble_eq_true rfl)⟩) hF (fun H locs hV hF => ?_)
  refine r_ifne (tgt := 17) X.1 X.2.1 dX0_layHand_11 (by decide) h (fun h => ?_) (fun h => ?_)
  · refine lv_iconst (v := 1) X.1 X.2.1 dX0_layHand_17 (by decide) ?_
    refine lv_istore (lv' := [(7, .int 1), (0, .ref x0), (1, .long x1), (3, .int x3), (4, .int x4), (5, .int x5), (6, .int x6)]) X.1 X.2.1 dX0_layHand_18 hl (by decide) rfl (fun ls hl => ?_)
    refine lv_iconst (v := 1) X.1 X.2.1 dX0_layHand_20 (by decide) ?_
    refine lv_istore (lv' := [(8, .int 1), (7, .int 1), (0, .ref x0), (1, .long x1), (3, .int x3), (4, .int x4), (5, .int x5), (6, .int x6)]) X.1 X.2.1 dX0_layHand_21 hl (by decide) rfl (fun ls hl => ?_)
    refine lv_iconst (v := 0) X.1 X.2.1 dX0_layHand_23 (by decide) ?_
    refine lv_istore (lv' := [(9, .int 0), (8, .int 1), (7, .int 1), (0, .ref x0), (1, .long x1), (3, .int x3), (4, .int x4), (5, .int x5), (6, .int x6)]) X.1 X.2.1 dX0_layHand_24 hl (by decide) rfl (fun ls hl => ?_)
    exact w_X0_layHand_26 X  FU (s1, 1, 1, 0) h _ _ _ hV hF (lv_sub hl [3, 4, 5, 8, 2, 1, 0] rfl)
  · refine lv_bipush (v := (-3)) X.1 X.2.1 dX0_layHand_14 (by decide) ?_
    exact r_iret X hV hF h dX0_layHand_16
/-! java/util/Arrays.rangeCheck -/
theorem dJ8_rangeCheck_0 : decode cJ8_rangeCheck 0 = .ok (.iload_n 1, 1) := by decide +kernel
theorem dJ8_rangeCheck_1 : decode cJ8_rangeCheck 1 = .ok (.iload_n 2, 1) := by decide +kernel
theorem dJ8_rangeCheck_2 : decode cJ8_rangeCheck 2 = .ok (.if_icmp .le 44, 3) := by decide +kernel
theorem dJ8_rangeCheck_46 : decode cJ8_rangeCheck 46 = .ok (.iload_n 1, 1) := by decide +kernel
theorem dJ8_rangeCheck_47 : decode cJ8_rangeCheck 47 = .ok (.ifCond .ge 12, 3) := by decide +kernel
theorem dJ8_rangeCheck_59 : decode cJ8_rangeCheck 59 = .ok (.iload_n 2, 1) := by decide +kernel
theorem dJ8_rangeCheck_60 : decode cJ8_rangeCheck 60 = .ok (.iload_n 0, 1) := by decide +kernel
theorem dJ8_rangeCheck_61 : decode cJ8_rangeCheck 61 = .ok (.if_icmp .le 12, 3) := by decide +kernel
theorem dJ8_rangeCheck_73 : decode cJ8_rangeCheck 73 = .ok (.return_, 1) := by decide +kernel
theorem yd_J8_rangeCheck : yJ8_rangeCheck.cls ≠ "java/lang/invoke/MethodHandle" ∧ yJ8_rangeCheck.cls ≠ "java/lang/invoke/VarHandle" ∧ (parseMethodDescriptor yJ8_rangeCheck.desc).map (fun d => d.parameters.length) = some 3 := by decide +kernel
abbrev rm_J8_rangeCheck : Room := { frames := 0, cells := 0, slots := 0, locals := 0 }
set_option maxHeartbeats 4000000 in
theorem c_J8_rangeCheck (l : Launch) {g : Gl} {σ : Hp} {x0 : Int32} {x1 : Int32} {x2 : Int32} {r : Hp} (h : F_J8_rangeCheck σ x0 x1 x2 = some r) : Met l yJ8_rangeCheck (ws_ yJ8_rangeCheck cJ8_rangeCheck 3 none) rm_J8_rangeCheck (va_Pc [.int x0, .int x1, .int x2] (WV g σ)) (Qv g r) 0 0 (frN g) := by
  refine ct_of (by decide) (Nat.le_of_ble_eq_true rfl) ?_
  intro p e s m below meth c ls X hV hl
  have hF : FR g [] := FR_nil
  unfold F_J8_rangeCheck at h
  have hl : lv_has ls 3 [(0, .int x0), (1, .int x1), (2, .int x2)] := hl
  have X : FX g p m c s _ meth cJ8_rangeCheck 3 RJ8 none "rangeCheck" := X
  refine lv_iload_n X.1 X.2.1 dJ8_rangeCheck_0 rfl (lv_at hl 1 rfl) ?_
  refine lv_iload_n X.1 X.2.1 dJ8_rangeCheck_1 rfl (lv_at hl 2 rfl) ?_
  refine r_le (tgt := 46) X.1 X.2.1 dJ8_rangeCheck_2 (by decide) h (fun h => ?_) (fun h => ?_)
  · refine lv_iload_n X.1 X.2.1 dJ8_rangeCheck_46 rfl (lv_at hl 1 rfl) ?_
    refine r_ifge (tgt := 59) X.1 X.2.1 dJ8_rangeCheck_47 (by decide) h (fun h => ?_) (fun h => ?_)
    · refine lv_iload_n X.1 X.2.1 dJ8_rangeCheck_59 rfl (lv_at hl 2 rfl) ?_
      refine lv_iload_n X.1 X.2.1 dJ8_rangeCheck_60 rfl (lv_at hl 0 rfl) ?_
      refine r_le (tgt := 73) X.1 X.2.1 dJ8_rangeCheck_61 (by decide) h (fun h => ?_) (fun h => ?_)
      · exact r_vret X hV hF h dJ8_rangeCheck_73
      · cases h
    · cases h
  · cases h
/-! java/util/DualPivotQuicksort.insertionSort -/
theorem dJ9_insertionSort_0 : decode cJ9_insertionSort 0 = .ok (.iload_n 1, 1) := by decide +kernel
theorem dJ9_insertionSort_1 : decode cJ9_insertionSort 1 = .ok (.istore 4, 2) := by decide +kernel
theorem dJ9_insertionSort_3 : decode cJ9_insertionSort 3 = .ok (.iinc 4 1, 3) := by decide +kernel
theorem dJ9_insertionSort_6 : decode cJ9_insertionSort 6 = .ok (.iload 4, 2) := by decide +kernel
theorem dJ9_insertionSort_8 : decode cJ9_insertionSort 8 = .ok (.iload_n 2, 1) := by decide +kernel
theorem dJ9_insertionSort_9 : decode cJ9_insertionSort 9 = .ok (.if_icmp .ge 58, 3) := by decide +kernel
theorem dJ9_insertionSort_12 : decode cJ9_insertionSort 12 = .ok (.aload_n 0, 1) := by decide +kernel
theorem dJ9_insertionSort_13 : decode cJ9_insertionSort 13 = .ok (.iload 4, 2) := by decide +kernel
theorem dJ9_insertionSort_15 : decode cJ9_insertionSort 15 = .ok (.dup, 1) := by decide +kernel
theorem dJ9_insertionSort_16 : decode cJ9_insertionSort 16 = .ok (.istore_n 3, 1) := by decide +kernel
theorem dJ9_insertionSort_17 : decode cJ9_insertionSort 17 = .ok (.iaload, 1) := by decide +kernel
theorem dJ9_insertionSort_18 : decode cJ9_insertionSort 18 = .ok (.istore 5, 2) := by decide +kernel
theorem dJ9_insertionSort_20 : decode cJ9_insertionSort 20 = .ok (.iload 5, 2) := by decide +kernel
theorem dJ9_insertionSort_22 : decode cJ9_insertionSort 22 = .ok (.aload_n 0, 1) := by decide +kernel
theorem dJ9_insertionSort_23 : decode cJ9_insertionSort 23 = .ok (.iload_n 3, 1) := by decide +kernel
theorem dJ9_insertionSort_24 : decode cJ9_insertionSort 24 = .ok (.iconst 1, 1) := by decide +kernel
theorem dJ9_insertionSort_25 : decode cJ9_insertionSort 25 = .ok (.isub, 1) := by decide +kernel
theorem dJ9_insertionSort_26 : decode cJ9_insertionSort 26 = .ok (.iaload, 1) := by decide +kernel
theorem dJ9_insertionSort_27 : decode cJ9_insertionSort 27 = .ok (.if_icmp .ge 37, 3) := by decide +kernel
theorem dJ9_insertionSort_30 : decode cJ9_insertionSort 30 = .ok (.iinc 3 (-1), 3) := by decide +kernel
theorem dJ9_insertionSort_33 : decode cJ9_insertionSort 33 = .ok (.iload_n 3, 1) := by decide +kernel
theorem dJ9_insertionSort_34 : decode cJ9_insertionSort 34 = .ok (.iload_n 1, 1) := by decide +kernel
theorem dJ9_insertionSort_35 : decode cJ9_insertionSort 35 = .ok (.if_icmp .lt 22, 3) := by decide +kernel
theorem dJ9_insertionSort_38 : decode cJ9_insertionSort 38 = .ok (.iload 5, 2) := by decide +kernel
theorem dJ9_insertionSort_40 : decode cJ9_insertionSort 40 = .ok (.aload_n 0, 1) := by decide +kernel
theorem dJ9_insertionSort_41 : decode cJ9_insertionSort 41 = .ok (.iload_n 3, 1) := by decide +kernel
theorem dJ9_insertionSort_42 : decode cJ9_insertionSort 42 = .ok (.iaload, 1) := by decide +kernel
theorem dJ9_insertionSort_43 : decode cJ9_insertionSort 43 = .ok (.if_icmp .ge 14, 3) := by decide +kernel
theorem dJ9_insertionSort_46 : decode cJ9_insertionSort 46 = .ok (.aload_n 0, 1) := by decide +kernel
theorem dJ9_insertionSort_47 : decode cJ9_insertionSort 47 = .ok (.iload_n 3, 1) := by decide +kernel
theorem dJ9_insertionSort_48 : decode cJ9_insertionSort 48 = .ok (.iconst 1, 1) := by decide +kernel
theorem dJ9_insertionSort_49 : decode cJ9_insertionSort 49 = .ok (.iadd, 1) := by decide +kernel
theorem dJ9_insertionSort_50 : decode cJ9_insertionSort 50 = .ok (.aload_n 0, 1) := by decide +kernel
theorem dJ9_insertionSort_51 : decode cJ9_insertionSort 51 = .ok (.iload_n 3, 1) := by decide +kernel
theorem dJ9_insertionSort_52 : decode cJ9_insertionSort 52 = .ok (.iaload, 1) := by decide +kernel
theorem dJ9_insertionSort_53 : decode cJ9_insertionSort 53 = .ok (.iastore, 1) := by decide +kernel
theorem dJ9_insertionSort_54 : decode cJ9_insertionSort 54 = .ok (.goto (-24), 3) := by decide +kernel
theorem dJ9_insertionSort_57 : decode cJ9_insertionSort 57 = .ok (.aload_n 0, 1) := by decide +kernel
theorem dJ9_insertionSort_58 : decode cJ9_insertionSort 58 = .ok (.iload_n 3, 1) := by decide +kernel
theorem dJ9_insertionSort_59 : decode cJ9_insertionSort 59 = .ok (.iconst 1, 1) := by decide +kernel
theorem dJ9_insertionSort_60 : decode cJ9_insertionSort 60 = .ok (.iadd, 1) := by decide +kernel
theorem dJ9_insertionSort_61 : decode cJ9_insertionSort 61 = .ok (.iload 5, 2) := by decide +kernel
theorem dJ9_insertionSort_63 : decode cJ9_insertionSort 63 = .ok (.iastore, 1) := by decide +kernel
theorem dJ9_insertionSort_64 : decode cJ9_insertionSort 64 = .ok (.goto (-61), 3) := by decide +kernel
theorem dJ9_insertionSort_67 : decode cJ9_insertionSort 67 = .ok (.return_, 1) := by decide +kernel
theorem yd_J9_insertionSort : yJ9_insertionSort.cls ≠ "java/lang/invoke/MethodHandle" ∧ yJ9_insertionSort.cls ≠ "java/lang/invoke/VarHandle" ∧ (parseMethodDescriptor yJ9_insertionSort.desc).map (fun d => d.parameters.length) = some 3 := by decide +kernel
abbrev rm_J9_insertionSort : Room := { frames := 0, cells := 0, slots := 0, locals := 0 }
set_option maxHeartbeats 4000000 in
theorem w_J9_insertionSort_57 {p : Program} {l : Launch} {e : Env} {s : State} {m : MethodId} {args : Array Value} {below : List Frame} {meth : Method} {c : Code} {g : Gl} (X : FX g p m c s args meth cJ9_insertionSort 6 RJ9 none "insertionSort") {r : Hp} {rec3 : Hp × Int32 → Option (Hp)} {σ : Hp} {x0 : Nat} {x1 : Int32} {x2 : Int32} {x3 : Int32} {x4 : Int32} {x5 : Int32} (hr3 : ∀ (st : Hp × Int32), rec3 st = some r → ∀ (H : Heap) (locs : List Loc) (ls : Array Slot), HV g st.1 H → FR g locs → lv_has ls 6 [(0, .ref x0), (1, .int x1), (2, .int x2), (4, .int st.2)] → W p l e rm_J9_insertionSort s m args below meth c H locs 0 0 (MQ below (Qv g r) args s 0 0 (frN g)) (F0 m 3 ls [])) {H : Heap} {locs : List Loc} {ls : Array Slot} (h : F_J9_insertionSort_57 rec3 σ x0 x1 x2 x3 x4 x5 = some r) (hV : HV g σ H) (hF : FR g locs) (hl : lv_has ls 6 [(0, .ref x0), (1, .int x1), (2, .int x2), (3, .int x3), (4, .int x4), (5, .int x5)]) : W p l e rm_J9_insertionSort s m args below meth c H locs 0 0 (MQ below (Qv g r) args s 0 0 (frN g)) (F0 m 57 ls []) := by
  unfold F_J9_insertionSort_57 at h
  refine lv_aload_n X.1 X.2.1 dJ9_insertionSort_57 rfl (lv_at hl 0 rfl) ?_
  refine lv_iload_n X.1 X.2.1 dJ9_insertionSort_58 rfl (lv_at hl 3 rfl) ?_
  refine lv_iconst (v := 1) X.1 X.2.1 dJ9_insertionSort_59 (by decide) ?_
  refine lv_iadd X.1 X.2.1 dJ9_insertionSort_60 ?_
  refine lv_iload X.1 X.2.1 dJ9_insertionSort_61 (lv_at hl 5 rfl) ?_
  refine r_is X hV hF dJ9_insertionSort_63 h (fun s1 H locs hV hF h => ?_)
  refine lv_goto (tgt := 3) X.1 X.2.1 dJ9_insertionSort_64 (by decide) ?_
  exact hr3 (s1, x4) h _ _ _ hV hF (lv_sub hl [0, 1, 2, 4] rfl)
set_option maxHeartbeats 4000000 in
theorem w_J9_insertionSort_30_b {p : Program} {l : Launch} {e : Env} {s : State} {m : MethodId} {args : Array Value} {below : List Frame} {meth : Method} {c : Code} {g : Gl} (X : FX g p m c s args meth cJ9_insertionSort 6 RJ9 none "insertionSort") {r : Hp} {rec3 : Hp × Int32 → Option (Hp)} {rec30 : Hp × Int32 → Option (Hp)} {x0 : Nat} {x1 : Int32} {x2 : Int32} {x4 : Int32} {x5 : Int32} {σ : Hp} {x3 : Int32} (hr3 : ∀ (st : Hp × Int32), rec3 st = some r → ∀ (H : Heap) (locs : List Loc) (ls : Array Slot), HV g st.1 H → FR g locs → lv_has ls 6 [(0, .ref x0), (1, .int x1), (2, .int x2), (4, .int st.2)] → W p l e rm_J9_insertionSort s m args below meth c H locs 0 0 (MQ below (Qv g r) args s 0 0 (frN g)) (F0 m 3 ls [])) (hr30 : ∀ (st : Hp × Int32), rec30 st = some r → ∀ (H : Heap) (locs : List Loc) (ls : Array Slot), HV g st.1 H → FR g locs → lv_has ls 6 [(0, .ref x0), (1, .int x1), (2, .int x2), (3, .int st.2), (4, .int x4), (5, .int x5)] → W p l e rm_J9_insertionSort s m args below meth c H locs 0 0 (MQ below (Qv g r) args s 0 0 (frN g)) (F0 m 30 ls [])) {H : Heap} {locs : List Loc} {ls : Array Slot} (h : B_J9_insertionSort_30 rec3 x0 x1 x2 x4 x5 rec30 σ x3 = some r) (hV : HV g σ H) (hF : FR g locs) (hl : lv_has ls 6 [(0, .ref x0), (1, .int x1), (2, .int x2), (3, .int x3), (4, .int x4), (5, .int x5)]) : W p l e rm_J9_insertionSort s m args below meth c H locs 0 0 (MQ below (Qv g r) args s 0 0 (frN g)) (F0 m 30 ls []) := by
  unfold B_J9_insertionSort_30 at h
  refine lv_iinc (v := x3 + (-1)) (lv' := [(3, .int (x3 + (-1))), (0, .ref x0), (1, .int x1), (2, .int x2), (4, .int x4), (5, .int x5)]) X.1 X.2.1 dJ9_insertionSort_30 hl (k := 3) rfl rfl (by decide) rfl (fun ls hl => ?_)
  refine lv_iload_n X.1 X.2.1 dJ9_insertionSort_33 rfl (lv_at hl 0 rfl) ?_
  refine lv_iload_n X.1 X.2.1 dJ9_insertionSort_34 rfl (lv_at hl 2 rfl) ?_
  refine r_lt (tgt := 57) X.1 X.2.1 dJ9_insertionSort_35 (by decide) h (fun h => ?_) (fun h => ?_)
  · exact w_J9_insertionSort_57 X hr3 h hV hF (lv_sub hl [1, 2, 3, 0, 4, 5] rfl)
  · refine lv_iload X.1 X.2.1 dJ9_insertionSort_38 (lv_at hl 5 rfl) ?_
    refine lv_aload_n X.1 X.2.1 dJ9_insertionSort_40 rfl (lv_at hl 1 rfl) ?_
    refine lv_iload_n X.1 X.2.1 dJ9_insertionSort_41 rfl (lv_at hl 0 rfl) ?_
    refine r_ia X hV dJ9_insertionSort_42 h (fun v1 h => ?_)
    refine r_ge (tgt := 57) X.1 X.2.1 dJ9_insertionSort_43 (by decide) h (fun h => ?_) (fun h => ?_)
    · exact w_J9_insertionSort_57 X hr3 h hV hF (lv_sub hl [1, 2, 3, 0, 4, 5] rfl)
    · refine lv_aload_n X.1 X.2.1 dJ9_insertionSort_46 rfl (lv_at hl 1 rfl) ?_
      refine lv_iload_n X.1 X.2.1 dJ9_insertionSort_47 rfl (lv_at hl 0 rfl) ?_
      refine lv_iconst (v := 1) X.1 X.2.1 dJ9_insertionSort_48 (by decide) ?_
      refine lv_iadd X.1 X.2.1 dJ9_insertionSort_49 ?_
      refine lv_aload_n X.1 X.2.1 dJ9_insertionSort_50 rfl (lv_at hl 1 rfl) ?_
      refine lv_iload_n X.1 X.2.1 dJ9_insertionSort_51 rfl (lv_at hl 0 rfl) ?_
      refine r_ia X hV dJ9_insertionSort_52 h (fun v2 h => ?_)
      refine r_is X hV hF dJ9_insertionSort_53 h (fun s1 H locs hV hF h => ?_)
      refine lv_goto (tgt := 30) X.1 X.2.1 dJ9_insertionSort_54 (by decide) ?_
      exact hr30 (s1, x3 + (-1)) h _ _ _ hV hF (lv_sub hl [1, 2, 3, 0, 4, 5] rfl)
set_option maxHeartbeats 4000000 in
theorem w_J9_insertionSort_30 {p : Program} {l : Launch} {e : Env} {s : State} {m : MethodId} {args : Array Value} {below : List Frame} {meth : Method} {c : Code} {g : Gl} (X : FX g p m c s args meth cJ9_insertionSort 6 RJ9 none "insertionSort") {r : Hp} {rec3 : Hp × Int32 → Option (Hp)} {x0 : Nat} {x1 : Int32} {x2 : Int32} {x4 : Int32} {x5 : Int32} (hr3 : ∀ (st : Hp × Int32), rec3 st = some r → ∀ (H : Heap) (locs : List Loc) (ls : Array Slot), HV g st.1 H → FR g locs → lv_has ls 6 [(0, .ref x0), (1, .int x1), (2, .int x2), (4, .int st.2)] → W p l e rm_J9_insertionSort s m args below meth c H locs 0 0 (MQ below (Qv g r) args s 0 0 (frN g)) (F0 m 3 ls [])) : ∀ (n : Nat) (st : Hp × Int32), L_J9_insertionSort_30 rec3 x0 x1 x2 x4 x5 n st = some r → ∀ (H : Heap) (locs : List Loc) (ls : Array Slot), HV g st.1 H → FR g locs → lv_has ls 6 [(0, .ref x0), (1, .int x1), (2, .int x2), (3, .int st.2), (4, .int x4), (5, .int x5)] → W p l e rm_J9_insertionSort s m args below meth c H locs 0 0 (MQ below (Qv g r) args s 0 0 (frN g)) (F0 m 30 ls []) := by
  intro n
  induction n with
  | zero =>
    intro st h
    rw [L_J9_insertionSort_30_0] at h
    cases h
  | succ n ih =>
    intro st h H locs ls hV hF hl
    rw [L_J9_insertionSort_30_s] at h
    exact w_J9_insertionSort_30_b X hr3 ih h hV hF hl
set_option maxHeartbeats 4000000 in
theorem w_J9_insertionSort_3_b {p : Program} {l : Launch} {e : Env} {s : State} {m : MethodId} {args : Array Value} {below : List Frame} {meth : Method} {c : Code} {g : Gl} (X : FX g p m c s args meth cJ9_insertionSort 6 RJ9 none "insertionSort") {r : Hp} {rec3 : Hp × Int32 → Option (Hp)} {x0 : Nat} {x1 : Int32} {x2 : Int32} {σ : Hp} {x4 : Int32} (hr3 : ∀ (st : Hp × Int32), rec3 st = some r → ∀ (H : Heap) (locs : List Loc) (ls : Array Slot), HV g st.1 H → FR g locs → lv_has ls 6 [(0, .ref x0), (1, .int x1), (2, .int x2), (4, .int st.2)] → W p l e rm_J9_insertionSort s m args below meth c H locs 0 0 (MQ below (Qv g r) args s 0 0 (frN g)) (F0 m 3 ls [])) {H : Heap} {locs : List Loc} {ls : Array Slot} (h : B_J9_insertionSort_3 x0 x1 x2 rec3 σ x4 = some r) (hV : HV g σ H) (hF : FR g locs) (hl : lv_has ls 6 [(0, .ref x0), (1, .int x1), (2, .int x2), (4, .int x4)]) : W p l e rm_J9_insertionSort s m args below meth c H locs 0 0 (MQ below (Qv g r) args s 0 0 (frN g)) (F0 m 3 ls []) := by
  unfold B_J9_insertionSort_3 at h
  refine lv_iinc (v := x4 + 1) (lv' := [(4, .int (x4 + 1)), (0, .ref x0), (1, .int x1), (2, .int x2)]) X.1 X.2.1 dJ9_insertionSort_3 hl (k := 3) rfl rfl (by decide) rfl (fun ls hl => ?_)
  refine lv_iload X.1 X.2.1 dJ9_insertionSort_6 (lv_at hl 0 rfl) ?_
  refine lv_iload_n X.1 X.2.1 dJ9_insertionSort_8 rfl (lv_at hl 3 rfl) ?_
  refine r_ge (tgt := 67) X.1 X.2.1 dJ9_insertionSort_9 (by decide) h (fun h => ?_) (fun h => ?_)
  · exact r_vret X hV hF h dJ9_insertionSort_67
  · refine lv_aload_n X.1 X.2.1 dJ9_insertionSort_12 rfl (lv_at hl 1 rfl) ?_
    refine lv_iload X.1 X.2.1 dJ9_insertionSort_13 (lv_at hl 0 rfl) ?_
    refine lv_dup X.1 X.2.1 dJ9_insertionSort_15 rfl ?_
    refine lv_istore_n (lv' := [(3, .int (x4 + 1)), (4, .int (x4 + 1)), (0, .ref x0), (1, .int x1), (2, .int x2)]) X.1 X.2.1 dJ9_insertionSort_16 rfl hl (by decide) rfl (fun ls hl => ?_)
    refine r_ia X hV dJ9_insertionSort_17 h (fun v1 h => ?_)
    refine lv_istore (lv' := [(5, .int v1), (3, .int (x4 + 1)), (4, .int (x4 + 1)), (0, .ref x0), (1, .int x1), (2, .int x2)]) X.1 X.2.1 dJ9_insertionSort_18 hl (by decide) rfl (fun ls hl => ?_)
    refine lv_iload X.1 X.2.1 dJ9_insertionSort_20 (lv_at hl 0 rfl) ?_
    refine lv_aload_n X.1 X.2.1 dJ9_insertionSort_22 rfl (lv_at hl 3 rfl) ?_
    refine lv_iload_n X.1 X.2.1 dJ9_insertionSort_23 rfl (lv_at hl 1 rfl) ?_
    refine lv_iconst (v := 1) X.1 X.2.1 dJ9_insertionSort_24 (by decide) ?_
    refine lv_isub X.1 X.2.1 dJ9_insertionSort_25 ?_
    refine r_ia X hV dJ9_insertionSort_26 h (fun v2 h => ?_)
    refine r_ge (tgt := 64) X.1 X.2.1 dJ9_insertionSort_27 (by decide) h (fun h => ?_) (fun h => ?_)
    · refine lv_goto (tgt := 3) X.1 X.2.1 dJ9_insertionSort_64 (by decide) ?_
      exact hr3 (σ, x4 + 1) h _ _ _ hV hF (lv_sub hl [3, 4, 5, 2] rfl)
    · exact w_J9_insertionSort_30 X hr3 FU (σ, x4 + 1) h _ _ _ hV hF (lv_sub hl [3, 4, 5, 1, 2, 0] rfl)
set_option maxHeartbeats 4000000 in
theorem w_J9_insertionSort_3 {p : Program} {l : Launch} {e : Env} {s : State} {m : MethodId} {args : Array Value} {below : List Frame} {meth : Method} {c : Code} {g : Gl} (X : FX g p m c s args meth cJ9_insertionSort 6 RJ9 none "insertionSort") {r : Hp} {x0 : Nat} {x1 : Int32} {x2 : Int32}  : ∀ (n : Nat) (st : Hp × Int32), L_J9_insertionSort_3 x0 x1 x2 n st = some r → ∀ (H : Heap) (locs : List Loc) (ls : Array Slot), HV g st.1 H → FR g locs → lv_has ls 6 [(0, .ref x0), (1, .int x1), (2, .int x2), (4, .int st.2)] → W p l e rm_J9_insertionSort s m args below meth c H locs 0 0 (MQ below (Qv g r) args s 0 0 (frN g)) (F0 m 3 ls []) := by
  intro n
  induction n with
  | zero =>
    intro st h
    rw [L_J9_insertionSort_3_0] at h
    cases h
  | succ n ih =>
    intro st h H locs ls hV hF hl
    rw [L_J9_insertionSort_3_s] at h
    exact w_J9_insertionSort_3_b X  ih h hV hF hl
set_option maxHeartbeats 4000000 in
theorem c_J9_insertionSort (l : Launch) {g : Gl} {σ : Hp} {x0 : Nat} {x1 : Int32} {x2 : Int32} {r : Hp} (h : F_J9_insertionSort σ x0 x1 x2 = some r) : Met l yJ9_insertionSort (ws_ yJ9_insertionSort cJ9_insertionSort 6 none) rm_J9_insertionSort (va_Pc [.ref x0, .int x1, .int x2] (WV g σ)) (Qv g r) 0 0 (frN g) := by
  refine ct_of (by decide) (Nat.le_of_ble_eq_true rfl) ?_
  intro p e s m below meth c ls X hV hl
  have hF : FR g [] := FR_nil
  unfold F_J9_insertionSort at h
  have hl : lv_has ls 6 [(0, .ref x0), (1, .int x1), (2, .int x2)] := hl
  have X : FX g p m c s _ meth cJ9_insertionSort 6 RJ9 none "insertionSort" := X
  refine lv_iload_n X.1 X.2.1 dJ9_insertionSort_0 rfl (lv_at hl 1 rfl) ?_
  refine lv_istore (lv' := [(4, .int x1), (0, .ref x0), (1, .int x1), (2, .int x2)]) X.1 X.2.1 dJ9_insertionSort_1 hl (by decide) rfl (fun ls hl => ?_)
  exact w_J9_insertionSort_3 X  FU (σ, x1) h _ _ _ hV hF (lv_sub hl [1, 2, 3, 0] rfl)
/-! java/util/DualPivotQuicksort.sort for classes {0: 'N'} -/
theorem dJ9_sort_2_0 : decode cJ9_sort_2 0 = .ok (.iload 4, 2) := by decide +kernel
theorem dJ9_sort_2_2 : decode cJ9_sort_2 2 = .ok (.iconst 1, 1) := by decide +kernel
theorem dJ9_sort_2_3 : decode cJ9_sort_2 3 = .ok (.isub, 1) := by decide +kernel
theorem dJ9_sort_2_4 : decode cJ9_sort_2 4 = .ok (.istore 5, 2) := by decide +kernel
theorem dJ9_sort_2_6 : decode cJ9_sort_2 6 = .ok (.iload 4, 2) := by decide +kernel
theorem dJ9_sort_2_8 : decode cJ9_sort_2 8 = .ok (.iload_n 3, 1) := by decide +kernel
theorem dJ9_sort_2_9 : decode cJ9_sort_2 9 = .ok (.isub, 1) := by decide +kernel
theorem dJ9_sort_2_10 : decode cJ9_sort_2 10 = .ok (.istore 6, 2) := by decide +kernel
theorem dJ9_sort_2_12 : decode cJ9_sort_2 12 = .ok (.iload 6, 2) := by decide +kernel
theorem dJ9_sort_2_14 : decode cJ9_sort_2 14 = .ok (.bipush 65, 2) := by decide +kernel
theorem dJ9_sort_2_16 : decode cJ9_sort_2 16 = .ok (.iload_n 2, 1) := by decide +kernel
theorem dJ9_sort_2_17 : decode cJ9_sort_2 17 = .ok (.iadd, 1) := by decide +kernel
theorem dJ9_sort_2_18 : decode cJ9_sort_2 18 = .ok (.if_icmp .ge 28, 3) := by decide +kernel
theorem dJ9_sort_2_21 : decode cJ9_sort_2 21 = .ok (.iload_n 2, 1) := by decide +kernel
theorem dJ9_sort_2_22 : decode cJ9_sort_2 22 = .ok (.iconst 1, 1) := by decide +kernel
theorem dJ9_sort_2_23 : decode cJ9_sort_2 23 = .ok (.iand, 1) := by decide +kernel
theorem dJ9_sort_2_24 : decode cJ9_sort_2 24 = .ok (.ifCond .le 22, 3) := by decide +kernel
theorem dJ9_sort_2_46 : decode cJ9_sort_2 46 = .ok (.iload 6, 2) := by decide +kernel
theorem dJ9_sort_2_48 : decode cJ9_sort_2 48 = .ok (.bipush 44, 2) := by decide +kernel
theorem dJ9_sort_2_50 : decode cJ9_sort_2 50 = .ok (.if_icmp .ge 11, 3) := by decide +kernel
theorem dJ9_sort_2_53 : decode cJ9_sort_2 53 = .ok (.aload_n 1, 1) := by decide +kernel
theorem dJ9_sort_2_54 : decode cJ9_sort_2 54 = .ok (.iload_n 3, 1) := by decide +kernel
theorem dJ9_sort_2_55 : decode cJ9_sort_2 55 = .ok (.iload 4, 2) := by decide +kernel
theorem dJ9_sort_2_57 : decode cJ9_sort_2 57 = .ok (.invokestatic 34, 3) := by decide +kernel
theorem dJ9_sort_2_60 : decode cJ9_sort_2 60 = .ok (.return_, 1) := by decide +kernel
theorem yd_J9_sort_2 : yJ9_sort_2.cls ≠ "java/lang/invoke/MethodHandle" ∧ yJ9_sort_2.cls ≠ "java/lang/invoke/VarHandle" ∧ (parseMethodDescriptor yJ9_sort_2.desc).map (fun d => d.parameters.length) = some 5 := by decide +kernel
abbrev rm_J9_sort_2 : Room := { frames := 1, cells := 0, slots := 0, locals := 25 }
set_option maxHeartbeats 4000000 in
theorem c_J9_sort_2 (l : Launch) {g : Gl} {σ : Hp} {x1 : Nat} {x2 : Int32} {x3 : Int32} {x4 : Int32} {r : Hp} (h : F_J9_sort_2 σ x1 x2 x3 x4 = some r) : Met l yJ9_sort_2 (ws_ yJ9_sort_2 cJ9_sort_2 21 none) rm_J9_sort_2 (va_Pc [.null, .ref x1, .int x2, .int x3, .int x4] (WV g σ)) (Qv g r) 0 0 (frN g) := by
  refine ct_of (by decide) (Nat.le_of_ble_eq_true rfl) ?_
  intro p e s m below meth c ls X hV hl
  have hF : FR g [] := FR_nil
  unfold F_J9_sort_2 at h
  have hl : lv_has ls 21 [(0, .null), (1, .ref x1), (2, .int x2), (3, .int x3), (4, .int x4)] := hl
  have X : FX g p m c s _ meth cJ9_sort_2 21 RJ9 none "sort" := X
  refine lv_iload X.1 X.2.1 dJ9_sort_2_0 (lv_at hl 4 rfl) ?_
  refine lv_iconst (v := 1) X.1 X.2.1 dJ9_sort_2_2 (by decide) ?_
  refine lv_isub X.1 X.2.1 dJ9_sort_2_3 ?_
  refine lv_istore (lv' := [(5, .int (x4 - 1)), (0, .null), (1, .ref x1), (2, .int x2), (3, .int x3), (4, .int x4)]) X.1 X.2.1 dJ9_sort_2_4 hl (by decide) rfl (fun ls hl => ?_)
  refine lv_iload X.1 X.2.1 dJ9_sort_2_6 (lv_at hl 5 rfl) ?_
  refine lv_iload_n X.1 X.2.1 dJ9_sort_2_8 rfl (lv_at hl 4 rfl) ?_
  refine lv_isub X.1 X.2.1 dJ9_sort_2_9 ?_
  refine lv_istore (lv' := [(6, .int (x4 - x3)), (5, .int (x4 - 1)), (0, .null), (1, .ref x1), (2, .int x2), (3, .int x3), (4, .int x4)]) X.1 X.2.1 dJ9_sort_2_10 hl (by decide) rfl (fun ls hl => ?_)
  refine lv_iload X.1 X.2.1 dJ9_sort_2_12 (lv_at hl 0 rfl) ?_
  refine lv_bipush (v := 65) X.1 X.2.1 dJ9_sort_2_14 (by decide) ?_
  refine lv_iload_n X.1 X.2.1 dJ9_sort_2_16 rfl (lv_at hl 4 rfl) ?_
  refine lv_iadd X.1 X.2.1 dJ9_sort_2_17 ?_
  refine r_ge (tgt := 46) X.1 X.2.1 dJ9_sort_2_18 (by decide) h (fun h => ?_) (fun h => ?_)
  · refine lv_iload X.1 X.2.1 dJ9_sort_2_46 (lv_at hl 0 rfl) ?_
    refine lv_bipush (v := 44) X.1 X.2.1 dJ9_sort_2_48 (by decide) ?_
    refine r_ge (tgt := 61) X.1 X.2.1 dJ9_sort_2_50 (by decide) h (fun h => ?_) (fun h => ?_)
    · cases h
    · refine lv_aload_n X.1 X.2.1 dJ9_sort_2_53 rfl (lv_at hl 3 rfl) ?_
      refine lv_iload_n X.1 X.2.1 dJ9_sort_2_54 rfl (lv_at hl 5 rfl) ?_
      refine lv_iload X.1 X.2.1 dJ9_sort_2_55 (lv_at hl 6 rfl) ?_
      obtain ⟨s1, hc, h⟩ := b1_inv h
      refine r_cv (va_runS (As := [.ref x1, .int x3, .int x4]) (rest := []) (cfX X) (c_J9_insertionSort l hc) (va_cwS 3 X.2.2.2.2.1 (lw_S q779 q780 q75 q781) rfl rfl rfl yd_J9_insertionSort ⟨Nat.le_of_ble_eq_true rfl, Nat.le_of_ble_eq_true rfl⟩) (preS X hV) rfl rfl hl.1 rfl (lv_room (Nat.le_of_ble_eq_true rfl)) dJ9_sort_2_57 ⟨(Nat.le_of_ble_eq_true rfl), (Nat.le_of_ble_eq_true rfl)⟩) hF (fun H locs hV hF => ?_)
      exact r_vret X hV hF h dJ9_sort_2_60
  · refine lv_iload_n X.1 X.2.1 dJ9_sort_2_21 rfl (lv_at hl 4 rfl) ?_
    refine lv_iconst (v := 1) X.1 X.2.1 dJ9_sort_2_22 (by decide) ?_
    refine lv_iand X.1 X.2.1 dJ9_sort_2_23 ?_
    refine r_ifle (tgt := 46) X.1 X.2.1 dJ9_sort_2_24 (by decide) h (fun h => ?_) (fun h => ?_)
    · refine lv_iload X.1 X.2.1 dJ9_sort_2_46 (lv_at hl 0 rfl) ?_
      refine lv_bipush (v := 44) X.1 X.2.1 dJ9_sort_2_48 (by decide) ?_
      refine r_ge (tgt := 61) X.1 X.2.1 dJ9_sort_2_50 (by decide) h (fun h => ?_) (fun h => ?_)
      · cases h
      · refine lv_aload_n X.1 X.2.1 dJ9_sort_2_53 rfl (lv_at hl 3 rfl) ?_
        refine lv_iload_n X.1 X.2.1 dJ9_sort_2_54 rfl (lv_at hl 5 rfl) ?_
        refine lv_iload X.1 X.2.1 dJ9_sort_2_55 (lv_at hl 6 rfl) ?_
        obtain ⟨s2, hc, h⟩ := b1_inv h
        refine r_cv (va_runS (As := [.ref x1, .int x3, .int x4]) (rest := []) (cfX X) (c_J9_insertionSort l hc) (va_cwS 3 X.2.2.2.2.1 (lw_S q779 q780 q75 q781) rfl rfl rfl yd_J9_insertionSort ⟨Nat.le_of_ble_eq_true rfl, Nat.le_of_ble_eq_true rfl⟩) (preS X hV) rfl rfl hl.1 rfl (lv_room (Nat.le_of_ble_eq_true rfl)) dJ9_sort_2_57 ⟨(Nat.le_of_ble_eq_true rfl), (Nat.le_of_ble_eq_true rfl)⟩) hF (fun H locs hV hF => ?_)
        exact r_vret X hV hF h dJ9_sort_2_60
    · cases h
/-! java/util/DualPivotQuicksort.sort -/
theorem dJ9_sort_0 : decode cJ9_sort 0 = .ok (.iload_n 3, 1) := by decide +kernel
theorem dJ9_sort_1 : decode cJ9_sort 1 = .ok (.iload_n 2, 1) := by decide +kernel
theorem dJ9_sort_2 : decode cJ9_sort 2 = .ok (.isub, 1) := by decide +kernel
theorem dJ9_sort_3 : decode cJ9_sort 3 = .ok (.istore 4, 2) := by decide +kernel
theorem dJ9_sort_5 : decode cJ9_sort 5 = .ok (.iload_n 1, 1) := by decide +kernel
theorem dJ9_sort_6 : decode cJ9_sort 6 = .ok (.iconst 1, 1) := by decide +kernel
theorem dJ9_sort_7 : decode cJ9_sort 7 = .ok (.if_icmp .le 61, 3) := by decide +kernel
theorem dJ9_sort_10 : decode cJ9_sort 10 = .ok (.iload 4, 2) := by decide +kernel
theorem dJ9_sort_12 : decode cJ9_sort 12 = .ok (.sipush 4096, 3) := by decide +kernel
theorem dJ9_sort_15 : decode cJ9_sort 15 = .ok (.if_icmp .le 53, 3) := by decide +kernel
theorem dJ9_sort_68 : decode cJ9_sort 68 = .ok (.aconst_null, 1) := by decide +kernel
theorem dJ9_sort_69 : decode cJ9_sort 69 = .ok (.aload_n 0, 1) := by decide +kernel
theorem dJ9_sort_70 : decode cJ9_sort 70 = .ok (.iconst 0, 1) := by decide +kernel
theorem dJ9_sort_71 : decode cJ9_sort 71 = .ok (.iload_n 2, 1) := by decide +kernel
theorem dJ9_sort_72 : decode cJ9_sort 72 = .ok (.iload_n 3, 1) := by decide +kernel
theorem dJ9_sort_73 : decode cJ9_sort 73 = .ok (.invokestatic 26, 3) := by decide +kernel
theorem dJ9_sort_76 : decode cJ9_sort 76 = .ok (.return_, 1) := by decide +kernel
theorem yd_J9_sort : yJ9_sort.cls ≠ "java/lang/invoke/MethodHandle" ∧ yJ9_sort.cls ≠ "java/lang/invoke/VarHandle" ∧ (parseMethodDescriptor yJ9_sort.desc).map (fun d => d.parameters.length) = some 4 := by decide +kernel
abbrev rm_J9_sort : Room := { frames := 2, cells := 0, slots := 0, locals := 65 }
set_option maxHeartbeats 4000000 in
theorem c_J9_sort (l : Launch) {g : Gl} {σ : Hp} {x0 : Nat} {x1 : Int32} {x2 : Int32} {x3 : Int32} {r : Hp} (h : F_J9_sort σ x0 x1 x2 x3 = some r) : Met l yJ9_sort (ws_ yJ9_sort cJ9_sort 7 none) rm_J9_sort (va_Pc [.ref x0, .int x1, .int x2, .int x3] (WV g σ)) (Qv g r) 0 0 (frN g) := by
  refine ct_of (by decide) (Nat.le_of_ble_eq_true rfl) ?_
  intro p e s m below meth c ls X hV hl
  have hF : FR g [] := FR_nil
  unfold F_J9_sort at h
  have hl : lv_has ls 7 [(0, .ref x0), (1, .int x1), (2, .int x2), (3, .int x3)] := hl
  have X : FX g p m c s _ meth cJ9_sort 7 RJ9 none "sort" := X
  refine lv_iload_n X.1 X.2.1 dJ9_sort_0 rfl (lv_at hl 3 rfl) ?_
  refine lv_iload_n X.1 X.2.1 dJ9_sort_1 rfl (lv_at hl 2 rfl) ?_
  refine lv_isub X.1 X.2.1 dJ9_sort_2 ?_
  refine lv_istore (lv' := [(4, .int (x3 - x2)), (0, .ref x0), (1, .int x1), (2, .int x2), (3, .int x3)]) X.1 X.2.1 dJ9_sort_3 hl (by decide) rfl (fun ls hl => ?_)
  refine lv_iload_n X.1 X.2.1 dJ9_sort_5 rfl (lv_at hl 2 rfl) ?_
  refine lv_iconst (v := 1) X.1 X.2.1 dJ9_sort_6 (by decide) ?_
  refine r_le (tgt := 68) X.1 X.2.1 dJ9_sort_7 (by decide) h (fun h => ?_) (fun h => ?_)
  · refine lv_null X.1 X.2.1 dJ9_sort_68 ?_
    refine lv_aload_n X.1 X.2.1 dJ9_sort_69 rfl (lv_at hl 1 rfl) ?_
    refine lv_iconst (v := 0) X.1 X.2.1 dJ9_sort_70 (by decide) ?_
    refine lv_iload_n X.1 X.2.1 dJ9_sort_71 rfl (lv_at hl 3 rfl) ?_
    refine lv_iload_n X.1 X.2.1 dJ9_sort_72 rfl (lv_at hl 4 rfl) ?_
    obtain ⟨s1, hc, h⟩ := b1_inv h
    refine r_cv (va_runS (As := [.null, .ref x0, .int 0, .int x2, .int x3]) (rest := []) (cfX X) (c_J9_sort_2 l hc) (va_cwS 5 X.2.2.2.2.1 (lw_S q773 q774 q75 q775) rfl rfl rfl yd_J9_sort_2 ⟨Nat.le_of_ble_eq_true rfl, Nat.le_of_ble_eq_true rfl⟩) (preS X hV) rfl rfl hl.1 rfl (lv_room (Nat.le_of_ble_eq_true rfl)) dJ9_sort_73 ⟨(Nat.le_of_ble_eq_true rfl), (Nat.le_of_ble_eq_true rfl)⟩) hF (fun H locs hV hF => ?_)
    exact r_vret X hV hF h dJ9_sort_76
  · refine lv_iload X.1 X.2.1 dJ9_sort_10 (lv_at hl 0 rfl) ?_
    refine lv_sipush (v := 4096) X.1 X.2.1 dJ9_sort_12 (by decide) ?_
    refine r_le (tgt := 68) X.1 X.2.1 dJ9_sort_15 (by decide) h (fun h => ?_) (fun h => ?_)
    · refine lv_null X.1 X.2.1 dJ9_sort_68 ?_
      refine lv_aload_n X.1 X.2.1 dJ9_sort_69 rfl (lv_at hl 1 rfl) ?_
      refine lv_iconst (v := 0) X.1 X.2.1 dJ9_sort_70 (by decide) ?_
      refine lv_iload_n X.1 X.2.1 dJ9_sort_71 rfl (lv_at hl 3 rfl) ?_
      refine lv_iload_n X.1 X.2.1 dJ9_sort_72 rfl (lv_at hl 4 rfl) ?_
      obtain ⟨s2, hc, h⟩ := b1_inv h
      refine r_cv (va_runS (As := [.null, .ref x0, .int 0, .int x2, .int x3]) (rest := []) (cfX X) (c_J9_sort_2 l hc) (va_cwS 5 X.2.2.2.2.1 (lw_S q773 q774 q75 q775) rfl rfl rfl yd_J9_sort_2 ⟨Nat.le_of_ble_eq_true rfl, Nat.le_of_ble_eq_true rfl⟩) (preS X hV) rfl rfl hl.1 rfl (lv_room (Nat.le_of_ble_eq_true rfl)) dJ9_sort_73 ⟨(Nat.le_of_ble_eq_true rfl), (Nat.le_of_ble_eq_true rfl)⟩) hF (fun H locs hV hF => ?_)
      exact r_vret X hV hF h dJ9_sort_76
    · cases h
/-! java/util/Arrays.sort -/
theorem dJ8_sort_0 : decode cJ8_sort 0 = .ok (.aload_n 0, 1) := by decide +kernel
theorem dJ8_sort_1 : decode cJ8_sort 1 = .ok (.arraylength, 1) := by decide +kernel
theorem dJ8_sort_2 : decode cJ8_sort 2 = .ok (.iload_n 1, 1) := by decide +kernel
theorem dJ8_sort_3 : decode cJ8_sort 3 = .ok (.iload_n 2, 1) := by decide +kernel
theorem dJ8_sort_4 : decode cJ8_sort 4 = .ok (.invokestatic 13, 3) := by decide +kernel
theorem dJ8_sort_7 : decode cJ8_sort 7 = .ok (.aload_n 0, 1) := by decide +kernel
theorem dJ8_sort_8 : decode cJ8_sort 8 = .ok (.iconst 0, 1) := by decide +kernel
theorem dJ8_sort_9 : decode cJ8_sort 9 = .ok (.iload_n 1, 1) := by decide +kernel
theorem dJ8_sort_10 : decode cJ8_sort 10 = .ok (.iload_n 2, 1) := by decide +kernel
theorem dJ8_sort_11 : decode cJ8_sort 11 = .ok (.invokestatic 7, 3) := by decide +kernel
theorem dJ8_sort_14 : decode cJ8_sort 14 = .ok (.return_, 1) := by decide +kernel
theorem yd_J8_sort : yJ8_sort.cls ≠ "java/lang/invoke/MethodHandle" ∧ yJ8_sort.cls ≠ "java/lang/invoke/VarHandle" ∧ (parseMethodDescriptor yJ8_sort.desc).map (fun d => d.parameters.length) = some 3 := by decide +kernel
abbrev rm_J8_sort : Room := { frames := 3, cells := 0, slots := 0, locals := 91 }
set_option maxHeartbeats 4000000 in
theorem c_J8_sort (l : Launch) {g : Gl} {σ : Hp} {x0 : Nat} {x1 : Int32} {x2 : Int32} {r : Hp} (h : F_J8_sort σ x0 x1 x2 = some r) : Met l yJ8_sort (ws_ yJ8_sort cJ8_sort 3 none) rm_J8_sort (va_Pc [.ref x0, .int x1, .int x2] (WV g σ)) (Qv g r) 0 0 (frN g) := by
  refine ct_of (by decide) (Nat.le_of_ble_eq_true rfl) ?_
  intro p e s m below meth c ls X hV hl
  have hF : FR g [] := FR_nil
  unfold F_J8_sort at h
  have hl : lv_has ls 3 [(0, .ref x0), (1, .int x1), (2, .int x2)] := hl
  have X : FX g p m c s _ meth cJ8_sort 3 RJ8 none "sort" := X
  refine lv_aload_n X.1 X.2.1 dJ8_sort_0 rfl (lv_at hl 0 rfl) ?_
  refine r_len X hV dJ8_sort_1 (by decide) h (fun v1 h => ?_)
  refine lv_iload_n X.1 X.2.1 dJ8_sort_2 rfl (lv_at hl 1 rfl) ?_
  refine lv_iload_n X.1 X.2.1 dJ8_sort_3 rfl (lv_at hl 2 rfl) ?_
  obtain ⟨s1, hc, h⟩ := b1_inv h
  refine r_cv (va_runS (As := [.int v1, .int x1, .int x2]) (rest := []) (cfX X) (c_J8_rangeCheck l hc) (va_cwS 3 X.2.2.2.2.1 (lw_S q767 q768 q74 q769) rfl rfl rfl yd_J8_rangeCheck ⟨Nat.le_of_ble_eq_true rfl, Nat.le_of_ble_eq_true rfl⟩) (preS X hV) rfl rfl hl.1 rfl (lv_room (Nat.le_of_ble_eq_true rfl)) dJ8_sort_4 ⟨(Nat.le_of_ble_eq_true rfl), (Nat.le_of_ble_eq_true rfl)⟩) hF (fun H locs hV hF => ?_)
  refine lv_aload_n X.1 X.2.1 dJ8_sort_7 rfl (lv_at hl 0 rfl) ?_
  refine lv_iconst (v := 0) X.1 X.2.1 dJ8_sort_8 (by decide) ?_
  refine lv_iload_n X.1 X.2.1 dJ8_sort_9 rfl (lv_at hl 1 rfl) ?_
  refine lv_iload_n X.1 X.2.1 dJ8_sort_10 rfl (lv_at hl 2 rfl) ?_
  obtain ⟨s2, hc, h⟩ := b1_inv h
  refine r_cv (va_runS (As := [.ref x0, .int 0, .int x1, .int x2]) (rest := []) (cfX X) (c_J9_sort l hc) (va_cwS 4 X.2.2.2.2.1 (lw_S q770 q771 q75 q772) rfl rfl rfl yd_J9_sort ⟨Nat.le_of_ble_eq_true rfl, Nat.le_of_ble_eq_true rfl⟩) (preS X hV) rfl rfl hl.1 rfl (lv_room (Nat.le_of_ble_eq_true rfl)) dJ8_sort_11 ⟨(Nat.le_of_ble_eq_true rfl), (Nat.le_of_ble_eq_true rfl)⟩) hF (fun H locs hV hF => ?_)
  exact r_vret X hV hF h dJ8_sort_14
