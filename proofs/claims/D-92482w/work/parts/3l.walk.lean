set_option maxRecDepth 100000
/-! PalaceOfRoomsModel.enough -/
theorem dX10_enough_0 : decode cX10_enough 0 = .ok (.iload_n 1, 1) := by decide +kernel
theorem dX10_enough_1 : decode cX10_enough 1 = .ok (.iconst 0, 1) := by decide +kernel
theorem dX10_enough_2 : decode cX10_enough 2 = .ok (.bipush 48, 2) := by decide +kernel
theorem dX10_enough_4 : decode cX10_enough 4 = .ok (.invokestatic 93, 3) := by decide +kernel
theorem dX10_enough_7 : decode cX10_enough 7 = .ok (.ifCond .ne 6, 3) := by decide +kernel
theorem dX10_enough_10 : decode cX10_enough 10 = .ok (.bipush (-3), 2) := by decide +kernel
theorem dX10_enough_12 : decode cX10_enough 12 = .ok (.ireturn, 1) := by decide +kernel
theorem dX10_enough_13 : decode cX10_enough 13 = .ok (.iconst 0, 1) := by decide +kernel
theorem dX10_enough_14 : decode cX10_enough 14 = .ok (.istore_n 2, 1) := by decide +kernel
theorem dX10_enough_15 : decode cX10_enough 15 = .ok (.iconst 0, 1) := by decide +kernel
theorem dX10_enough_16 : decode cX10_enough 16 = .ok (.istore_n 3, 1) := by decide +kernel
theorem dX10_enough_17 : decode cX10_enough 17 = .ok (.iconst 0, 1) := by decide +kernel
theorem dX10_enough_18 : decode cX10_enough 18 = .ok (.istore 4, 2) := by decide +kernel
theorem dX10_enough_20 : decode cX10_enough 20 = .ok (.iload 4, 2) := by decide +kernel
theorem dX10_enough_22 : decode cX10_enough 22 = .ok (.bipush 8, 2) := by decide +kernel
theorem dX10_enough_24 : decode cX10_enough 24 = .ok (.if_icmp .ge 78, 3) := by decide +kernel
theorem dX10_enough_27 : decode cX10_enough 27 = .ok (.iload_n 2, 1) := by decide +kernel
theorem dX10_enough_28 : decode cX10_enough 28 = .ok (.iload_n 1, 1) := by decide +kernel
theorem dX10_enough_29 : decode cX10_enough 29 = .ok (.if_icmp .ge 73, 3) := by decide +kernel
theorem dX10_enough_32 : decode cX10_enough 32 = .ok (.iconst 0, 1) := by decide +kernel
theorem dX10_enough_33 : decode cX10_enough 33 = .ok (.istore 5, 2) := by decide +kernel
theorem dX10_enough_35 : decode cX10_enough 35 = .ok (.iload 5, 2) := by decide +kernel
theorem dX10_enough_37 : decode cX10_enough 37 = .ok (.bipush 8, 2) := by decide +kernel
theorem dX10_enough_39 : decode cX10_enough 39 = .ok (.if_icmp .ge 57, 3) := by decide +kernel
theorem dX10_enough_42 : decode cX10_enough 42 = .ok (.iload_n 2, 1) := by decide +kernel
theorem dX10_enough_43 : decode cX10_enough 43 = .ok (.iload_n 1, 1) := by decide +kernel
theorem dX10_enough_44 : decode cX10_enough 44 = .ok (.if_icmp .ge 52, 3) := by decide +kernel
theorem dX10_enough_47 : decode cX10_enough 47 = .ok (.aload_n 0, 1) := by decide +kernel
theorem dX10_enough_48 : decode cX10_enough 48 = .ok (.iconst 0, 1) := by decide +kernel
theorem dX10_enough_49 : decode cX10_enough 49 = .ok (.iload 5, 2) := by decide +kernel
theorem dX10_enough_51 : decode cX10_enough 51 = .ok (.invokevirtual 108, 3) := by decide +kernel
theorem dX10_enough_54 : decode cX10_enough 54 = .ok (.iload 4, 2) := by decide +kernel
theorem dX10_enough_56 : decode cX10_enough 56 = .ok (.if_icmp .ne 34, 3) := by decide +kernel
theorem dX10_enough_59 : decode cX10_enough 59 = .ok (.aload_n 0, 1) := by decide +kernel
theorem dX10_enough_60 : decode cX10_enough 60 = .ok (.iconst 0, 1) := by decide +kernel
theorem dX10_enough_61 : decode cX10_enough 61 = .ok (.iload 5, 2) := by decide +kernel
theorem dX10_enough_63 : decode cX10_enough 63 = .ok (.bipush 6, 2) := by decide +kernel
theorem dX10_enough_65 : decode cX10_enough 65 = .ok (.invokevirtual 216, 3) := by decide +kernel
theorem dX10_enough_68 : decode cX10_enough 68 = .ok (.istore 6, 2) := by decide +kernel
theorem dX10_enough_70 : decode cX10_enough 70 = .ok (.iload_n 2, 1) := by decide +kernel
theorem dX10_enough_71 : decode cX10_enough 71 = .ok (.iload 6, 2) := by decide +kernel
theorem dX10_enough_73 : decode cX10_enough 73 = .ok (.bipush 6, 2) := by decide +kernel
theorem dX10_enough_75 : decode cX10_enough 75 = .ok (.if_icmp .le 8, 3) := by decide +kernel
theorem dX10_enough_78 : decode cX10_enough 78 = .ok (.bipush 6, 2) := by decide +kernel
theorem dX10_enough_80 : decode cX10_enough 80 = .ok (.goto 5, 3) := by decide +kernel
theorem dX10_enough_83 : decode cX10_enough 83 = .ok (.iload 6, 2) := by decide +kernel
theorem dX10_enough_85 : decode cX10_enough 85 = .ok (.iadd, 1) := by decide +kernel
theorem dX10_enough_86 : decode cX10_enough 86 = .ok (.istore_n 2, 1) := by decide +kernel
theorem dX10_enough_87 : decode cX10_enough 87 = .ok (.iinc 3 1, 3) := by decide +kernel
theorem dX10_enough_90 : decode cX10_enough 90 = .ok (.iinc 5 1, 3) := by decide +kernel
theorem dX10_enough_93 : decode cX10_enough 93 = .ok (.goto (-58), 3) := by decide +kernel
theorem dX10_enough_96 : decode cX10_enough 96 = .ok (.iinc 4 1, 3) := by decide +kernel
theorem dX10_enough_99 : decode cX10_enough 99 = .ok (.goto (-79), 3) := by decide +kernel
theorem dX10_enough_102 : decode cX10_enough 102 = .ok (.iload_n 2, 1) := by decide +kernel
theorem dX10_enough_103 : decode cX10_enough 103 = .ok (.iload_n 1, 1) := by decide +kernel
theorem dX10_enough_104 : decode cX10_enough 104 = .ok (.if_icmp .ge 7, 3) := by decide +kernel
theorem dX10_enough_107 : decode cX10_enough 107 = .ok (.iconst (-1), 1) := by decide +kernel
theorem dX10_enough_108 : decode cX10_enough 108 = .ok (.goto 4, 3) := by decide +kernel
theorem dX10_enough_111 : decode cX10_enough 111 = .ok (.iload_n 3, 1) := by decide +kernel
theorem dX10_enough_112 : decode cX10_enough 112 = .ok (.ireturn, 1) := by decide +kernel
theorem yd_X10_enough : yX10_enough.cls ≠ "java/lang/invoke/MethodHandle" ∧ yX10_enough.cls ≠ "java/lang/invoke/VarHandle" ∧ (parseMethodDescriptor yX10_enough.desc).map (fun d => d.parameters.length) = some 1 := by decide +kernel
abbrev rm_X10_enough : Room := { frames := 1, cells := 0, slots := 0, locals := 26 }
set_option maxHeartbeats 4000000 in
theorem w_X10_enough_102 {p : Program} {l : Launch} {e : Env} {s : State} {m : MethodId} {args : Array Value} {below : List Frame} {meth : Method} {c : Code} {g : Gl} (X : FX g p m c s args meth cX10_enough 7 RX10 (some .int) "enough") {r : Int32 × Hp} {σ : Hp} {x1 : Int32} {x2 : Int32} {x3 : Int32}  {H : Heap} {locs : List Loc} {ls : Array Slot} (h : F_X10_enough_102 σ x1 x2 x3 = some r) (hV : HV g σ H) (hF : FR g locs) (hl : lv_has ls 7 [(1, .int x1), (2, .int x2), (3, .int x3)]) : W p l e rm_X10_enough s m args below meth c H locs 0 0 (MQ below (Qi g r) args s 0 0 (frN g)) (F0 m 102 ls []) := by
  unfold F_X10_enough_102 at h
  refine lv_iload_n X.1 X.2.1 dX10_enough_102 rfl (lv_at hl 1 rfl) ?_
  refine lv_iload_n X.1 X.2.1 dX10_enough_103 rfl (lv_at hl 0 rfl) ?_
  refine r_ge (tgt := 111) X.1 X.2.1 dX10_enough_104 (by decide) h (fun h => ?_) (fun h => ?_)
  · refine lv_iload_n X.1 X.2.1 dX10_enough_111 rfl (lv_at hl 2 rfl) ?_
    exact r_iret X hV hF h dX10_enough_112
  · refine lv_iconst (v := (-1)) X.1 X.2.1 dX10_enough_107 (by decide) ?_
    refine lv_goto (tgt := 112) X.1 X.2.1 dX10_enough_108 (by decide) ?_
    exact r_iret X hV hF h dX10_enough_112
set_option maxHeartbeats 4000000 in
theorem w_X10_enough_35_b {p : Program} {l : Launch} {e : Env} {s : State} {m : MethodId} {args : Array Value} {below : List Frame} {meth : Method} {c : Code} {g : Gl} (X : FX g p m c s args meth cX10_enough 7 RX10 (some .int) "enough") {r : Int32 × Hp} {rec20 : Hp × Int32 × Int32 × Int32 → Option (Int32 × Hp)} {rec35 : Hp × Int32 × Int32 × Int32 → Option (Int32 × Hp)} {x0 : Nat} {x1 : Int32} {x4 : Int32} {σ : Hp} {x2 : Int32} {x3 : Int32} {x5 : Int32} (hr20 : ∀ (st : Hp × Int32 × Int32 × Int32), rec20 st = some r → ∀ (H : Heap) (locs : List Loc) (ls : Array Slot), HV g st.1 H → FR g locs → lv_has ls 7 [(0, .ref x0), (1, .int x1), (2, .int st.2.1), (3, .int st.2.2.1), (4, .int st.2.2.2)] → W p l e rm_X10_enough s m args below meth c H locs 0 0 (MQ below (Qi g r) args s 0 0 (frN g)) (F0 m 20 ls [])) (hr35 : ∀ (st : Hp × Int32 × Int32 × Int32), rec35 st = some r → ∀ (H : Heap) (locs : List Loc) (ls : Array Slot), HV g st.1 H → FR g locs → lv_has ls 7 [(0, .ref x0), (1, .int x1), (2, .int st.2.1), (3, .int st.2.2.1), (4, .int x4), (5, .int st.2.2.2)] → W p l e rm_X10_enough s m args below meth c H locs 0 0 (MQ below (Qi g r) args s 0 0 (frN g)) (F0 m 35 ls [])) {H : Heap} {locs : List Loc} {ls : Array Slot} (h : B_X10_enough_35 rec20 x0 x1 x4 rec35 σ x2 x3 x5 = some r) (hV : HV g σ H) (hF : FR g locs) (hl : lv_has ls 7 [(0, .ref x0), (1, .int x1), (2, .int x2), (3, .int x3), (4, .int x4), (5, .int x5)]) : W p l e rm_X10_enough s m args below meth c H locs 0 0 (MQ below (Qi g r) args s 0 0 (frN g)) (F0 m 35 ls []) := by
  unfold B_X10_enough_35 at h
  refine lv_iload X.1 X.2.1 dX10_enough_35 (lv_at hl 5 rfl) ?_
  refine lv_bipush (v := 8) X.1 X.2.1 dX10_enough_37 (by decide) ?_
  refine r_ge (tgt := 96) X.1 X.2.1 dX10_enough_39 (by decide) h (fun h => ?_) (fun h => ?_)
  · refine lv_iinc (v := x4 + 1) (lv' := [(4, .int (x4 + 1)), (0, .ref x0), (1, .int x1), (2, .int x2), (3, .int x3), (5, .int x5)]) X.1 X.2.1 dX10_enough_96 hl (k := 4) rfl rfl (by decide) rfl (fun ls hl => ?_)
    refine lv_goto (tgt := 20) X.1 X.2.1 dX10_enough_99 (by decide) ?_
    exact hr20 (σ, x2, x3, x4 + 1) h _ _ _ hV hF (lv_sub hl [1, 2, 3, 4, 0] rfl)
  · refine lv_iload_n X.1 X.2.1 dX10_enough_42 rfl (lv_at hl 2 rfl) ?_
    refine lv_iload_n X.1 X.2.1 dX10_enough_43 rfl (lv_at hl 1 rfl) ?_
    refine r_ge (tgt := 96) X.1 X.2.1 dX10_enough_44 (by decide) h (fun h => ?_) (fun h => ?_)
    · refine lv_iinc (v := x4 + 1) (lv' := [(4, .int (x4 + 1)), (0, .ref x0), (1, .int x1), (2, .int x2), (3, .int x3), (5, .int x5)]) X.1 X.2.1 dX10_enough_96 hl (k := 4) rfl rfl (by decide) rfl (fun ls hl => ?_)
      refine lv_goto (tgt := 20) X.1 X.2.1 dX10_enough_99 (by decide) ?_
      exact hr20 (σ, x2, x3, x4 + 1) h _ _ _ hV hF (lv_sub hl [1, 2, 3, 4, 0] rfl)
    · refine lv_aload_n X.1 X.2.1 dX10_enough_47 rfl (lv_at hl 0 rfl) ?_
      refine lv_iconst (v := 0) X.1 X.2.1 dX10_enough_48 (by decide) ?_
      refine lv_iload X.1 X.2.1 dX10_enough_49 (lv_at hl 5 rfl) ?_
      obtain ⟨v1, s1, hc, h⟩ := b2_inv h
      refine r_ci (va_runV (C := RX10) (As := [.int 0, .int x5]) (rest := []) (cfX X) (c_X10_doorsTo l hc) (cwV 2 X.2.2.2.2.1 (lw_V q1115 q1117 qs23 q59 q1118) rfl rfl rfl ⟨rfl, yd_X10_doorsTo⟩ ⟨Nat.le_of_ble_eq_true rfl, Nat.le_of_ble_eq_true rfl⟩) (preV X hV (F_X10_doorsTo_g hc) rfl) rfl rfl hl.1 rfl (lv_room (Nat.le_of_ble_eq_true rfl)) dX10_enough_51 ⟨(Nat.le_of_ble_eq_true rfl), (Nat.le_of_ble_eq_true rfl)⟩) hF (fun H locs hV hF => ?_)
      refine lv_iload X.1 X.2.1 dX10_enough_54 (lv_at hl 4 rfl) ?_
      refine r_ne (tgt := 90) X.1 X.2.1 dX10_enough_56 (by decide) h (fun h => ?_) (fun h => ?_)
      · refine lv_iinc (v := x5 + 1) (lv' := [(5, .int (x5 + 1)), (0, .ref x0), (1, .int x1), (2, .int x2), (3, .int x3), (4, .int x4)]) X.1 X.2.1 dX10_enough_90 hl (k := 5) rfl rfl (by decide) rfl (fun ls hl => ?_)
        refine lv_goto (tgt := 35) X.1 X.2.1 dX10_enough_93 (by decide) ?_
        exact hr35 (s1, x2, x3, x5 + 1) h _ _ _ hV hF (lv_sub hl [1, 2, 3, 4, 5, 0] rfl)
      · refine lv_aload_n X.1 X.2.1 dX10_enough_59 rfl (lv_at hl 0 rfl) ?_
        refine lv_iconst (v := 0) X.1 X.2.1 dX10_enough_60 (by decide) ?_
        refine lv_iload X.1 X.2.1 dX10_enough_61 (lv_at hl 5 rfl) ?_
        refine lv_bipush (v := 6) X.1 X.2.1 dX10_enough_63 (by decide) ?_
        obtain ⟨v2, s2, hc, h⟩ := b2_inv h
        refine r_ci (va_runV (C := RX10) (As := [.int 0, .int x5, .int 6]) (rest := []) (cfX X) (c_X10_lastOf l hc) (cwV 3 X.2.2.2.2.1 (lw_V q1249 q1251 qs37 q59 q1252) rfl rfl rfl ⟨rfl, yd_X10_lastOf⟩ ⟨Nat.le_of_ble_eq_true rfl, Nat.le_of_ble_eq_true rfl⟩) (preV X hV (F_X10_lastOf_g hc) rfl) rfl rfl hl.1 rfl (lv_room (Nat.le_of_ble_eq_true rfl)) dX10_enough_65 ⟨(Nat.le_of_ble_eq_true rfl), (Nat.le_of_ble_eq_true rfl)⟩) hF (fun H locs hV hF => ?_)
        refine lv_istore (lv' := [(6, .int v2), (0, .ref x0), (1, .int x1), (2, .int x2), (3, .int x3), (4, .int x4), (5, .int x5)]) X.1 X.2.1 dX10_enough_68 hl (by decide) rfl (fun ls hl => ?_)
        refine lv_iload_n X.1 X.2.1 dX10_enough_70 rfl (lv_at hl 3 rfl) ?_
        refine lv_iload X.1 X.2.1 dX10_enough_71 (lv_at hl 0 rfl) ?_
        refine lv_bipush (v := 6) X.1 X.2.1 dX10_enough_73 (by decide) ?_
        refine r_le (tgt := 83) X.1 X.2.1 dX10_enough_75 (by decide) h (fun h => ?_) (fun h => ?_)
        · refine lv_iload X.1 X.2.1 dX10_enough_83 (lv_at hl 0 rfl) ?_
          refine lv_iadd X.1 X.2.1 dX10_enough_85 ?_
          refine lv_istore_n (lv' := [(2, .int (x2 + v2)), (6, .int v2), (0, .ref x0), (1, .int x1), (3, .int x3), (4, .int x4), (5, .int x5)]) X.1 X.2.1 dX10_enough_86 rfl hl (by decide) rfl (fun ls hl => ?_)
          refine lv_iinc (v := x3 + 1) (lv' := [(3, .int (x3 + 1)), (2, .int (x2 + v2)), (6, .int v2), (0, .ref x0), (1, .int x1), (4, .int x4), (5, .int x5)]) X.1 X.2.1 dX10_enough_87 hl (k := 4) rfl rfl (by decide) rfl (fun ls hl => ?_)
          refine lv_iinc (v := x5 + 1) (lv' := [(5, .int (x5 + 1)), (3, .int (x3 + 1)), (2, .int (x2 + v2)), (6, .int v2), (0, .ref x0), (1, .int x1), (4, .int x4)]) X.1 X.2.1 dX10_enough_90 hl (k := 6) rfl rfl (by decide) rfl (fun ls hl => ?_)
          refine lv_goto (tgt := 35) X.1 X.2.1 dX10_enough_93 (by decide) ?_
          exact hr35 (s2, x2 + v2, x3 + 1, x5 + 1) h _ _ _ hV hF (lv_sub hl [4, 5, 2, 1, 6, 0] rfl)
        · refine lv_bipush (v := 6) X.1 X.2.1 dX10_enough_78 (by decide) ?_
          refine lv_goto (tgt := 85) X.1 X.2.1 dX10_enough_80 (by decide) ?_
          refine lv_iadd X.1 X.2.1 dX10_enough_85 ?_
          refine lv_istore_n (lv' := [(2, .int (x2 + 6)), (6, .int v2), (0, .ref x0), (1, .int x1), (3, .int x3), (4, .int x4), (5, .int x5)]) X.1 X.2.1 dX10_enough_86 rfl hl (by decide) rfl (fun ls hl => ?_)
          refine lv_iinc (v := x3 + 1) (lv' := [(3, .int (x3 + 1)), (2, .int (x2 + 6)), (6, .int v2), (0, .ref x0), (1, .int x1), (4, .int x4), (5, .int x5)]) X.1 X.2.1 dX10_enough_87 hl (k := 4) rfl rfl (by decide) rfl (fun ls hl => ?_)
          refine lv_iinc (v := x5 + 1) (lv' := [(5, .int (x5 + 1)), (3, .int (x3 + 1)), (2, .int (x2 + 6)), (6, .int v2), (0, .ref x0), (1, .int x1), (4, .int x4)]) X.1 X.2.1 dX10_enough_90 hl (k := 6) rfl rfl (by decide) rfl (fun ls hl => ?_)
          refine lv_goto (tgt := 35) X.1 X.2.1 dX10_enough_93 (by decide) ?_
          exact hr35 (s2, x2 + 6, x3 + 1, x5 + 1) h _ _ _ hV hF (lv_sub hl [4, 5, 2, 1, 6, 0] rfl)
set_option maxHeartbeats 4000000 in
theorem w_X10_enough_35 {p : Program} {l : Launch} {e : Env} {s : State} {m : MethodId} {args : Array Value} {below : List Frame} {meth : Method} {c : Code} {g : Gl} (X : FX g p m c s args meth cX10_enough 7 RX10 (some .int) "enough") {r : Int32 × Hp} {rec20 : Hp × Int32 × Int32 × Int32 → Option (Int32 × Hp)} {x0 : Nat} {x1 : Int32} {x4 : Int32} (hr20 : ∀ (st : Hp × Int32 × Int32 × Int32), rec20 st = some r → ∀ (H : Heap) (locs : List Loc) (ls : Array Slot), HV g st.1 H → FR g locs → lv_has ls 7 [(0, .ref x0), (1, .int x1), (2, .int st.2.1), (3, .int st.2.2.1), (4, .int st.2.2.2)] → W p l e rm_X10_enough s m args below meth c H locs 0 0 (MQ below (Qi g r) args s 0 0 (frN g)) (F0 m 20 ls [])) : ∀ (n : Nat) (st : Hp × Int32 × Int32 × Int32), L_X10_enough_35 rec20 x0 x1 x4 n st = some r → ∀ (H : Heap) (locs : List Loc) (ls : Array Slot), HV g st.1 H → FR g locs → lv_has ls 7 [(0, .ref x0), (1, .int x1), (2, .int st.2.1), (3, .int st.2.2.1), (4, .int x4), (5, .int st.2.2.2)] → W p l e rm_X10_enough s m args below meth c H locs 0 0 (MQ below (Qi g r) args s 0 0 (frN g)) (F0 m 35 ls []) := by
  intro n
  induction n with
  | zero =>
    intro st h
    rw [L_X10_enough_35_0] at h
    cases h
  | succ n ih =>
    intro st h H locs ls hV hF hl
    rw [L_X10_enough_35_s] at h
    exact w_X10_enough_35_b X hr20 ih h hV hF hl
set_option maxHeartbeats 4000000 in
theorem w_X10_enough_20_b {p : Program} {l : Launch} {e : Env} {s : State} {m : MethodId} {args : Array Value} {below : List Frame} {meth : Method} {c : Code} {g : Gl} (X : FX g p m c s args meth cX10_enough 7 RX10 (some .int) "enough") {r : Int32 × Hp} {rec20 : Hp × Int32 × Int32 × Int32 → Option (Int32 × Hp)} {x0 : Nat} {x1 : Int32} {σ : Hp} {x2 : Int32} {x3 : Int32} {x4 : Int32} (hr20 : ∀ (st : Hp × Int32 × Int32 × Int32), rec20 st = some r → ∀ (H : Heap) (locs : List Loc) (ls : Array Slot), HV g st.1 H → FR g locs → lv_has ls 7 [(0, .ref x0), (1, .int x1), (2, .int st.2.1), (3, .int st.2.2.1), (4, .int st.2.2.2)] → W p l e rm_X10_enough s m args below meth c H locs 0 0 (MQ below (Qi g r) args s 0 0 (frN g)) (F0 m 20 ls [])) {H : Heap} {locs : List Loc} {ls : Array Slot} (h : B_X10_enough_20 x0 x1 rec20 σ x2 x3 x4 = some r) (hV : HV g σ H) (hF : FR g locs) (hl : lv_has ls 7 [(0, .ref x0), (1, .int x1), (2, .int x2), (3, .int x3), (4, .int x4)]) : W p l e rm_X10_enough s m args below meth c H locs 0 0 (MQ below (Qi g r) args s 0 0 (frN g)) (F0 m 20 ls []) := by
  unfold B_X10_enough_20 at h
  refine lv_iload X.1 X.2.1 dX10_enough_20 (lv_at hl 4 rfl) ?_
  refine lv_bipush (v := 8) X.1 X.2.1 dX10_enough_22 (by decide) ?_
  refine r_ge (tgt := 102) X.1 X.2.1 dX10_enough_24 (by decide) h (fun h => ?_) (fun h => ?_)
  · exact w_X10_enough_102 X  h hV hF (lv_sub hl [1, 2, 3] rfl)
  · refine lv_iload_n X.1 X.2.1 dX10_enough_27 rfl (lv_at hl 2 rfl) ?_
    refine lv_iload_n X.1 X.2.1 dX10_enough_28 rfl (lv_at hl 1 rfl) ?_
    refine r_ge (tgt := 102) X.1 X.2.1 dX10_enough_29 (by decide) h (fun h => ?_) (fun h => ?_)
    · exact w_X10_enough_102 X  h hV hF (lv_sub hl [1, 2, 3] rfl)
    · refine lv_iconst (v := 0) X.1 X.2.1 dX10_enough_32 (by decide) ?_
      refine lv_istore (lv' := [(5, .int 0), (0, .ref x0), (1, .int x1), (2, .int x2), (3, .int x3), (4, .int x4)]) X.1 X.2.1 dX10_enough_33 hl (by decide) rfl (fun ls hl => ?_)
      exact w_X10_enough_35 X hr20 FU (σ, x2, x3, 0) h _ _ _ hV hF (lv_sub hl [1, 2, 3, 4, 5, 0] rfl)
set_option maxHeartbeats 4000000 in
theorem w_X10_enough_20 {p : Program} {l : Launch} {e : Env} {s : State} {m : MethodId} {args : Array Value} {below : List Frame} {meth : Method} {c : Code} {g : Gl} (X : FX g p m c s args meth cX10_enough 7 RX10 (some .int) "enough") {r : Int32 × Hp} {x0 : Nat} {x1 : Int32}  : ∀ (n : Nat) (st : Hp × Int32 × Int32 × Int32), L_X10_enough_20 x0 x1 n st = some r → ∀ (H : Heap) (locs : List Loc) (ls : Array Slot), HV g st.1 H → FR g locs → lv_has ls 7 [(0, .ref x0), (1, .int x1), (2, .int st.2.1), (3, .int st.2.2.1), (4, .int st.2.2.2)] → W p l e rm_X10_enough s m args below meth c H locs 0 0 (MQ below (Qi g r) args s 0 0 (frN g)) (F0 m 20 ls []) := by
  intro n
  induction n with
  | zero =>
    intro st h
    rw [L_X10_enough_20_0] at h
    cases h
  | succ n ih =>
    intro st h H locs ls hV hF hl
    rw [L_X10_enough_20_s] at h
    exact w_X10_enough_20_b X  ih h hV hF hl
set_option maxHeartbeats 4000000 in
theorem c_X10_enough (l : Launch) {g : Gl} {σ : Hp} {x0 : Nat} {x1 : Int32} {r : Int32 × Hp} (h : F_X10_enough σ x0 x1 = some r) : Met l yX10_enough (ws_ yX10_enough cX10_enough 7 (some .int)) rm_X10_enough (va_Pc [.ref x0, .int x1] (WV g σ)) (Qi g r) 0 0 (frN g) := by
  refine ct_of (by decide) (Nat.le_of_ble_eq_true rfl) ?_
  intro p e s m below meth c ls X hV hl
  have hF : FR g [] := FR_nil
  unfold F_X10_enough at h
  have hl : lv_has ls 7 [(0, .ref x0), (1, .int x1)] := hl
  have X : FX g p m c s _ meth cX10_enough 7 RX10 (some .int) "enough" := X
  obtain ⟨-, h⟩ := gd_inv h
  refine lv_iload_n X.1 X.2.1 dX10_enough_0 rfl (lv_at hl 1 rfl) ?_
  refine lv_iconst (v := 0) X.1 X.2.1 dX10_enough_1 (by decide) ?_
  refine lv_bipush (v := 48) X.1 X.2.1 dX10_enough_2 (by decide) ?_
  obtain ⟨v1, s1, hc, h⟩ := b2_inv h
  refine r_ci (va_runS (As := [.int x1, .int 0, .int 48]) (rest := []) (cfX X) (c_X10_in l hc) (va_cwS 3 X.2.2.2.2.1 (lw_S q1104 q1105 q59 q1106) rfl rfl rfl yd_X10_in ⟨Nat.le_of_ble_eq_true rfl, Nat.le_of_ble_eq_true rfl⟩) (preS X hV) rfl rfl hl.1 rfl (lv_room (Nat.le_of_ble_eq_true rfl)) dX10_enough_4 ⟨(Nat.le_of_ble_eq_true rfl), (Nat.le_of_ble_eq_true rfl)⟩) hF (fun H locs hV hF => ?_)
  refine r_ifne (tgt := 13) X.1 X.2.1 dX10_enough_7 (by decide) h (fun h => ?_) (fun h => ?_)
  · refine lv_iconst (v := 0) X.1 X.2.1 dX10_enough_13 (by decide) ?_
    refine lv_istore_n (lv' := [(2, .int 0), (0, .ref x0), (1, .int x1)]) X.1 X.2.1 dX10_enough_14 rfl hl (by decide) rfl (fun ls hl => ?_)
    refine lv_iconst (v := 0) X.1 X.2.1 dX10_enough_15 (by decide) ?_
    refine lv_istore_n (lv' := [(3, .int 0), (2, .int 0), (0, .ref x0), (1, .int x1)]) X.1 X.2.1 dX10_enough_16 rfl hl (by decide) rfl (fun ls hl => ?_)
    refine lv_iconst (v := 0) X.1 X.2.1 dX10_enough_17 (by decide) ?_
    refine lv_istore (lv' := [(4, .int 0), (3, .int 0), (2, .int 0), (0, .ref x0), (1, .int x1)]) X.1 X.2.1 dX10_enough_18 hl (by decide) rfl (fun ls hl => ?_)
    exact w_X10_enough_20 X  FU (s1, 0, 0, 0) h _ _ _ hV hF (lv_sub hl [3, 4, 2, 1, 0] rfl)
  · refine lv_bipush (v := (-3)) X.1 X.2.1 dX10_enough_10 (by decide) ?_
    exact r_iret X hV hF h dX10_enough_12
/-! PalaceOfRoomsModel.count -/
theorem dX10_count_0 : decode cX10_count 0 = .ok (.iconst 0, 1) := by decide +kernel
theorem dX10_count_1 : decode cX10_count 1 = .ok (.istore_n 2, 1) := by decide +kernel
theorem dX10_count_2 : decode cX10_count 2 = .ok (.iload_n 1, 1) := by decide +kernel
theorem dX10_count_3 : decode cX10_count 3 = .ok (.tableswitch 158 0 6 #[41, 46, 51, 75, 109, 148, 153], 41) := by decide +kernel
theorem dX10_count_44 : decode cX10_count 44 = .ok (.aload_n 0, 1) := by decide +kernel
theorem dX10_count_45 : decode cX10_count 45 = .ok (.getfield 125, 3) := by decide +kernel
theorem dX10_count_48 : decode cX10_count 48 = .ok (.ireturn, 1) := by decide +kernel
theorem dX10_count_49 : decode cX10_count 49 = .ok (.aload_n 0, 1) := by decide +kernel
theorem dX10_count_50 : decode cX10_count 50 = .ok (.getfield 97, 3) := by decide +kernel
theorem dX10_count_53 : decode cX10_count 53 = .ok (.ireturn, 1) := by decide +kernel
theorem dX10_count_54 : decode cX10_count 54 = .ok (.iconst 0, 1) := by decide +kernel
theorem dX10_count_55 : decode cX10_count 55 = .ok (.istore_n 3, 1) := by decide +kernel
theorem dX10_count_56 : decode cX10_count 56 = .ok (.iload_n 3, 1) := by decide +kernel
theorem dX10_count_57 : decode cX10_count 57 = .ok (.bipush 8, 2) := by decide +kernel
theorem dX10_count_59 : decode cX10_count 59 = .ok (.if_icmp .ge 17, 3) := by decide +kernel
theorem dX10_count_62 : decode cX10_count 62 = .ok (.iload_n 2, 1) := by decide +kernel
theorem dX10_count_63 : decode cX10_count 63 = .ok (.aload_n 0, 1) := by decide +kernel
theorem dX10_count_64 : decode cX10_count 64 = .ok (.iload_n 3, 1) := by decide +kernel
theorem dX10_count_65 : decode cX10_count 65 = .ok (.invokevirtual 213, 3) := by decide +kernel
theorem dX10_count_68 : decode cX10_count 68 = .ok (.iadd, 1) := by decide +kernel
theorem dX10_count_69 : decode cX10_count 69 = .ok (.istore_n 2, 1) := by decide +kernel
theorem dX10_count_70 : decode cX10_count 70 = .ok (.iinc 3 1, 3) := by decide +kernel
theorem dX10_count_73 : decode cX10_count 73 = .ok (.goto (-17), 3) := by decide +kernel
theorem dX10_count_76 : decode cX10_count 76 = .ok (.iload_n 2, 1) := by decide +kernel
theorem dX10_count_77 : decode cX10_count 77 = .ok (.ireturn, 1) := by decide +kernel
theorem dX10_count_78 : decode cX10_count 78 = .ok (.iconst 0, 1) := by decide +kernel
theorem dX10_count_79 : decode cX10_count 79 = .ok (.istore_n 3, 1) := by decide +kernel
theorem dX10_count_80 : decode cX10_count 80 = .ok (.iload_n 3, 1) := by decide +kernel
theorem dX10_count_81 : decode cX10_count 81 = .ok (.bipush 48, 2) := by decide +kernel
theorem dX10_count_83 : decode cX10_count 83 = .ok (.if_icmp .ge 27, 3) := by decide +kernel
theorem dX10_count_86 : decode cX10_count 86 = .ok (.iload_n 2, 1) := by decide +kernel
theorem dX10_count_87 : decode cX10_count 87 = .ok (.aload_n 0, 1) := by decide +kernel
theorem dX10_count_88 : decode cX10_count 88 = .ok (.getfield 38, 3) := by decide +kernel
theorem dX10_count_91 : decode cX10_count 91 = .ok (.iload_n 3, 1) := by decide +kernel
theorem dX10_count_92 : decode cX10_count 92 = .ok (.iaload, 1) := by decide +kernel
theorem dX10_count_93 : decode cX10_count 93 = .ok (.iconst (-1), 1) := by decide +kernel
theorem dX10_count_94 : decode cX10_count 94 = .ok (.if_icmp .ne 7, 3) := by decide +kernel
theorem dX10_count_97 : decode cX10_count 97 = .ok (.iconst 0, 1) := by decide +kernel
theorem dX10_count_98 : decode cX10_count 98 = .ok (.goto 4, 3) := by decide +kernel
theorem dX10_count_101 : decode cX10_count 101 = .ok (.iconst 1, 1) := by decide +kernel
theorem dX10_count_102 : decode cX10_count 102 = .ok (.iadd, 1) := by decide +kernel
theorem dX10_count_103 : decode cX10_count 103 = .ok (.istore_n 2, 1) := by decide +kernel
theorem dX10_count_104 : decode cX10_count 104 = .ok (.iinc 3 1, 3) := by decide +kernel
theorem dX10_count_107 : decode cX10_count 107 = .ok (.goto (-27), 3) := by decide +kernel
theorem dX10_count_110 : decode cX10_count 110 = .ok (.iload_n 2, 1) := by decide +kernel
theorem dX10_count_111 : decode cX10_count 111 = .ok (.ireturn, 1) := by decide +kernel
theorem dX10_count_112 : decode cX10_count 112 = .ok (.iconst 0, 1) := by decide +kernel
theorem dX10_count_113 : decode cX10_count 113 = .ok (.istore_n 3, 1) := by decide +kernel
theorem dX10_count_114 : decode cX10_count 114 = .ok (.iload_n 3, 1) := by decide +kernel
theorem dX10_count_115 : decode cX10_count 115 = .ok (.bipush 48, 2) := by decide +kernel
theorem dX10_count_117 : decode cX10_count 117 = .ok (.if_icmp .ge 32, 3) := by decide +kernel
theorem dX10_count_120 : decode cX10_count 120 = .ok (.iload_n 2, 1) := by decide +kernel
theorem dX10_count_121 : decode cX10_count 121 = .ok (.aload_n 0, 1) := by decide +kernel
theorem dX10_count_122 : decode cX10_count 122 = .ok (.getfield 32, 3) := by decide +kernel
theorem dX10_count_125 : decode cX10_count 125 = .ok (.iload_n 3, 1) := by decide +kernel
theorem dX10_count_126 : decode cX10_count 126 = .ok (.iaload, 1) := by decide +kernel
theorem dX10_count_127 : decode cX10_count 127 = .ok (.iconst (-1), 1) := by decide +kernel
theorem dX10_count_128 : decode cX10_count 128 = .ok (.if_icmp .ne 7, 3) := by decide +kernel
theorem dX10_count_131 : decode cX10_count 131 = .ok (.iconst 0, 1) := by decide +kernel
theorem dX10_count_132 : decode cX10_count 132 = .ok (.goto 9, 3) := by decide +kernel
theorem dX10_count_135 : decode cX10_count 135 = .ok (.aload_n 0, 1) := by decide +kernel
theorem dX10_count_136 : decode cX10_count 136 = .ok (.getfield 35, 3) := by decide +kernel
theorem dX10_count_139 : decode cX10_count 139 = .ok (.iload_n 3, 1) := by decide +kernel
theorem dX10_count_140 : decode cX10_count 140 = .ok (.iaload, 1) := by decide +kernel
theorem dX10_count_141 : decode cX10_count 141 = .ok (.iadd, 1) := by decide +kernel
theorem dX10_count_142 : decode cX10_count 142 = .ok (.istore_n 2, 1) := by decide +kernel
theorem dX10_count_143 : decode cX10_count 143 = .ok (.iinc 3 1, 3) := by decide +kernel
theorem dX10_count_146 : decode cX10_count 146 = .ok (.goto (-32), 3) := by decide +kernel
theorem dX10_count_149 : decode cX10_count 149 = .ok (.iload_n 2, 1) := by decide +kernel
theorem dX10_count_150 : decode cX10_count 150 = .ok (.ireturn, 1) := by decide +kernel
theorem dX10_count_151 : decode cX10_count 151 = .ok (.aload_n 0, 1) := by decide +kernel
theorem dX10_count_152 : decode cX10_count 152 = .ok (.getfield 141, 3) := by decide +kernel
theorem dX10_count_155 : decode cX10_count 155 = .ok (.ireturn, 1) := by decide +kernel
theorem dX10_count_156 : decode cX10_count 156 = .ok (.aload_n 0, 1) := by decide +kernel
theorem dX10_count_157 : decode cX10_count 157 = .ok (.getfield 210, 3) := by decide +kernel
theorem dX10_count_160 : decode cX10_count 160 = .ok (.ireturn, 1) := by decide +kernel
theorem dX10_count_161 : decode cX10_count 161 = .ok (.bipush (-3), 2) := by decide +kernel
theorem dX10_count_163 : decode cX10_count 163 = .ok (.ireturn, 1) := by decide +kernel
theorem yd_X10_count : yX10_count.cls ≠ "java/lang/invoke/MethodHandle" ∧ yX10_count.cls ≠ "java/lang/invoke/VarHandle" ∧ (parseMethodDescriptor yX10_count.desc).map (fun d => d.parameters.length) = some 1 := by decide +kernel
abbrev rm_X10_count : Room := { frames := 1, cells := 0, slots := 0, locals := 23 }
set_option maxHeartbeats 4000000 in
theorem w_X10_count_56_b {p : Program} {l : Launch} {e : Env} {s : State} {m : MethodId} {args : Array Value} {below : List Frame} {meth : Method} {c : Code} {g : Gl} (X : FX g p m c s args meth cX10_count 4 RX10 (some .int) "count") {r : Int32 × Hp} {rec56 : Hp × Int32 × Int32 → Option (Int32 × Hp)} {x0 : Nat} {σ : Hp} {x2 : Int32} {x3 : Int32} (hr56 : ∀ (st : Hp × Int32 × Int32), rec56 st = some r → ∀ (H : Heap) (locs : List Loc) (ls : Array Slot), HV g st.1 H → FR g locs → lv_has ls 4 [(0, .ref x0), (2, .int st.2.1), (3, .int st.2.2)] → W p l e rm_X10_count s m args below meth c H locs 0 0 (MQ below (Qi g r) args s 0 0 (frN g)) (F0 m 56 ls [])) {H : Heap} {locs : List Loc} {ls : Array Slot} (h : B_X10_count_56 x0 rec56 σ x2 x3 = some r) (hV : HV g σ H) (hF : FR g locs) (hl : lv_has ls 4 [(0, .ref x0), (2, .int x2), (3, .int x3)]) : W p l e rm_X10_count s m args below meth c H locs 0 0 (MQ below (Qi g r) args s 0 0 (frN g)) (F0 m 56 ls []) := by
  unfold B_X10_count_56 at h
  refine lv_iload_n X.1 X.2.1 dX10_count_56 rfl (lv_at hl 2 rfl) ?_
  refine lv_bipush (v := 8) X.1 X.2.1 dX10_count_57 (by decide) ?_
  refine r_ge (tgt := 76) X.1 X.2.1 dX10_count_59 (by decide) h (fun h => ?_) (fun h => ?_)
  · refine lv_iload_n X.1 X.2.1 dX10_count_76 rfl (lv_at hl 1 rfl) ?_
    exact r_iret X hV hF h dX10_count_77
  · refine lv_iload_n X.1 X.2.1 dX10_count_62 rfl (lv_at hl 1 rfl) ?_
    refine lv_aload_n X.1 X.2.1 dX10_count_63 rfl (lv_at hl 0 rfl) ?_
    refine lv_iload_n X.1 X.2.1 dX10_count_64 rfl (lv_at hl 2 rfl) ?_
    obtain ⟨v1, s1, hc, h⟩ := b2_inv h
    refine r_ci (va_runV (C := RX10) (As := [.int x3]) (rest := [.int x2]) (cfX X) (c_X10_standIn l hc) (cwV 1 X.2.2.2.2.1 (lw_V q1245 q1247 qs36 q59 q1248) rfl rfl rfl ⟨rfl, yd_X10_standIn⟩ ⟨Nat.le_of_ble_eq_true rfl, Nat.le_of_ble_eq_true rfl⟩) (preV X hV (F_X10_standIn_g hc) rfl) rfl rfl hl.1 rfl (lv_room (Nat.le_of_ble_eq_true rfl)) dX10_count_65 ⟨(Nat.le_of_ble_eq_true rfl), (Nat.le_of_ble_eq_true rfl)⟩) hF (fun H locs hV hF => ?_)
    refine lv_iadd X.1 X.2.1 dX10_count_68 ?_
    refine lv_istore_n (lv' := [(2, .int (x2 + v1)), (0, .ref x0), (3, .int x3)]) X.1 X.2.1 dX10_count_69 rfl hl (by decide) rfl (fun ls hl => ?_)
    refine lv_iinc (v := x3 + 1) (lv' := [(3, .int (x3 + 1)), (2, .int (x2 + v1)), (0, .ref x0)]) X.1 X.2.1 dX10_count_70 hl (k := 2) rfl rfl (by decide) rfl (fun ls hl => ?_)
    refine lv_goto (tgt := 56) X.1 X.2.1 dX10_count_73 (by decide) ?_
    exact hr56 (s1, x2 + v1, x3 + 1) h _ _ _ hV hF (lv_sub hl [2, 1, 0] rfl)
set_option maxHeartbeats 4000000 in
theorem w_X10_count_56 {p : Program} {l : Launch} {e : Env} {s : State} {m : MethodId} {args : Array Value} {below : List Frame} {meth : Method} {c : Code} {g : Gl} (X : FX g p m c s args meth cX10_count 4 RX10 (some .int) "count") {r : Int32 × Hp} {x0 : Nat}  : ∀ (n : Nat) (st : Hp × Int32 × Int32), L_X10_count_56 x0 n st = some r → ∀ (H : Heap) (locs : List Loc) (ls : Array Slot), HV g st.1 H → FR g locs → lv_has ls 4 [(0, .ref x0), (2, .int st.2.1), (3, .int st.2.2)] → W p l e rm_X10_count s m args below meth c H locs 0 0 (MQ below (Qi g r) args s 0 0 (frN g)) (F0 m 56 ls []) := by
  intro n
  induction n with
  | zero =>
    intro st h
    rw [L_X10_count_56_0] at h
    cases h
  | succ n ih =>
    intro st h H locs ls hV hF hl
    rw [L_X10_count_56_s] at h
    exact w_X10_count_56_b X  ih h hV hF hl
set_option maxHeartbeats 4000000 in
theorem w_X10_count_80_b {p : Program} {l : Launch} {e : Env} {s : State} {m : MethodId} {args : Array Value} {below : List Frame} {meth : Method} {c : Code} {g : Gl} (X : FX g p m c s args meth cX10_count 4 RX10 (some .int) "count") {r : Int32 × Hp} {rec80 : Int32 × Int32 → Option (Int32 × Hp)} {σ : Hp} {x0 : Nat} {x2 : Int32} {x3 : Int32} (hr80 : ∀ (st : Int32 × Int32), rec80 st = some r → ∀ (H : Heap) (locs : List Loc) (ls : Array Slot), HV g σ H → FR g locs → lv_has ls 4 [(0, .ref x0), (2, .int st.1), (3, .int st.2)] → W p l e rm_X10_count s m args below meth c H locs 0 0 (MQ below (Qi g r) args s 0 0 (frN g)) (F0 m 80 ls [])) {H : Heap} {locs : List Loc} {ls : Array Slot} (h : B_X10_count_80 σ x0 rec80 x2 x3 = some r) (hV : HV g σ H) (hF : FR g locs) (hl : lv_has ls 4 [(0, .ref x0), (2, .int x2), (3, .int x3)]) : W p l e rm_X10_count s m args below meth c H locs 0 0 (MQ below (Qi g r) args s 0 0 (frN g)) (F0 m 80 ls []) := by
  unfold B_X10_count_80 at h
  refine lv_iload_n X.1 X.2.1 dX10_count_80 rfl (lv_at hl 2 rfl) ?_
  refine lv_bipush (v := 48) X.1 X.2.1 dX10_count_81 (by decide) ?_
  refine r_ge (tgt := 110) X.1 X.2.1 dX10_count_83 (by decide) h (fun h => ?_) (fun h => ?_)
  · refine lv_iload_n X.1 X.2.1 dX10_count_110 rfl (lv_at hl 1 rfl) ?_
    exact r_iret X hV hF h dX10_count_111
  · refine lv_iload_n X.1 X.2.1 dX10_count_86 rfl (lv_at hl 1 rfl) ?_
    refine lv_aload_n X.1 X.2.1 dX10_count_87 rfl (lv_at hl 0 rfl) ?_
    refine r_gR X hV fl_X10_38_10 (by decide) dX10_count_88 h (fun v1 h => ?_)
    refine lv_iload_n X.1 X.2.1 dX10_count_91 rfl (lv_at hl 2 rfl) ?_
    refine r_ia X hV dX10_count_92 h (fun v2 h => ?_)
    refine lv_iconst (v := (-1)) X.1 X.2.1 dX10_count_93 (by decide) ?_
    refine r_ne (tgt := 101) X.1 X.2.1 dX10_count_94 (by decide) h (fun h => ?_) (fun h => ?_)
    · refine lv_iconst (v := 1) X.1 X.2.1 dX10_count_101 (by decide) ?_
      refine lv_iadd X.1 X.2.1 dX10_count_102 ?_
      refine lv_istore_n (lv' := [(2, .int (x2 + 1)), (0, .ref x0), (3, .int x3)]) X.1 X.2.1 dX10_count_103 rfl hl (by decide) rfl (fun ls hl => ?_)
      refine lv_iinc (v := x3 + 1) (lv' := [(3, .int (x3 + 1)), (2, .int (x2 + 1)), (0, .ref x0)]) X.1 X.2.1 dX10_count_104 hl (k := 2) rfl rfl (by decide) rfl (fun ls hl => ?_)
      refine lv_goto (tgt := 80) X.1 X.2.1 dX10_count_107 (by decide) ?_
      exact hr80 (x2 + 1, x3 + 1) h _ _ _ hV hF (lv_sub hl [2, 1, 0] rfl)
    · refine lv_iconst (v := 0) X.1 X.2.1 dX10_count_97 (by decide) ?_
      refine lv_goto (tgt := 102) X.1 X.2.1 dX10_count_98 (by decide) ?_
      refine lv_iadd X.1 X.2.1 dX10_count_102 ?_
      refine lv_istore_n (lv' := [(2, .int (x2 + 0)), (0, .ref x0), (3, .int x3)]) X.1 X.2.1 dX10_count_103 rfl hl (by decide) rfl (fun ls hl => ?_)
      refine lv_iinc (v := x3 + 1) (lv' := [(3, .int (x3 + 1)), (2, .int (x2 + 0)), (0, .ref x0)]) X.1 X.2.1 dX10_count_104 hl (k := 2) rfl rfl (by decide) rfl (fun ls hl => ?_)
      refine lv_goto (tgt := 80) X.1 X.2.1 dX10_count_107 (by decide) ?_
      exact hr80 (x2 + 0, x3 + 1) h _ _ _ hV hF (lv_sub hl [2, 1, 0] rfl)
set_option maxHeartbeats 4000000 in
theorem w_X10_count_80 {p : Program} {l : Launch} {e : Env} {s : State} {m : MethodId} {args : Array Value} {below : List Frame} {meth : Method} {c : Code} {g : Gl} (X : FX g p m c s args meth cX10_count 4 RX10 (some .int) "count") {r : Int32 × Hp} {σ : Hp} {x0 : Nat}  : ∀ (n : Nat) (st : Int32 × Int32), L_X10_count_80 σ x0 n st = some r → ∀ (H : Heap) (locs : List Loc) (ls : Array Slot), HV g σ H → FR g locs → lv_has ls 4 [(0, .ref x0), (2, .int st.1), (3, .int st.2)] → W p l e rm_X10_count s m args below meth c H locs 0 0 (MQ below (Qi g r) args s 0 0 (frN g)) (F0 m 80 ls []) := by
  intro n
  induction n with
  | zero =>
    intro st h
    rw [L_X10_count_80_0] at h
    cases h
  | succ n ih =>
    intro st h H locs ls hV hF hl
    rw [L_X10_count_80_s] at h
    exact w_X10_count_80_b X  ih h hV hF hl
set_option maxHeartbeats 4000000 in
theorem w_X10_count_114_b {p : Program} {l : Launch} {e : Env} {s : State} {m : MethodId} {args : Array Value} {below : List Frame} {meth : Method} {c : Code} {g : Gl} (X : FX g p m c s args meth cX10_count 4 RX10 (some .int) "count") {r : Int32 × Hp} {rec114 : Int32 × Int32 → Option (Int32 × Hp)} {σ : Hp} {x0 : Nat} {x2 : Int32} {x3 : Int32} (hr114 : ∀ (st : Int32 × Int32), rec114 st = some r → ∀ (H : Heap) (locs : List Loc) (ls : Array Slot), HV g σ H → FR g locs → lv_has ls 4 [(0, .ref x0), (2, .int st.1), (3, .int st.2)] → W p l e rm_X10_count s m args below meth c H locs 0 0 (MQ below (Qi g r) args s 0 0 (frN g)) (F0 m 114 ls [])) {H : Heap} {locs : List Loc} {ls : Array Slot} (h : B_X10_count_114 σ x0 rec114 x2 x3 = some r) (hV : HV g σ H) (hF : FR g locs) (hl : lv_has ls 4 [(0, .ref x0), (2, .int x2), (3, .int x3)]) : W p l e rm_X10_count s m args below meth c H locs 0 0 (MQ below (Qi g r) args s 0 0 (frN g)) (F0 m 114 ls []) := by
  unfold B_X10_count_114 at h
  refine lv_iload_n X.1 X.2.1 dX10_count_114 rfl (lv_at hl 2 rfl) ?_
  refine lv_bipush (v := 48) X.1 X.2.1 dX10_count_115 (by decide) ?_
  refine r_ge (tgt := 149) X.1 X.2.1 dX10_count_117 (by decide) h (fun h => ?_) (fun h => ?_)
  · refine lv_iload_n X.1 X.2.1 dX10_count_149 rfl (lv_at hl 1 rfl) ?_
    exact r_iret X hV hF h dX10_count_150
  · refine lv_iload_n X.1 X.2.1 dX10_count_120 rfl (lv_at hl 1 rfl) ?_
    refine lv_aload_n X.1 X.2.1 dX10_count_121 rfl (lv_at hl 0 rfl) ?_
    refine r_gR X hV fl_X10_32_10 (by decide) dX10_count_122 h (fun v1 h => ?_)
    refine lv_iload_n X.1 X.2.1 dX10_count_125 rfl (lv_at hl 2 rfl) ?_
    refine r_ia X hV dX10_count_126 h (fun v2 h => ?_)
    refine lv_iconst (v := (-1)) X.1 X.2.1 dX10_count_127 (by decide) ?_
    refine r_ne (tgt := 135) X.1 X.2.1 dX10_count_128 (by decide) h (fun h => ?_) (fun h => ?_)
    · refine lv_aload_n X.1 X.2.1 dX10_count_135 rfl (lv_at hl 0 rfl) ?_
      refine r_gR X hV fl_X10_35_10 (by decide) dX10_count_136 h (fun v3 h => ?_)
      refine lv_iload_n X.1 X.2.1 dX10_count_139 rfl (lv_at hl 2 rfl) ?_
      refine r_ia X hV dX10_count_140 h (fun v4 h => ?_)
      refine lv_iadd X.1 X.2.1 dX10_count_141 ?_
      refine lv_istore_n (lv' := [(2, .int (x2 + v4)), (0, .ref x0), (3, .int x3)]) X.1 X.2.1 dX10_count_142 rfl hl (by decide) rfl (fun ls hl => ?_)
      refine lv_iinc (v := x3 + 1) (lv' := [(3, .int (x3 + 1)), (2, .int (x2 + v4)), (0, .ref x0)]) X.1 X.2.1 dX10_count_143 hl (k := 2) rfl rfl (by decide) rfl (fun ls hl => ?_)
      refine lv_goto (tgt := 114) X.1 X.2.1 dX10_count_146 (by decide) ?_
      exact hr114 (x2 + v4, x3 + 1) h _ _ _ hV hF (lv_sub hl [2, 1, 0] rfl)
    · refine lv_iconst (v := 0) X.1 X.2.1 dX10_count_131 (by decide) ?_
      refine lv_goto (tgt := 141) X.1 X.2.1 dX10_count_132 (by decide) ?_
      refine lv_iadd X.1 X.2.1 dX10_count_141 ?_
      refine lv_istore_n (lv' := [(2, .int (x2 + 0)), (0, .ref x0), (3, .int x3)]) X.1 X.2.1 dX10_count_142 rfl hl (by decide) rfl (fun ls hl => ?_)
      refine lv_iinc (v := x3 + 1) (lv' := [(3, .int (x3 + 1)), (2, .int (x2 + 0)), (0, .ref x0)]) X.1 X.2.1 dX10_count_143 hl (k := 2) rfl rfl (by decide) rfl (fun ls hl => ?_)
      refine lv_goto (tgt := 114) X.1 X.2.1 dX10_count_146 (by decide) ?_
      exact hr114 (x2 + 0, x3 + 1) h _ _ _ hV hF (lv_sub hl [2, 1, 0] rfl)
set_option maxHeartbeats 4000000 in
theorem w_X10_count_114 {p : Program} {l : Launch} {e : Env} {s : State} {m : MethodId} {args : Array Value} {below : List Frame} {meth : Method} {c : Code} {g : Gl} (X : FX g p m c s args meth cX10_count 4 RX10 (some .int) "count") {r : Int32 × Hp} {σ : Hp} {x0 : Nat}  : ∀ (n : Nat) (st : Int32 × Int32), L_X10_count_114 σ x0 n st = some r → ∀ (H : Heap) (locs : List Loc) (ls : Array Slot), HV g σ H → FR g locs → lv_has ls 4 [(0, .ref x0), (2, .int st.1), (3, .int st.2)] → W p l e rm_X10_count s m args below meth c H locs 0 0 (MQ below (Qi g r) args s 0 0 (frN g)) (F0 m 114 ls []) := by
  intro n
  induction n with
  | zero =>
    intro st h
    rw [L_X10_count_114_0] at h
    cases h
  | succ n ih =>
    intro st h H locs ls hV hF hl
    rw [L_X10_count_114_s] at h
    exact w_X10_count_114_b X  ih h hV hF hl
set_option maxHeartbeats 4000000 in
theorem c_X10_count (l : Launch) {g : Gl} {σ : Hp} {x0 : Nat} {x1 : Int32} {r : Int32 × Hp} (h : F_X10_count σ x0 x1 = some r) : Met l yX10_count (ws_ yX10_count cX10_count 4 (some .int)) rm_X10_count (va_Pc [.ref x0, .int x1] (WV g σ)) (Qi g r) 0 0 (frN g) := by
  refine ct_of (by decide) (Nat.le_of_ble_eq_true rfl) ?_
  intro p e s m below meth c ls X hV hl
  have hF : FR g [] := FR_nil
  unfold F_X10_count at h
  have hl : lv_has ls 4 [(0, .ref x0), (1, .int x1)] := hl
  have X : FX g p m c s _ meth cX10_count 4 RX10 (some .int) "count" := X
  obtain ⟨-, h⟩ := gd_inv h
  refine lv_iconst (v := 0) X.1 X.2.1 dX10_count_0 (by decide) ?_
  refine lv_istore_n (lv' := [(2, .int 0), (0, .ref x0), (1, .int x1)]) X.1 X.2.1 dX10_count_1 rfl hl (by decide) rfl (fun ls hl => ?_)
  refine lv_iload_n X.1 X.2.1 dX10_count_2 rfl (lv_at hl 2 rfl) ?_
  refine r_case (tgt := 44) (off := 41) 0 X.1 X.2.1 dX10_count_3 (by decide) (by decide) rfl (by decide) h (fun h => ?_) (fun n0 h => ?_)
  · refine lv_aload_n X.1 X.2.1 dX10_count_44 rfl (lv_at hl 1 rfl) ?_
    refine r_gI X hV fl_X10_125_10 dX10_count_45 h (fun v1 h => ?_)
    exact r_iret X hV hF h dX10_count_48
  refine r_case (tgt := 49) (off := 46) 1 X.1 X.2.1 dX10_count_3 (by decide) (by decide) rfl (by decide) h (fun h => ?_) (fun n1 h => ?_)
  · refine lv_aload_n X.1 X.2.1 dX10_count_49 rfl (lv_at hl 1 rfl) ?_
    refine r_gI X hV fl_X10_97_10 dX10_count_50 h (fun v2 h => ?_)
    exact r_iret X hV hF h dX10_count_53
  refine r_case (tgt := 54) (off := 51) 2 X.1 X.2.1 dX10_count_3 (by decide) (by decide) rfl (by decide) h (fun h => ?_) (fun n2 h => ?_)
  · refine lv_iconst (v := 0) X.1 X.2.1 dX10_count_54 (by decide) ?_
    refine lv_istore_n (lv' := [(3, .int 0), (2, .int 0), (0, .ref x0), (1, .int x1)]) X.1 X.2.1 dX10_count_55 rfl hl (by decide) rfl (fun ls hl => ?_)
    exact w_X10_count_56 X  FU (σ, 0, 0) h _ _ _ hV hF (lv_sub hl [2, 1, 0] rfl)
  refine r_case (tgt := 78) (off := 75) 3 X.1 X.2.1 dX10_count_3 (by decide) (by decide) rfl (by decide) h (fun h => ?_) (fun n3 h => ?_)
  · refine lv_iconst (v := 0) X.1 X.2.1 dX10_count_78 (by decide) ?_
    refine lv_istore_n (lv' := [(3, .int 0), (2, .int 0), (0, .ref x0), (1, .int x1)]) X.1 X.2.1 dX10_count_79 rfl hl (by decide) rfl (fun ls hl => ?_)
    exact w_X10_count_80 X  FU (0, 0) h _ _ _ hV hF (lv_sub hl [2, 1, 0] rfl)
  refine r_case (tgt := 112) (off := 109) 4 X.1 X.2.1 dX10_count_3 (by decide) (by decide) rfl (by decide) h (fun h => ?_) (fun n4 h => ?_)
  · refine lv_iconst (v := 0) X.1 X.2.1 dX10_count_112 (by decide) ?_
    refine lv_istore_n (lv' := [(3, .int 0), (2, .int 0), (0, .ref x0), (1, .int x1)]) X.1 X.2.1 dX10_count_113 rfl hl (by decide) rfl (fun ls hl => ?_)
    exact w_X10_count_114 X  FU (0, 0) h _ _ _ hV hF (lv_sub hl [2, 1, 0] rfl)
  refine r_case (tgt := 151) (off := 148) 5 X.1 X.2.1 dX10_count_3 (by decide) (by decide) rfl (by decide) h (fun h => ?_) (fun n5 h => ?_)
  · refine lv_aload_n X.1 X.2.1 dX10_count_151 rfl (lv_at hl 1 rfl) ?_
    refine r_gI X hV fl_X10_141_10 dX10_count_152 h (fun v3 h => ?_)
    exact r_iret X hV hF h dX10_count_155
  refine r_case (tgt := 156) (off := 153) 6 X.1 X.2.1 dX10_count_3 (by decide) (by decide) rfl (by decide) h (fun h => ?_) (fun n6 h => ?_)
  · refine lv_aload_n X.1 X.2.1 dX10_count_156 rfl (lv_at hl 1 rfl) ?_
    refine r_gI X hV fl_X10_210_10 dX10_count_157 h (fun v4 h => ?_)
    exact r_iret X hV hF h dX10_count_160
  refine lv_tableOut (tgt := 161) X.1 X.2.1 dX10_count_3 (tsw_out (n := 7) (by decide) (fun i hi => by
    match i, hi with
    | 0, _ => exact n0
    | 1, _ => exact n1
    | 2, _ => exact n2
    | 3, _ => exact n3
    | 4, _ => exact n4
    | 5, _ => exact n5
    | 6, _ => exact n6)) (by decide) ?_
  refine lv_bipush (v := (-3)) X.1 X.2.1 dX10_count_161 (by decide) ?_
  exact r_iret X hV hF h dX10_count_163
/-! PalaceOfRooms$Kept.<init> for classes {0: 3} -/
theorem dX2_init_0 : decode cX2_init 0 = .ok (.aload_n 0, 1) := by decide +kernel
theorem dX2_init_1 : decode cX2_init 1 = .ok (.invokespecial 3, 3) := by decide +kernel
theorem dX2_init_4 : decode cX2_init 4 = .ok (.aload_n 0, 1) := by decide +kernel
theorem dX2_init_5 : decode cX2_init 5 = .ok (.iconst (-1), 1) := by decide +kernel
theorem dX2_init_6 : decode cX2_init 6 = .ok (.putfield 9, 3) := by decide +kernel
theorem dX2_init_9 : decode cX2_init 9 = .ok (.return_, 1) := by decide +kernel
theorem yd_X2_init : yX2_init.cls ≠ "java/lang/invoke/MethodHandle" ∧ yX2_init.cls ≠ "java/lang/invoke/VarHandle" ∧ (parseMethodDescriptor yX2_init.desc).map (fun d => d.parameters.length) = some 0 := by decide +kernel
theorem fp_X2_9_3 : FPk RX2 9 3 0 "I" false := ⟨RX3, TX3, 4, "PalaceOfRooms$Kept", tyX3, rfl, by decide, (fun q => by have h1 := q.1; have h2 := q.2; omega), rfl, in_X3, tyX3_ok, (fun a ha b hb h => Or.inl (nmX3 a ha b hb h)), rfl, (fun q => by cases q), (Or.inl q109), Or.inl rfl⟩
abbrev rm_X2_init_3 : Room := { frames := 1, cells := 0, slots := 0, locals := 20 }
set_option maxHeartbeats 4000000 in
theorem c_X2_init_3 (l : Launch) {g : Gl} {σ : Hp} {x0 : Nat} {r : Hp} (h : F_X2_init_3 σ x0 = some r) : Met l yX2_init (ws_ yX2_init cX2_init 1 none) rm_X2_init_3 (va_Pc [.ref x0] (WV g σ)) (Qv g r) 0 0 (frN g) := by
  refine ct_of (by decide) (Nat.le_of_ble_eq_true rfl) ?_
  intro p e s m below meth c ls X hV hl
  have hF : FR g [] := FR_nil
  unfold F_X2_init_3 at h
  have hl : lv_has ls 1 [(0, .ref x0)] := hl
  have X : FX g p m c s _ meth cX2_init 1 RX2 none "<init>" := X
  refine lv_aload_n X.1 X.2.1 dX2_init_0 rfl (lv_at hl 0 rfl) ?_
  refine W.objInit X.1 X.2.1 X.2.2.2.1 (X.2.2.2.2.1 _ q102) (X.2.2.2.2.1 _ q83) (X.2.2.2.2.1 _ q84) rfl (by rw [X.2.2.1]; exact hl.1) rfl dX2_init_1 (Nat.le_of_ble_eq_true rfl) (Nat.le_of_ble_eq_true rfl) ?_
  refine W.eq (g2 := F0 m 4 ls []) rfl ?_
  refine lv_aload_n X.1 X.2.1 dX2_init_4 rfl (lv_at hl 0 rfl) ?_
  refine lv_iconst (v := (-1)) X.1 X.2.1 dX2_init_5 (by decide) ?_
  refine r_pI X hV hF fp_X2_9_3 (fun q => by cases q) dX2_init_6 h (fun s1 H locs hV hF h => ?_)
  exact r_vret X hV hF h dX2_init_9
/-! PalaceOfRooms$Kept.<init> for classes {0: 4} -/
theorem fp_X2_9_4 : FPk RX2 9 4 0 "I" false := ⟨RX4, TX4, 2, "PalaceOfRooms$Kept", tyX4, rfl, by decide, (fun q => by have h1 := q.1; have h2 := q.2; omega), rfl, in_X4, tyX4_ok, (fun a ha b hb h => Or.inl (nmX4 a ha b hb h)), rfl, (fun q => by cases q), (Or.inl q109), Or.inl rfl⟩
abbrev rm_X2_init_4 : Room := { frames := 1, cells := 0, slots := 0, locals := 20 }
set_option maxHeartbeats 4000000 in
theorem c_X2_init_4 (l : Launch) {g : Gl} {σ : Hp} {x0 : Nat} {r : Hp} (h : F_X2_init_4 σ x0 = some r) : Met l yX2_init (ws_ yX2_init cX2_init 1 none) rm_X2_init_4 (va_Pc [.ref x0] (WV g σ)) (Qv g r) 0 0 (frN g) := by
  refine ct_of (by decide) (Nat.le_of_ble_eq_true rfl) ?_
  intro p e s m below meth c ls X hV hl
  have hF : FR g [] := FR_nil
  unfold F_X2_init_4 at h
  have hl : lv_has ls 1 [(0, .ref x0)] := hl
  have X : FX g p m c s _ meth cX2_init 1 RX2 none "<init>" := X
  refine lv_aload_n X.1 X.2.1 dX2_init_0 rfl (lv_at hl 0 rfl) ?_
  refine W.objInit X.1 X.2.1 X.2.2.2.1 (X.2.2.2.2.1 _ q102) (X.2.2.2.2.1 _ q83) (X.2.2.2.2.1 _ q84) rfl (by rw [X.2.2.1]; exact hl.1) rfl dX2_init_1 (Nat.le_of_ble_eq_true rfl) (Nat.le_of_ble_eq_true rfl) ?_
  refine W.eq (g2 := F0 m 4 ls []) rfl ?_
  refine lv_aload_n X.1 X.2.1 dX2_init_4 rfl (lv_at hl 0 rfl) ?_
  refine lv_iconst (v := (-1)) X.1 X.2.1 dX2_init_5 (by decide) ?_
  refine r_pI X hV hF fp_X2_9_4 (fun q => by cases q) dX2_init_6 h (fun s1 H locs hV hF h => ?_)
  exact r_vret X hV hF h dX2_init_9
/-! PalaceOfRooms$Ghost.<init> -/
theorem dX4_init_0 : decode cX4_init 0 = .ok (.aload_n 0, 1) := by decide +kernel
theorem dX4_init_1 : decode cX4_init 1 = .ok (.invokespecial 3, 3) := by decide +kernel
theorem dX4_init_4 : decode cX4_init 4 = .ok (.return_, 1) := by decide +kernel
theorem yd_X4_init : yX4_init.cls ≠ "java/lang/invoke/MethodHandle" ∧ yX4_init.cls ≠ "java/lang/invoke/VarHandle" ∧ (parseMethodDescriptor yX4_init.desc).map (fun d => d.parameters.length) = some 0 := by decide +kernel
abbrev rm_X4_init : Room := { frames := 2, cells := 0, slots := 0, locals := 40 }
set_option maxHeartbeats 4000000 in
theorem c_X4_init (l : Launch) {g : Gl} {σ : Hp} {x0 : Nat} {r : Hp} (h : F_X4_init σ x0 = some r) : Met l yX4_init (ws_ yX4_init cX4_init 1 none) rm_X4_init (va_Pc [.ref x0] (WV g σ)) (Qv g r) 0 0 (frN g) := by
  refine ct_of (by decide) (Nat.le_of_ble_eq_true rfl) ?_
  intro p e s m below meth c ls X hV hl
  have hF : FR g [] := FR_nil
  unfold F_X4_init at h
  have hl : lv_has ls 1 [(0, .ref x0)] := hl
  have X : FX g p m c s _ meth cX4_init 1 RX4 none "<init>" := X
  refine lv_aload_n X.1 X.2.1 dX4_init_0 rfl (lv_at hl 0 rfl) ?_
  obtain ⟨s1, hc, h⟩ := b1_inv h
  refine r_cv (va_runIN (As := []) (rest := []) (cfX X) (c_X2_init_4 l hc) ⟨va_cnB 0 X.2.2.2.2.1 (lw_meth q101) rfl rfl rfl (X.2.2.2.2.2.1.2.2.2.1 _ (List.mem_of_getElem? (i := 3) rfl)) (X.2.2.2.2.1 _ q51) yd_X2_init ⟨Nat.le_of_ble_eq_true rfl, Nat.le_of_ble_eq_true rfl⟩, rfl, X.2.2.2.2.1 _ q100⟩ (preS X hV) rfl rfl hl.1 rfl (lv_room (Nat.le_of_ble_eq_true rfl)) dX4_init_1 ⟨(Nat.le_of_ble_eq_true rfl), (Nat.le_of_ble_eq_true rfl)⟩) hF (fun H locs hV hF => ?_)
  exact r_vret X hV hF h dX4_init_4
/-! PalaceOfRooms$Corner.<init> -/
theorem dX3_init_0 : decode cX3_init 0 = .ok (.aload_n 0, 1) := by decide +kernel
theorem dX3_init_1 : decode cX3_init 1 = .ok (.invokespecial 3, 3) := by decide +kernel
theorem dX3_init_4 : decode cX3_init 4 = .ok (.aload_n 0, 1) := by decide +kernel
theorem dX3_init_5 : decode cX3_init 5 = .ok (.new 9, 3) := by decide +kernel
theorem dX3_init_8 : decode cX3_init 8 = .ok (.dup, 1) := by decide +kernel
theorem dX3_init_9 : decode cX3_init 9 = .ok (.invokespecial 11, 3) := by decide +kernel
theorem dX3_init_12 : decode cX3_init 12 = .ok (.putfield 12, 3) := by decide +kernel
theorem dX3_init_15 : decode cX3_init 15 = .ok (.aload_n 0, 1) := by decide +kernel
theorem dX3_init_16 : decode cX3_init 16 = .ok (.iconst (-1), 1) := by decide +kernel
theorem dX3_init_17 : decode cX3_init 17 = .ok (.putfield 18, 3) := by decide +kernel
theorem dX3_init_20 : decode cX3_init 20 = .ok (.return_, 1) := by decide +kernel
theorem yd_X3_init : yX3_init.cls ≠ "java/lang/invoke/MethodHandle" ∧ yX3_init.cls ≠ "java/lang/invoke/VarHandle" ∧ (parseMethodDescriptor yX3_init.desc).map (fun d => d.parameters.length) = some 0 := by decide +kernel
theorem nw_X3_9 : NWk RX3 9 4 2 := ⟨RX4, TX4, 2, tyX4, rfl, in_X4, tyX4_ok, by decide +kernel, q103, q104, q53⟩
theorem fp_X3_12_3 : FPk RX3 12 3 2 "LPalaceOfRooms$Ghost;" true := ⟨RX3, TX3, 4, "PalaceOfRooms$Corner", tyX3, rfl, by decide, (fun q => by have h1 := q.1; have h2 := q.2; omega), rfl, in_X3, tyX3_ok, (fun a ha b hb h => Or.inl (nmX3 a ha b hb h)), rfl, fun _ => rfl, (Or.inl q132), Or.inl rfl⟩
theorem fp_X3_18_3 : FPk RX3 18 3 3 "I" false := ⟨RX3, TX3, 4, "PalaceOfRooms$Corner", tyX3, rfl, by decide, (fun q => by have h1 := q.1; have h2 := q.2; omega), rfl, in_X3, tyX3_ok, (fun a ha b hb h => Or.inl (nmX3 a ha b hb h)), rfl, (fun q => by cases q), (Or.inl q135), Or.inl rfl⟩
abbrev rm_X3_init : Room := { frames := 3, cells := 1, slots := 2, locals := 60 }
set_option maxHeartbeats 4000000 in
theorem c_X3_init (l : Launch) {g : Gl} {σ : Hp} {x0 : Nat} {r : Hp} (h : F_X3_init σ x0 = some r) : Met l yX3_init (ws_ yX3_init cX3_init 1 none) rm_X3_init (va_Pc [.ref x0] (WV g σ)) (Qv g r) 1 2 (frN g) := by
  refine ct_of (by decide) (Nat.le_of_ble_eq_true rfl) ?_
  intro p e s m below meth c ls X hV hl
  have hF : FR g [] := FR_nil
  unfold F_X3_init at h
  have hl : lv_has ls 1 [(0, .ref x0)] := hl
  have X : FX g p m c s _ meth cX3_init 1 RX3 none "<init>" := X
  refine lv_aload_n X.1 X.2.1 dX3_init_0 rfl (lv_at hl 0 rfl) ?_
  obtain ⟨s1, hc, h⟩ := b1_inv h
  refine r_cv (va_runIN (As := []) (rest := []) (cfX X) (c_X2_init_3 l hc) ⟨va_cnB 0 X.2.2.2.2.1 (lw_meth q101) rfl rfl rfl (X.2.2.2.2.2.1.2.2.2.1 _ (List.mem_of_getElem? (i := 1) rfl)) (X.2.2.2.2.1 _ q51) yd_X2_init ⟨Nat.le_of_ble_eq_true rfl, Nat.le_of_ble_eq_true rfl⟩, rfl, X.2.2.2.2.1 _ q100⟩ (preS X hV) rfl rfl hl.1 rfl (lv_room (Nat.le_of_ble_eq_true rfl)) dX3_init_1 ⟨(Nat.le_of_ble_eq_true rfl), (Nat.le_of_ble_eq_true rfl)⟩) hF (fun H locs hV hF => ?_)
  refine lv_aload_n X.1 X.2.1 dX3_init_4 rfl (lv_at hl 0 rfl) ?_
  refine r_new X hV nw_X3_9 (Nat.le_of_ble_eq_true rfl) (Nat.le_of_ble_eq_true rfl) dX3_init_5 (fun H hV => ?_)
  refine lv_dup X.1 X.2.1 dX3_init_8 rfl ?_
  obtain ⟨s2, hc, h⟩ := b1_inv h
  refine r_cv (va_runIN (As := []) (rest := [.ref (hZ s1), .ref x0]) (cfX X) (c_X4_init l hc) ⟨va_cnB 0 X.2.2.2.2.1 (lw_meth q107) rfl rfl rfl (X.2.2.2.2.2.1.2.2.2.1 _ (List.mem_of_getElem? (i := 2) rfl)) (X.2.2.2.2.1 _ q53) yd_X4_init ⟨Nat.le_of_ble_eq_true rfl, Nat.le_of_ble_eq_true rfl⟩, rfl, X.2.2.2.2.1 _ q106⟩ (preS X hV) rfl rfl hl.1 rfl (lv_room (Nat.le_of_ble_eq_true rfl)) dX3_init_9 ⟨(Nat.le_of_ble_eq_true rfl), (Nat.le_of_ble_eq_true rfl)⟩) hF (fun H locs hV hF => ?_)
  refine r_pR X hV hF fp_X3_12_3 (fun _ => rfl) (by decide) (ty := (.object "PalaceOfRooms$Ghost")) (by decide +kernel) dX3_init_12 rfl rfl h (fun s3 H locs hV hF h => ?_)
  refine lv_aload_n X.1 X.2.1 dX3_init_15 rfl (lv_at hl 0 rfl) ?_
  refine lv_iconst (v := (-1)) X.1 X.2.1 dX3_init_16 (by decide) ?_
  refine r_pI X hV hF fp_X3_18_3 (fun q => by cases q) dX3_init_17 h (fun s4 H locs hV hF h => ?_)
  exact r_vret X hV hF h dX3_init_20
/-! PalaceOfRooms$House.<init> -/
theorem dX1_init_0 : decode cX1_init 0 = .ok (.aload_n 0, 1) := by decide +kernel
theorem dX1_init_1 : decode cX1_init 1 = .ok (.aload_n 1, 1) := by decide +kernel
theorem dX1_init_2 : decode cX1_init 2 = .ok (.putfield 3, 3) := by decide +kernel
theorem dX1_init_5 : decode cX1_init 5 = .ok (.aload_n 0, 1) := by decide +kernel
theorem dX1_init_6 : decode cX1_init 6 = .ok (.invokespecial 9, 3) := by decide +kernel
theorem dX1_init_9 : decode cX1_init 9 = .ok (.aload_n 0, 1) := by decide +kernel
theorem dX1_init_10 : decode cX1_init 10 = .ok (.bipush 48, 2) := by decide +kernel
theorem dX1_init_12 : decode cX1_init 12 = .ok (.anewarray 15, 3) := by decide +kernel
theorem dX1_init_15 : decode cX1_init 15 = .ok (.putfield 17, 3) := by decide +kernel
theorem dX1_init_18 : decode cX1_init 18 = .ok (.iconst 0, 1) := by decide +kernel
theorem dX1_init_19 : decode cX1_init 19 = .ok (.istore_n 2, 1) := by decide +kernel
theorem dX1_init_20 : decode cX1_init 20 = .ok (.iload_n 2, 1) := by decide +kernel
theorem dX1_init_21 : decode cX1_init 21 = .ok (.bipush 48, 2) := by decide +kernel
theorem dX1_init_23 : decode cX1_init 23 = .ok (.if_icmp .ge 22, 3) := by decide +kernel
theorem dX1_init_26 : decode cX1_init 26 = .ok (.aload_n 0, 1) := by decide +kernel
theorem dX1_init_27 : decode cX1_init 27 = .ok (.getfield 17, 3) := by decide +kernel
theorem dX1_init_30 : decode cX1_init 30 = .ok (.iload_n 2, 1) := by decide +kernel
theorem dX1_init_31 : decode cX1_init 31 = .ok (.new 15, 3) := by decide +kernel
theorem dX1_init_34 : decode cX1_init 34 = .ok (.dup, 1) := by decide +kernel
theorem dX1_init_35 : decode cX1_init 35 = .ok (.invokespecial 21, 3) := by decide +kernel
theorem dX1_init_38 : decode cX1_init 38 = .ok (.aastore, 1) := by decide +kernel
theorem dX1_init_39 : decode cX1_init 39 = .ok (.iinc 2 1, 3) := by decide +kernel
theorem dX1_init_42 : decode cX1_init 42 = .ok (.goto (-22), 3) := by decide +kernel
theorem dX1_init_45 : decode cX1_init 45 = .ok (.return_, 1) := by decide +kernel
theorem yd_X1_init : yX1_init.cls ≠ "java/lang/invoke/MethodHandle" ∧ yX1_init.cls ≠ "java/lang/invoke/VarHandle" ∧ (parseMethodDescriptor yX1_init.desc).map (fun d => d.parameters.length) = some 1 := by decide +kernel
theorem fl_X1_17_1 : FLk RX1 17 1 0 "[LPalaceOfRooms$Corner;" := ⟨RX1, TX1, 2, "PalaceOfRooms$House", rfl, by decide, (fun q => by have h1 := q.1; have h2 := q.2; omega), rfl, in_X1, Or.inl q144, Or.inl rfl⟩
theorem nw_X1_15 : NWk RX1 15 3 4 := ⟨RX3, TX3, 4, tyX3, rfl, in_X3, tyX3_ok, by decide +kernel, q93, q95, q52⟩
theorem fp_X1_3_1 : FPk RX1 3 1 1 "LPalaceOfRooms;" true := ⟨RX1, TX1, 2, "PalaceOfRooms$House", tyX1, rfl, by decide, (fun q => by have h1 := q.1; have h2 := q.2; omega), rfl, in_X1, tyX1_ok, (fun a ha b hb h => Or.inl (nmX1 a ha b hb h)), rfl, fun _ => rfl, (Or.inl q146), Or.inl rfl⟩
theorem fp_X1_17_1 : FPk RX1 17 1 0 "[LPalaceOfRooms$Corner;" true := ⟨RX1, TX1, 2, "PalaceOfRooms$House", tyX1, rfl, by decide, (fun q => by have h1 := q.1; have h2 := q.2; omega), rfl, in_X1, tyX1_ok, (fun a ha b hb h => Or.inl (nmX1 a ha b hb h)), rfl, fun _ => rfl, (Or.inl q144), Or.inl rfl⟩
abbrev rm_X1_init : Room := { frames := 4, cells := 99, slots := 342, locals := 80 }
set_option maxHeartbeats 4000000 in
theorem w_X1_init_20_b {p : Program} {l : Launch} {e : Env} {s : State} {m : MethodId} {args : Array Value} {below : List Frame} {meth : Method} {c : Code} {g : Gl} {k : Nat} (hk : k < 49) (X : FX g p m c s args meth cX1_init 3 RX1 none "<init>") {r : Hp} {rec20 : Hp × Int32 → Option (Hp)} {x0 : Nat} {σ : Hp} {x2 : Int32} (hr20 : ∀ (st : Hp × Int32), rec20 st = some r → ∀ (H : Heap) (locs : List Loc) (ls : Array Slot), HV g st.1 H → FR g locs → lv_has ls 3 [(0, .ref x0), (2, .int st.2)] → W p l e rm_X1_init s m args below meth c H locs (1 + 2 * (k + 1)) (48 + 6 * (k + 1)) (MQ below (Qv g r) args s 99 342 (frN g)) (F0 m 20 ls [])) {H : Heap} {locs : List Loc} {ls : Array Slot} (h : B_X1_init_20 x0 rec20 σ x2 = some r) (hV : HV g σ H) (hF : FR g locs) (hl : lv_has ls 3 [(0, .ref x0), (2, .int x2)]) : W p l e rm_X1_init s m args below meth c H locs (1 + 2 * k) (48 + 6 * k) (MQ below (Qv g r) args s 99 342 (frN g)) (F0 m 20 ls []) := by
  unfold B_X1_init_20 at h
  refine lv_iload_n X.1 X.2.1 dX1_init_20 rfl (lv_at hl 1 rfl) ?_
  refine lv_bipush (v := 48) X.1 X.2.1 dX1_init_21 (by decide) ?_
  refine r_ge (tgt := 45) X.1 X.2.1 dX1_init_23 (by decide) h (fun h => ?_) (fun h => ?_)
  · refine W.widen (k := 99) (n := 342) (by omega) (by omega) ?_
    exact r_vret X hV hF h dX1_init_45
  · refine lv_aload_n X.1 X.2.1 dX1_init_26 rfl (lv_at hl 0 rfl) ?_
    refine r_gR X hV fl_X1_17_1 (by decide) dX1_init_27 h (fun v1 h => ?_)
    refine lv_iload_n X.1 X.2.1 dX1_init_30 rfl (lv_at hl 1 rfl) ?_
    refine r_new X hV nw_X1_15 (by simp only [rm_X1_init]; omega) (by simp only [rm_X1_init]; omega) dX1_init_31 (fun H hV => ?_)
    refine lv_dup X.1 X.2.1 dX1_init_34 rfl ?_
    obtain ⟨s1, hc, h⟩ := b1_inv h
    refine r_cv (va_runIN (As := []) (rest := [.ref (hZ σ), .int x2, .ref v1]) (cfX X) (c_X3_init l hc) ⟨va_cnB 0 X.2.2.2.2.1 (lw_meth q98) rfl rfl rfl (X.2.2.2.2.2.1.2.2.2.1 _ (List.mem_of_getElem? (i := 0) rfl)) (X.2.2.2.2.1 _ q52) yd_X3_init ⟨Nat.le_of_ble_eq_true rfl, Nat.le_of_ble_eq_true rfl⟩, rfl, X.2.2.2.2.1 _ q97⟩ (preS X hV) rfl rfl hl.1 rfl (lv_room (Nat.le_of_ble_eq_true rfl)) dX1_init_35 ⟨(by simp only [rm_X1_init]; omega), (by simp only [rm_X1_init]; omega)⟩) hF (fun H locs hV hF => ?_)
    obtain ⟨hg, h⟩ := gd_inv h
    refine r_ast (ci := 3) X hV hF (by decide) (by decide) rfl rfl (Or.inl rfl) hg dX1_init_38 h (fun s2 H locs hV hF h => ?_)
    refine lv_iinc (v := x2 + 1) (lv' := [(2, .int (x2 + 1)), (0, .ref x0)]) X.1 X.2.1 dX1_init_39 hl (k := 1) rfl rfl (by decide) rfl (fun ls hl => ?_)
    refine lv_goto (tgt := 20) X.1 X.2.1 dX1_init_42 (by decide) ?_
    refine W.widen (k := 1 + 2 * (k + 1)) (n := 48 + 6 * (k + 1)) (by omega) (by omega) ?_
    exact hr20 (s2, x2 + 1) h _ _ _ hV hF (lv_sub hl [1, 0] rfl)
set_option maxHeartbeats 4000000 in
theorem w_X1_init_20 {p : Program} {l : Launch} {e : Env} {s : State} {m : MethodId} {args : Array Value} {below : List Frame} {meth : Method} {c : Code} {g : Gl} (X : FX g p m c s args meth cX1_init 3 RX1 none "<init>") {r : Hp} {x0 : Nat}  : ∀ (n : Nat) (st : Hp × Int32), L_X1_init_20 x0 n st = some r → n ≤ 49 → ∀ (H : Heap) (locs : List Loc) (ls : Array Slot), HV g st.1 H → FR g locs → lv_has ls 3 [(0, .ref x0), (2, .int st.2)] → W p l e rm_X1_init s m args below meth c H locs (1 + 2 * (49 - n)) (48 + 6 * (49 - n)) (MQ below (Qv g r) args s 99 342 (frN g)) (F0 m 20 ls []) := by
  intro n
  induction n with
  | zero =>
    intro st h
    rw [L_X1_init_20_0] at h
    cases h
  | succ n ih =>
    intro st h hn H locs ls hV hF hl
    rw [L_X1_init_20_s] at h
    have e1 : 49 - (n + 1) + 1 = 49 - n := by omega
    refine w_X1_init_20_b (k := 49 - (n + 1)) (by omega) X ?_ h hV hF hl
    rw [e1]
    exact fun st h => ih st h (by omega)
set_option maxHeartbeats 4000000 in
theorem c_X1_init (l : Launch) {g : Gl} {σ : Hp} {x0 : Nat} {x1 : Nat} {r : Hp} (h : F_X1_init σ x0 x1 = some r) : Met l yX1_init (ws_ yX1_init cX1_init 3 none) rm_X1_init (va_Pc [.ref x0, .ref x1] (WV g σ)) (Qv g r) 99 342 (frN g) := by
  refine ct_of (by decide) (Nat.le_of_ble_eq_true rfl) ?_
  intro p e s m below meth c ls X hV hl
  have hF : FR g [] := FR_nil
  unfold F_X1_init at h
  have hl : lv_has ls 3 [(0, .ref x0), (1, .ref x1)] := hl
  have X : FX g p m c s _ meth cX1_init 3 RX1 none "<init>" := X
  refine lv_aload_n X.1 X.2.1 dX1_init_0 rfl (lv_at hl 0 rfl) ?_
  refine lv_aload_n X.1 X.2.1 dX1_init_1 rfl (lv_at hl 1 rfl) ?_
  refine r_pR X hV hF fp_X1_3_1 (fun _ => rfl) (by decide) (ty := (.object "PalaceOfRooms")) (by decide +kernel) dX1_init_2 rfl rfl h (fun s1 H locs hV hF h => ?_)
  refine lv_aload_n X.1 X.2.1 dX1_init_5 rfl (lv_at hl 0 rfl) ?_
  refine W.objInit X.1 X.2.1 X.2.2.2.1 (X.2.2.2.2.1 _ q92) (X.2.2.2.2.1 _ q83) (X.2.2.2.2.1 _ q84) rfl (by rw [X.2.2.1]; exact hl.1) rfl dX1_init_6 (Nat.le_of_ble_eq_true rfl) (Nat.le_of_ble_eq_true rfl) ?_
  refine W.eq (g2 := F0 m 9 ls []) rfl ?_
  refine lv_aload_n X.1 X.2.1 dX1_init_9 rfl (lv_at hl 0 rfl) ?_
  refine lv_bipush (v := 48) X.1 X.2.1 dX1_init_10 (by decide) ?_
  refine r_anew (t := 3) (N := 48) (C := "PalaceOfRooms$Corner") X hV (by decide) (by decide) rfl (List.mem_of_getElem? (i := 0) rfl) q93 (by decide) (by decide) (by decide) (Nat.le_of_ble_eq_true rfl) (Nat.le_of_ble_eq_true rfl) dX1_init_12 (fun H hV => ?_)
  refine r_pR X hV hF fp_X1_17_1 (fun _ => rfl) (by decide) (ty := (.array (.object "PalaceOfRooms$Corner"))) (by decide +kernel) dX1_init_15 rfl rfl h (fun s2 H locs hV hF h => ?_)
  refine lv_iconst (v := 0) X.1 X.2.1 dX1_init_18 (by decide) ?_
  refine lv_istore_n (lv' := [(2, .int 0), (0, .ref x0), (1, .ref x1)]) X.1 X.2.1 dX1_init_19 rfl hl (by decide) rfl (fun ls hl => ?_)
  exact w_X1_init_20 X  49 (s2, 0) h (Nat.le_refl _) _ _ _ hV hF (lv_sub hl [1, 0] rfl)
/-! PalaceOfRooms$Reader.<init> -/
theorem dX5_init_0 : decode cX5_init 0 = .ok (.aload_n 0, 1) := by decide +kernel
theorem dX5_init_1 : decode cX5_init 1 = .ok (.aload_n 1, 1) := by decide +kernel
theorem dX5_init_2 : decode cX5_init 2 = .ok (.putfield 3, 3) := by decide +kernel
theorem dX5_init_5 : decode cX5_init 5 = .ok (.aload_n 0, 1) := by decide +kernel
theorem dX5_init_6 : decode cX5_init 6 = .ok (.invokespecial 9, 3) := by decide +kernel
theorem dX5_init_9 : decode cX5_init 9 = .ok (.return_, 1) := by decide +kernel
theorem yd_X5_init : yX5_init.cls ≠ "java/lang/invoke/MethodHandle" ∧ yX5_init.cls ≠ "java/lang/invoke/VarHandle" ∧ (parseMethodDescriptor yX5_init.desc).map (fun d => d.parameters.length) = some 1 := by decide +kernel
theorem fp_X5_3_5 : FPk RX5 3 5 5 "LPalaceOfRooms;" true := ⟨RX5, TX5, 6, "PalaceOfRooms$Reader", tyX5, rfl, by decide, (fun q => by have h1 := q.1; have h2 := q.2; omega), rfl, in_X5, tyX5_ok, (fun a ha b hb h => Or.inl (nmX5 a ha b hb h)), rfl, fun _ => rfl, (Or.inl q167), Or.inl rfl⟩
abbrev rm_X5_init : Room := { frames := 1, cells := 0, slots := 0, locals := 20 }
set_option maxHeartbeats 4000000 in
theorem c_X5_init (l : Launch) {g : Gl} {σ : Hp} {x0 : Nat} {x1 : Nat} {r : Hp} (h : F_X5_init σ x0 x1 = some r) : Met l yX5_init (ws_ yX5_init cX5_init 2 none) rm_X5_init (va_Pc [.ref x0, .ref x1] (WV g σ)) (Qv g r) 0 0 (frN g) := by
  refine ct_of (by decide) (Nat.le_of_ble_eq_true rfl) ?_
  intro p e s m below meth c ls X hV hl
  have hF : FR g [] := FR_nil
  unfold F_X5_init at h
  have hl : lv_has ls 2 [(0, .ref x0), (1, .ref x1)] := hl
  have X : FX g p m c s _ meth cX5_init 2 RX5 none "<init>" := X
  refine lv_aload_n X.1 X.2.1 dX5_init_0 rfl (lv_at hl 0 rfl) ?_
  refine lv_aload_n X.1 X.2.1 dX5_init_1 rfl (lv_at hl 1 rfl) ?_
  refine r_pR X hV hF fp_X5_3_5 (fun _ => rfl) (by decide) (ty := (.object "PalaceOfRooms")) (by decide +kernel) dX5_init_2 rfl rfl h (fun s1 H locs hV hF h => ?_)
  refine lv_aload_n X.1 X.2.1 dX5_init_5 rfl (lv_at hl 0 rfl) ?_
  refine W.objInit X.1 X.2.1 X.2.2.2.1 (X.2.2.2.2.1 _ q159) (X.2.2.2.2.1 _ q83) (X.2.2.2.2.1 _ q84) rfl (by rw [X.2.2.1]; exact hl.1) rfl dX5_init_6 (Nat.le_of_ble_eq_true rfl) (Nat.le_of_ble_eq_true rfl) ?_
  refine W.eq (g2 := F0 m 9 ls []) rfl ?_
  exact r_vret X hV hF h dX5_init_9
/-! PalaceOfRooms$Orders.<init> for classes {0: 7} -/
theorem dX6_init_0 : decode cX6_init 0 = .ok (.aload_n 0, 1) := by decide +kernel
theorem dX6_init_1 : decode cX6_init 1 = .ok (.aload_n 1, 1) := by decide +kernel
theorem dX6_init_2 : decode cX6_init 2 = .ok (.putfield 3, 3) := by decide +kernel
theorem dX6_init_5 : decode cX6_init 5 = .ok (.aload_n 0, 1) := by decide +kernel
theorem dX6_init_6 : decode cX6_init 6 = .ok (.invokespecial 9, 3) := by decide +kernel
theorem dX6_init_9 : decode cX6_init 9 = .ok (.aload_n 0, 1) := by decide +kernel
theorem dX6_init_10 : decode cX6_init 10 = .ok (.bipush 8, 2) := by decide +kernel
theorem dX6_init_12 : decode cX6_init 12 = .ok (.newarray .int, 2) := by decide +kernel
theorem dX6_init_14 : decode cX6_init 14 = .ok (.putfield 15, 3) := by decide +kernel
theorem dX6_init_17 : decode cX6_init 17 = .ok (.aload_n 0, 1) := by decide +kernel
theorem dX6_init_18 : decode cX6_init 18 = .ok (.bipush 8, 2) := by decide +kernel
theorem dX6_init_20 : decode cX6_init 20 = .ok (.newarray .int, 2) := by decide +kernel
theorem dX6_init_22 : decode cX6_init 22 = .ok (.putfield 19, 3) := by decide +kernel
theorem dX6_init_25 : decode cX6_init 25 = .ok (.return_, 1) := by decide +kernel
theorem yd_X6_init : yX6_init.cls ≠ "java/lang/invoke/MethodHandle" ∧ yX6_init.cls ≠ "java/lang/invoke/VarHandle" ∧ (parseMethodDescriptor yX6_init.desc).map (fun d => d.parameters.length) = some 1 := by decide +kernel
theorem fp_X6_3_7 : FPk RX6 3 7 4 "LPalaceOfRooms;" true := ⟨RX7, TX7, 6, "PalaceOfRooms$Orders", tyX7, rfl, by decide, (fun q => by have h1 := q.1; have h2 := q.2; omega), rfl, in_X7, tyX7_ok, (by decide +kernel), rfl, fun _ => rfl, (Or.inl q200), Or.inl rfl⟩
theorem fp_X6_15_7 : FPk RX6 15 7 0 "[I" true := ⟨RX7, TX7, 6, "PalaceOfRooms$Orders", tyX7, rfl, by decide, (fun q => by have h1 := q.1; have h2 := q.2; omega), rfl, in_X7, tyX7_ok, (by decide +kernel), rfl, fun _ => rfl, (Or.inl q194), Or.inl rfl⟩
theorem fp_X6_19_7 : FPk RX6 19 7 1 "[I" true := ⟨RX7, TX7, 6, "PalaceOfRooms$Orders", tyX7, rfl, by decide, (fun q => by have h1 := q.1; have h2 := q.2; omega), rfl, in_X7, tyX7_ok, (by decide +kernel), rfl, fun _ => rfl, (Or.inl q195), Or.inl rfl⟩
abbrev rm_X6_init_7 : Room := { frames := 1, cells := 2, slots := 16, locals := 20 }
set_option maxHeartbeats 4000000 in
theorem c_X6_init_7 (l : Launch) {g : Gl} {σ : Hp} {x0 : Nat} {x1 : Nat} {r : Hp} (h : F_X6_init_7 σ x0 x1 = some r) : Met l yX6_init (ws_ yX6_init cX6_init 2 none) rm_X6_init_7 (va_Pc [.ref x0, .ref x1] (WV g σ)) (Qv g r) 2 16 (frN g) := by
  refine ct_of (by decide) (Nat.le_of_ble_eq_true rfl) ?_
  intro p e s m below meth c ls X hV hl
  have hF : FR g [] := FR_nil
  unfold F_X6_init_7 at h
  have hl : lv_has ls 2 [(0, .ref x0), (1, .ref x1)] := hl
  have X : FX g p m c s _ meth cX6_init 2 RX6 none "<init>" := X
  refine lv_aload_n X.1 X.2.1 dX6_init_0 rfl (lv_at hl 0 rfl) ?_
  refine lv_aload_n X.1 X.2.1 dX6_init_1 rfl (lv_at hl 1 rfl) ?_
  refine r_pR X hV hF fp_X6_3_7 (fun _ => rfl) (by decide) (ty := (.object "PalaceOfRooms")) (by decide +kernel) dX6_init_2 rfl rfl h (fun s1 H locs hV hF h => ?_)
  refine lv_aload_n X.1 X.2.1 dX6_init_5 rfl (lv_at hl 0 rfl) ?_
  refine W.objInit X.1 X.2.1 X.2.2.2.1 (X.2.2.2.2.1 _ q192) (X.2.2.2.2.1 _ q83) (X.2.2.2.2.1 _ q84) rfl (by rw [X.2.2.1]; exact hl.1) rfl dX6_init_6 (Nat.le_of_ble_eq_true rfl) (Nat.le_of_ble_eq_true rfl) ?_
  refine W.eq (g2 := F0 m 9 ls []) rfl ?_
  refine lv_aload_n X.1 X.2.1 dX6_init_9 rfl (lv_at hl 0 rfl) ?_
  refine lv_bipush (v := 8) X.1 X.2.1 dX6_init_10 (by decide) ?_
  refine r_newa (t := 0) (N := 8) X hV (by decide) rfl rfl q131 (by decide) (by decide) (by decide) (Nat.le_of_ble_eq_true rfl) (Nat.le_of_ble_eq_true rfl) dX6_init_12 (fun H hV => ?_)
  refine r_pR X hV hF fp_X6_15_7 (fun _ => rfl) (by decide) (ty := (.array .int)) (by decide +kernel) dX6_init_14 rfl rfl h (fun s2 H locs hV hF h => ?_)
  refine lv_aload_n X.1 X.2.1 dX6_init_17 rfl (lv_at hl 0 rfl) ?_
  refine lv_bipush (v := 8) X.1 X.2.1 dX6_init_18 (by decide) ?_
  refine r_newa (t := 0) (N := 8) X hV (by decide) rfl rfl q131 (by decide) (by decide) (by decide) (Nat.le_of_ble_eq_true rfl) (Nat.le_of_ble_eq_true rfl) dX6_init_20 (fun H hV => ?_)
  refine r_pR X hV hF fp_X6_19_7 (fun _ => rfl) (by decide) (ty := (.array .int)) (by decide +kernel) dX6_init_22 rfl rfl h (fun s3 H locs hV hF h => ?_)
  exact r_vret X hV hF h dX6_init_25
/-! PalaceOfRooms$Laid.<init> -/
theorem dX7_init_0 : decode cX7_init 0 = .ok (.aload_n 0, 1) := by decide +kernel
theorem dX7_init_1 : decode cX7_init 1 = .ok (.aload_n 1, 1) := by decide +kernel
theorem dX7_init_2 : decode cX7_init 2 = .ok (.putfield 1, 3) := by decide +kernel
theorem dX7_init_5 : decode cX7_init 5 = .ok (.aload_n 0, 1) := by decide +kernel
theorem dX7_init_6 : decode cX7_init 6 = .ok (.aload_n 1, 1) := by decide +kernel
theorem dX7_init_7 : decode cX7_init 7 = .ok (.invokespecial 7, 3) := by decide +kernel
theorem dX7_init_10 : decode cX7_init 10 = .ok (.return_, 1) := by decide +kernel
theorem yd_X7_init : yX7_init.cls ≠ "java/lang/invoke/MethodHandle" ∧ yX7_init.cls ≠ "java/lang/invoke/VarHandle" ∧ (parseMethodDescriptor yX7_init.desc).map (fun d => d.parameters.length) = some 1 := by decide +kernel
theorem fp_X7_1_7 : FPk RX7 1 7 5 "LPalaceOfRooms;" true := ⟨RX7, TX7, 6, "PalaceOfRooms$Laid", tyX7, rfl, by decide, (fun q => by have h1 := q.1; have h2 := q.2; omega), rfl, in_X7, tyX7_ok, (by decide +kernel), rfl, fun _ => rfl, (Or.inl q193), Or.inl rfl⟩
abbrev rm_X7_init : Room := { frames := 2, cells := 2, slots := 16, locals := 41 }
set_option maxHeartbeats 4000000 in
theorem c_X7_init (l : Launch) {g : Gl} {σ : Hp} {x0 : Nat} {x1 : Nat} {r : Hp} (h : F_X7_init σ x0 x1 = some r) : Met l yX7_init (ws_ yX7_init cX7_init 2 none) rm_X7_init (va_Pc [.ref x0, .ref x1] (WV g σ)) (Qv g r) 2 16 (frN g) := by
  refine ct_of (by decide) (Nat.le_of_ble_eq_true rfl) ?_
  intro p e s m below meth c ls X hV hl
  have hF : FR g [] := FR_nil
  unfold F_X7_init at h
  have hl : lv_has ls 2 [(0, .ref x0), (1, .ref x1)] := hl
  have X : FX g p m c s _ meth cX7_init 2 RX7 none "<init>" := X
  refine lv_aload_n X.1 X.2.1 dX7_init_0 rfl (lv_at hl 0 rfl) ?_
  refine lv_aload_n X.1 X.2.1 dX7_init_1 rfl (lv_at hl 1 rfl) ?_
  refine r_pR X hV hF fp_X7_1_7 (fun _ => rfl) (by decide) (ty := (.object "PalaceOfRooms")) (by decide +kernel) dX7_init_2 rfl rfl h (fun s1 H locs hV hF h => ?_)
  refine lv_aload_n X.1 X.2.1 dX7_init_5 rfl (lv_at hl 0 rfl) ?_
  refine lv_aload_n X.1 X.2.1 dX7_init_6 rfl (lv_at hl 1 rfl) ?_
  obtain ⟨s2, hc, h⟩ := b1_inv h
  refine r_cv (va_runIN (As := [.ref x1]) (rest := []) (cfX X) (c_X6_init_7 l hc) ⟨va_cnB 1 X.2.2.2.2.1 (lw_meth q191) rfl rfl rfl (X.2.2.2.2.2.1.2.2.2.1 _ (List.mem_of_getElem? (i := 6) rfl)) (X.2.2.2.2.1 _ q55) yd_X6_init ⟨Nat.le_of_ble_eq_true rfl, Nat.le_of_ble_eq_true rfl⟩, rfl, X.2.2.2.2.1 _ q190⟩ (preS X hV) rfl rfl hl.1 rfl (lv_room (Nat.le_of_ble_eq_true rfl)) dX7_init_7 ⟨(Nat.le_of_ble_eq_true rfl), (Nat.le_of_ble_eq_true rfl)⟩) hF (fun H locs hV hF => ?_)
  exact r_vret X hV hF h dX7_init_10
/-! PalaceOfRooms$Orders.<init> for classes {0: 8} -/
theorem fp_X6_3_8 : FPk RX6 3 8 4 "LPalaceOfRooms;" true := ⟨RX8, TX8, 6, "PalaceOfRooms$Orders", tyX8, rfl, by decide, (fun q => by have h1 := q.1; have h2 := q.2; omega), rfl, in_X8, tyX8_ok, (by decide +kernel), rfl, fun _ => rfl, (Or.inl q200), Or.inl rfl⟩
theorem fp_X6_15_8 : FPk RX6 15 8 0 "[I" true := ⟨RX8, TX8, 6, "PalaceOfRooms$Orders", tyX8, rfl, by decide, (fun q => by have h1 := q.1; have h2 := q.2; omega), rfl, in_X8, tyX8_ok, (by decide +kernel), rfl, fun _ => rfl, (Or.inl q194), Or.inl rfl⟩
theorem fp_X6_19_8 : FPk RX6 19 8 1 "[I" true := ⟨RX8, TX8, 6, "PalaceOfRooms$Orders", tyX8, rfl, by decide, (fun q => by have h1 := q.1; have h2 := q.2; omega), rfl, in_X8, tyX8_ok, (by decide +kernel), rfl, fun _ => rfl, (Or.inl q195), Or.inl rfl⟩
abbrev rm_X6_init_8 : Room := { frames := 1, cells := 2, slots := 16, locals := 20 }
set_option maxHeartbeats 4000000 in
theorem c_X6_init_8 (l : Launch) {g : Gl} {σ : Hp} {x0 : Nat} {x1 : Nat} {r : Hp} (h : F_X6_init_8 σ x0 x1 = some r) : Met l yX6_init (ws_ yX6_init cX6_init 2 none) rm_X6_init_8 (va_Pc [.ref x0, .ref x1] (WV g σ)) (Qv g r) 2 16 (frN g) := by
  refine ct_of (by decide) (Nat.le_of_ble_eq_true rfl) ?_
  intro p e s m below meth c ls X hV hl
  have hF : FR g [] := FR_nil
  unfold F_X6_init_8 at h
  have hl : lv_has ls 2 [(0, .ref x0), (1, .ref x1)] := hl
  have X : FX g p m c s _ meth cX6_init 2 RX6 none "<init>" := X
  refine lv_aload_n X.1 X.2.1 dX6_init_0 rfl (lv_at hl 0 rfl) ?_
  refine lv_aload_n X.1 X.2.1 dX6_init_1 rfl (lv_at hl 1 rfl) ?_
  refine r_pR X hV hF fp_X6_3_8 (fun _ => rfl) (by decide) (ty := (.object "PalaceOfRooms")) (by decide +kernel) dX6_init_2 rfl rfl h (fun s1 H locs hV hF h => ?_)
  refine lv_aload_n X.1 X.2.1 dX6_init_5 rfl (lv_at hl 0 rfl) ?_
  refine W.objInit X.1 X.2.1 X.2.2.2.1 (X.2.2.2.2.1 _ q192) (X.2.2.2.2.1 _ q83) (X.2.2.2.2.1 _ q84) rfl (by rw [X.2.2.1]; exact hl.1) rfl dX6_init_6 (Nat.le_of_ble_eq_true rfl) (Nat.le_of_ble_eq_true rfl) ?_
  refine W.eq (g2 := F0 m 9 ls []) rfl ?_
  refine lv_aload_n X.1 X.2.1 dX6_init_9 rfl (lv_at hl 0 rfl) ?_
  refine lv_bipush (v := 8) X.1 X.2.1 dX6_init_10 (by decide) ?_
  refine r_newa (t := 0) (N := 8) X hV (by decide) rfl rfl q131 (by decide) (by decide) (by decide) (Nat.le_of_ble_eq_true rfl) (Nat.le_of_ble_eq_true rfl) dX6_init_12 (fun H hV => ?_)
  refine r_pR X hV hF fp_X6_15_8 (fun _ => rfl) (by decide) (ty := (.array .int)) (by decide +kernel) dX6_init_14 rfl rfl h (fun s2 H locs hV hF h => ?_)
  refine lv_aload_n X.1 X.2.1 dX6_init_17 rfl (lv_at hl 0 rfl) ?_
  refine lv_bipush (v := 8) X.1 X.2.1 dX6_init_18 (by decide) ?_
  refine r_newa (t := 0) (N := 8) X hV (by decide) rfl rfl q131 (by decide) (by decide) (by decide) (Nat.le_of_ble_eq_true rfl) (Nat.le_of_ble_eq_true rfl) dX6_init_20 (fun H hV => ?_)
  refine r_pR X hV hF fp_X6_19_8 (fun _ => rfl) (by decide) (ty := (.array .int)) (by decide +kernel) dX6_init_22 rfl rfl h (fun s3 H locs hV hF h => ?_)
  exact r_vret X hV hF h dX6_init_25
/-! PalaceOfRooms$Code.<init> -/
theorem dX8_init_0 : decode cX8_init 0 = .ok (.aload_n 0, 1) := by decide +kernel
theorem dX8_init_1 : decode cX8_init 1 = .ok (.aload_n 1, 1) := by decide +kernel
theorem dX8_init_2 : decode cX8_init 2 = .ok (.putfield 1, 3) := by decide +kernel
theorem dX8_init_5 : decode cX8_init 5 = .ok (.aload_n 0, 1) := by decide +kernel
theorem dX8_init_6 : decode cX8_init 6 = .ok (.aload_n 1, 1) := by decide +kernel
theorem dX8_init_7 : decode cX8_init 7 = .ok (.invokespecial 7, 3) := by decide +kernel
theorem dX8_init_10 : decode cX8_init 10 = .ok (.return_, 1) := by decide +kernel
theorem yd_X8_init : yX8_init.cls ≠ "java/lang/invoke/MethodHandle" ∧ yX8_init.cls ≠ "java/lang/invoke/VarHandle" ∧ (parseMethodDescriptor yX8_init.desc).map (fun d => d.parameters.length) = some 1 := by decide +kernel
theorem fp_X8_1_8 : FPk RX8 1 8 5 "LPalaceOfRooms;" true := ⟨RX8, TX8, 6, "PalaceOfRooms$Code", tyX8, rfl, by decide, (fun q => by have h1 := q.1; have h2 := q.2; omega), rfl, in_X8, tyX8_ok, (by decide +kernel), rfl, fun _ => rfl, (Or.inl q220), Or.inl rfl⟩
abbrev rm_X8_init : Room := { frames := 2, cells := 2, slots := 16, locals := 41 }
set_option maxHeartbeats 4000000 in
theorem c_X8_init (l : Launch) {g : Gl} {σ : Hp} {x0 : Nat} {x1 : Nat} {r : Hp} (h : F_X8_init σ x0 x1 = some r) : Met l yX8_init (ws_ yX8_init cX8_init 2 none) rm_X8_init (va_Pc [.ref x0, .ref x1] (WV g σ)) (Qv g r) 2 16 (frN g) := by
  refine ct_of (by decide) (Nat.le_of_ble_eq_true rfl) ?_
  intro p e s m below meth c ls X hV hl
  have hF : FR g [] := FR_nil
  unfold F_X8_init at h
  have hl : lv_has ls 2 [(0, .ref x0), (1, .ref x1)] := hl
  have X : FX g p m c s _ meth cX8_init 2 RX8 none "<init>" := X
  refine lv_aload_n X.1 X.2.1 dX8_init_0 rfl (lv_at hl 0 rfl) ?_
  refine lv_aload_n X.1 X.2.1 dX8_init_1 rfl (lv_at hl 1 rfl) ?_
  refine r_pR X hV hF fp_X8_1_8 (fun _ => rfl) (by decide) (ty := (.object "PalaceOfRooms")) (by decide +kernel) dX8_init_2 rfl rfl h (fun s1 H locs hV hF h => ?_)
  refine lv_aload_n X.1 X.2.1 dX8_init_5 rfl (lv_at hl 0 rfl) ?_
  refine lv_aload_n X.1 X.2.1 dX8_init_6 rfl (lv_at hl 1 rfl) ?_
  obtain ⟨s2, hc, h⟩ := b1_inv h
  refine r_cv (va_runIN (As := [.ref x1]) (rest := []) (cfX X) (c_X6_init_8 l hc) ⟨va_cnB 1 X.2.2.2.2.1 (lw_meth q191) rfl rfl rfl (X.2.2.2.2.2.1.2.2.2.1 _ (List.mem_of_getElem? (i := 8) rfl)) (X.2.2.2.2.1 _ q55) yd_X6_init ⟨Nat.le_of_ble_eq_true rfl, Nat.le_of_ble_eq_true rfl⟩, rfl, X.2.2.2.2.1 _ q190⟩ (preS X hV) rfl rfl hl.1 rfl (lv_room (Nat.le_of_ble_eq_true rfl)) dX8_init_7 ⟨(Nat.le_of_ble_eq_true rfl), (Nat.le_of_ble_eq_true rfl)⟩) hF (fun H locs hV hF => ?_)
  exact r_vret X hV hF h dX8_init_10
/-! PalaceOfRooms$Pupil.<init> -/
theorem dX9_init_0 : decode cX9_init 0 = .ok (.aload_n 0, 1) := by decide +kernel
theorem dX9_init_1 : decode cX9_init 1 = .ok (.invokespecial 3, 3) := by decide +kernel
theorem dX9_init_4 : decode cX9_init 4 = .ok (.aload_n 0, 1) := by decide +kernel
theorem dX9_init_5 : decode cX9_init 5 = .ok (.bipush 12, 2) := by decide +kernel
theorem dX9_init_7 : decode cX9_init 7 = .ok (.newarray .int, 2) := by decide +kernel
theorem dX9_init_9 : decode cX9_init 9 = .ok (.putfield 9, 3) := by decide +kernel
theorem dX9_init_12 : decode cX9_init 12 = .ok (.aload_n 0, 1) := by decide +kernel
theorem dX9_init_13 : decode cX9_init 13 = .ok (.bipush 12, 2) := by decide +kernel
theorem dX9_init_15 : decode cX9_init 15 = .ok (.newarray .boolean, 2) := by decide +kernel
theorem dX9_init_17 : decode cX9_init 17 = .ok (.putfield 15, 3) := by decide +kernel
theorem dX9_init_20 : decode cX9_init 20 = .ok (.return_, 1) := by decide +kernel
theorem yd_X9_init : yX9_init.cls ≠ "java/lang/invoke/MethodHandle" ∧ yX9_init.cls ≠ "java/lang/invoke/VarHandle" ∧ (parseMethodDescriptor yX9_init.desc).map (fun d => d.parameters.length) = some 0 := by decide +kernel
theorem fp_X9_9_9 : FPk RX9 9 9 0 "[I" true := ⟨RX9, TX9, 3, "PalaceOfRooms$Pupil", tyX9, rfl, by decide, (fun q => by have h1 := q.1; have h2 := q.2; omega), rfl, in_X9, tyX9_ok, (fun a ha b hb h => Or.inl (nmX9 a ha b hb h)), rfl, fun _ => rfl, (Or.inl q236), Or.inl rfl⟩
theorem fp_X9_15_9 : FPk RX9 15 9 1 "[Z" true := ⟨RX9, TX9, 3, "PalaceOfRooms$Pupil", tyX9, rfl, by decide, (fun q => by have h1 := q.1; have h2 := q.2; omega), rfl, in_X9, tyX9_ok, (fun a ha b hb h => Or.inl (nmX9 a ha b hb h)), rfl, fun _ => rfl, (Or.inl q238), Or.inl rfl⟩
abbrev rm_X9_init : Room := { frames := 1, cells := 2, slots := 24, locals := 20 }
set_option maxHeartbeats 4000000 in
theorem c_X9_init (l : Launch) {g : Gl} {σ : Hp} {x0 : Nat} {r : Hp} (h : F_X9_init σ x0 = some r) : Met l yX9_init (ws_ yX9_init cX9_init 1 none) rm_X9_init (va_Pc [.ref x0] (WV g σ)) (Qv g r) 2 24 (frN g) := by
  refine ct_of (by decide) (Nat.le_of_ble_eq_true rfl) ?_
  intro p e s m below meth c ls X hV hl
  have hF : FR g [] := FR_nil
  unfold F_X9_init at h
  have hl : lv_has ls 1 [(0, .ref x0)] := hl
  have X : FX g p m c s _ meth cX9_init 1 RX9 none "<init>" := X
  refine lv_aload_n X.1 X.2.1 dX9_init_0 rfl (lv_at hl 0 rfl) ?_
  refine W.objInit X.1 X.2.1 X.2.2.2.1 (X.2.2.2.2.1 _ q235) (X.2.2.2.2.1 _ q83) (X.2.2.2.2.1 _ q84) rfl (by rw [X.2.2.1]; exact hl.1) rfl dX9_init_1 (Nat.le_of_ble_eq_true rfl) (Nat.le_of_ble_eq_true rfl) ?_
  refine W.eq (g2 := F0 m 4 ls []) rfl ?_
  refine lv_aload_n X.1 X.2.1 dX9_init_4 rfl (lv_at hl 0 rfl) ?_
  refine lv_bipush (v := 12) X.1 X.2.1 dX9_init_5 (by decide) ?_
  refine r_newa (t := 0) (N := 12) X hV (by decide) rfl rfl q131 (by decide) (by decide) (by decide) (Nat.le_of_ble_eq_true rfl) (Nat.le_of_ble_eq_true rfl) dX9_init_7 (fun H hV => ?_)
  refine r_pR X hV hF fp_X9_9_9 (fun _ => rfl) (by decide) (ty := (.array .int)) (by decide +kernel) dX9_init_9 rfl rfl h (fun s1 H locs hV hF h => ?_)
  refine lv_aload_n X.1 X.2.1 dX9_init_12 rfl (lv_at hl 0 rfl) ?_
  refine lv_bipush (v := 12) X.1 X.2.1 dX9_init_13 (by decide) ?_
  refine r_newa (t := 1) (N := 12) X hV (by decide) rfl rfl q130 (by decide) (by decide) (by decide) (Nat.le_of_ble_eq_true rfl) (Nat.le_of_ble_eq_true rfl) dX9_init_15 (fun H hV => ?_)
  refine r_pR X hV hF fp_X9_15_9 (fun _ => rfl) (by decide) (ty := (.array .boolean)) (by decide +kernel) dX9_init_17 rfl rfl h (fun s2 H locs hV hF h => ?_)
  exact r_vret X hV hF h dX9_init_20
