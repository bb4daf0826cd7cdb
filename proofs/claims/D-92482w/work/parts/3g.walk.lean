set_option maxRecDepth 100000
/-! PalaceOfRoomsModel.take -/
theorem dX10_take_0 : decode cX10_take 0 = .ok (.iconst 0, 1) := by decide +kernel
theorem dX10_take_1 : decode cX10_take 1 = .ok (.istore 4, 2) := by decide +kernel
theorem dX10_take_3 : decode cX10_take 3 = .ok (.iconst 0, 1) := by decide +kernel
theorem dX10_take_4 : decode cX10_take 4 = .ok (.istore 5, 2) := by decide +kernel
theorem dX10_take_6 : decode cX10_take 6 = .ok (.iconst 0, 1) := by decide +kernel
theorem dX10_take_7 : decode cX10_take 7 = .ok (.istore 6, 2) := by decide +kernel
theorem dX10_take_9 : decode cX10_take 9 = .ok (.iload 6, 2) := by decide +kernel
theorem dX10_take_11 : decode cX10_take 11 = .ok (.iload_n 3, 1) := by decide +kernel
theorem dX10_take_12 : decode cX10_take 12 = .ok (.if_icmp .ge 84, 3) := by decide +kernel
theorem dX10_take_15 : decode cX10_take 15 = .ok (.aload_n 0, 1) := by decide +kernel
theorem dX10_take_16 : decode cX10_take 16 = .ok (.getfield 71, 3) := by decide +kernel
theorem dX10_take_19 : decode cX10_take 19 = .ok (.iload 6, 2) := by decide +kernel
theorem dX10_take_21 : decode cX10_take 21 = .ok (.lload_n 1, 1) := by decide +kernel
theorem dX10_take_22 : decode cX10_take 22 = .ok (.iconst 5, 1) := by decide +kernel
theorem dX10_take_23 : decode cX10_take 23 = .ok (.iload 6, 2) := by decide +kernel
theorem dX10_take_25 : decode cX10_take 25 = .ok (.imul, 1) := by decide +kernel
theorem dX10_take_26 : decode cX10_take 26 = .ok (.lshr, 1) := by decide +kernel
theorem dX10_take_27 : decode cX10_take 27 = .ok (.ldc2_w 223, 3) := by decide +kernel
theorem dX10_take_30 : decode cX10_take 30 = .ok (.land, 1) := by decide +kernel
theorem dX10_take_31 : decode cX10_take 31 = .ok (.l2i, 1) := by decide +kernel
theorem dX10_take_32 : decode cX10_take 32 = .ok (.iastore, 1) := by decide +kernel
theorem dX10_take_33 : decode cX10_take 33 = .ok (.aload_n 0, 1) := by decide +kernel
theorem dX10_take_34 : decode cX10_take 34 = .ok (.getfield 71, 3) := by decide +kernel
theorem dX10_take_37 : decode cX10_take 37 = .ok (.iload 6, 2) := by decide +kernel
theorem dX10_take_39 : decode cX10_take 39 = .ok (.iaload, 1) := by decide +kernel
theorem dX10_take_40 : decode cX10_take 40 = .ok (.bipush 23, 2) := by decide +kernel
theorem dX10_take_42 : decode cX10_take 42 = .ok (.if_icmp .le 6, 3) := by decide +kernel
theorem dX10_take_45 : decode cX10_take 45 = .ok (.bipush (-2), 2) := by decide +kernel
theorem dX10_take_47 : decode cX10_take 47 = .ok (.ireturn, 1) := by decide +kernel
theorem dX10_take_48 : decode cX10_take 48 = .ok (.iload 5, 2) := by decide +kernel
theorem dX10_take_50 : decode cX10_take 50 = .ok (.ifCond .ne 19, 3) := by decide +kernel
theorem dX10_take_53 : decode cX10_take 53 = .ok (.iload 4, 2) := by decide +kernel
theorem dX10_take_55 : decode cX10_take 55 = .ok (.aload_n 0, 1) := by decide +kernel
theorem dX10_take_56 : decode cX10_take 56 = .ok (.getfield 71, 3) := by decide +kernel
theorem dX10_take_59 : decode cX10_take 59 = .ok (.iload 6, 2) := by decide +kernel
theorem dX10_take_61 : decode cX10_take 61 = .ok (.iaload, 1) := by decide +kernel
theorem dX10_take_62 : decode cX10_take 62 = .ok (.ishr, 1) := by decide +kernel
theorem dX10_take_63 : decode cX10_take 63 = .ok (.iconst 1, 1) := by decide +kernel
theorem dX10_take_64 : decode cX10_take 64 = .ok (.iand, 1) := by decide +kernel
theorem dX10_take_65 : decode cX10_take 65 = .ok (.iconst 1, 1) := by decide +kernel
theorem dX10_take_66 : decode cX10_take 66 = .ok (.if_icmp .ne 7, 3) := by decide +kernel
theorem dX10_take_69 : decode cX10_take 69 = .ok (.iconst 1, 1) := by decide +kernel
theorem dX10_take_70 : decode cX10_take 70 = .ok (.goto 4, 3) := by decide +kernel
theorem dX10_take_73 : decode cX10_take 73 = .ok (.iconst 0, 1) := by decide +kernel
theorem dX10_take_74 : decode cX10_take 74 = .ok (.istore 5, 2) := by decide +kernel
theorem dX10_take_76 : decode cX10_take 76 = .ok (.iload 4, 2) := by decide +kernel
theorem dX10_take_78 : decode cX10_take 78 = .ok (.iconst 1, 1) := by decide +kernel
theorem dX10_take_79 : decode cX10_take 79 = .ok (.aload_n 0, 1) := by decide +kernel
theorem dX10_take_80 : decode cX10_take 80 = .ok (.getfield 71, 3) := by decide +kernel
theorem dX10_take_83 : decode cX10_take 83 = .ok (.iload 6, 2) := by decide +kernel
theorem dX10_take_85 : decode cX10_take 85 = .ok (.iaload, 1) := by decide +kernel
theorem dX10_take_86 : decode cX10_take 86 = .ok (.ishl, 1) := by decide +kernel
theorem dX10_take_87 : decode cX10_take 87 = .ok (.ior, 1) := by decide +kernel
theorem dX10_take_88 : decode cX10_take 88 = .ok (.istore 4, 2) := by decide +kernel
theorem dX10_take_90 : decode cX10_take 90 = .ok (.iinc 6 1, 3) := by decide +kernel
theorem dX10_take_93 : decode cX10_take 93 = .ok (.goto (-84), 3) := by decide +kernel
theorem dX10_take_96 : decode cX10_take 96 = .ok (.iload 5, 2) := by decide +kernel
theorem dX10_take_98 : decode cX10_take 98 = .ok (.ifCond .eq 8, 3) := by decide +kernel
theorem dX10_take_101 : decode cX10_take 101 = .ok (.bipush (-3), 2) := by decide +kernel
theorem dX10_take_103 : decode cX10_take 103 = .ok (.goto 4, 3) := by decide +kernel
theorem dX10_take_106 : decode cX10_take 106 = .ok (.iconst 1, 1) := by decide +kernel
theorem dX10_take_107 : decode cX10_take 107 = .ok (.ireturn, 1) := by decide +kernel
theorem yd_X10_take : yX10_take.cls ≠ "java/lang/invoke/MethodHandle" ∧ yX10_take.cls ≠ "java/lang/invoke/VarHandle" ∧ (parseMethodDescriptor yX10_take.desc).map (fun d => d.parameters.length) = some 2 := by decide +kernel
theorem fl_X10_71_10 : FLk RX10 71 10 31 "[I" := ⟨RX10, TX10, 39, "PalaceOfRoomsModel", rfl, by decide, (fun q => by have h1 := q.1; have h2 := q.2; omega), rfl, in_X10, Or.inl q1010, Or.inl rfl⟩
abbrev rm_X10_take : Room := { frames := 0, cells := 0, slots := 0, locals := 0 }
set_option maxHeartbeats 4000000 in
theorem w_X10_take_96 {p : Program} {l : Launch} {e : Env} {s : State} {m : MethodId} {args : Array Value} {below : List Frame} {meth : Method} {c : Code} {g : Gl} (X : FX g p m c s args meth cX10_take 7 RX10 (some .int) "take") {r : Int32 × Hp} {σ : Hp} {x5 : Int32}  {H : Heap} {locs : List Loc} {ls : Array Slot} (h : F_X10_take_96 σ x5 = some r) (hV : HV g σ H) (hF : FR g locs) (hl : lv_has ls 7 [(5, .int x5)]) : W p l e rm_X10_take s m args below meth c H locs 0 0 (MQ below (Qi g r) args s 0 0 (frN g)) (F0 m 96 ls []) := by
  unfold F_X10_take_96 at h
  refine lv_iload X.1 X.2.1 dX10_take_96 (lv_at hl 0 rfl) ?_
  refine r_ifeq (tgt := 106) X.1 X.2.1 dX10_take_98 (by decide) h (fun h => ?_) (fun h => ?_)
  · refine lv_iconst (v := 1) X.1 X.2.1 dX10_take_106 (by decide) ?_
    exact r_iret X hV hF h dX10_take_107
  · refine lv_bipush (v := (-3)) X.1 X.2.1 dX10_take_101 (by decide) ?_
    refine lv_goto (tgt := 107) X.1 X.2.1 dX10_take_103 (by decide) ?_
    exact r_iret X hV hF h dX10_take_107
set_option maxHeartbeats 4000000 in
theorem w_X10_take_74 {p : Program} {l : Launch} {e : Env} {s : State} {m : MethodId} {args : Array Value} {below : List Frame} {meth : Method} {c : Code} {g : Gl} (X : FX g p m c s args meth cX10_take 7 RX10 (some .int) "take") {r : Int32 × Hp} {rec9 : Hp × Int32 × Int32 × Int32 → Option (Int32 × Hp)} {σ : Hp} {x0 : Nat} {x1 : Int64} {x3 : Int32} {x4 : Int32} {x6 : Int32} {y0 : Int32} (hr9 : ∀ (st : Hp × Int32 × Int32 × Int32), rec9 st = some r → ∀ (H : Heap) (locs : List Loc) (ls : Array Slot), HV g st.1 H → FR g locs → lv_has ls 7 [(0, .ref x0), (1, .long x1), (3, .int x3), (4, .int st.2.1), (5, .int st.2.2.1), (6, .int st.2.2.2)] → W p l e rm_X10_take s m args below meth c H locs 0 0 (MQ below (Qi g r) args s 0 0 (frN g)) (F0 m 9 ls [])) {H : Heap} {locs : List Loc} {ls : Array Slot} (h : F_X10_take_74 rec9 σ x0 x1 x3 x4 x6 y0 = some r) (hV : HV g σ H) (hF : FR g locs) (hl : lv_has ls 7 [(0, .ref x0), (1, .long x1), (3, .int x3), (4, .int x4), (6, .int x6)]) : W p l e rm_X10_take s m args below meth c H locs 0 0 (MQ below (Qi g r) args s 0 0 (frN g)) (F0 m 74 ls [.int y0]) := by
  unfold F_X10_take_74 at h
  refine lv_istore (lv' := [(5, .int y0), (0, .ref x0), (1, .long x1), (3, .int x3), (4, .int x4), (6, .int x6)]) X.1 X.2.1 dX10_take_74 hl (by decide) rfl (fun ls hl => ?_)
  refine lv_iload X.1 X.2.1 dX10_take_76 (lv_at hl 4 rfl) ?_
  refine lv_iconst (v := 1) X.1 X.2.1 dX10_take_78 (by decide) ?_
  refine lv_aload_n X.1 X.2.1 dX10_take_79 rfl (lv_at hl 1 rfl) ?_
  refine r_gR X hV fl_X10_71_10 (by decide) dX10_take_80 h (fun v1 h => ?_)
  refine lv_iload X.1 X.2.1 dX10_take_83 (lv_at hl 5 rfl) ?_
  refine r_ia X hV dX10_take_85 h (fun v2 h => ?_)
  refine lv_ishl X.1 X.2.1 dX10_take_86 ?_
  refine lv_ior X.1 X.2.1 dX10_take_87 ?_
  refine lv_istore (lv' := [(4, .int (x4 ||| (1 <<< (v2 &&& 31)))), (5, .int y0), (0, .ref x0), (1, .long x1), (3, .int x3), (6, .int x6)]) X.1 X.2.1 dX10_take_88 hl (by decide) rfl (fun ls hl => ?_)
  refine lv_iinc (v := x6 + 1) (lv' := [(6, .int (x6 + 1)), (4, .int (x4 ||| (1 <<< (v2 &&& 31)))), (5, .int y0), (0, .ref x0), (1, .long x1), (3, .int x3)]) X.1 X.2.1 dX10_take_90 hl (k := 5) rfl rfl (by decide) rfl (fun ls hl => ?_)
  refine lv_goto (tgt := 9) X.1 X.2.1 dX10_take_93 (by decide) ?_
  exact hr9 (σ, x4 ||| (1 <<< (v2 &&& 31)), y0, x6 + 1) h _ _ _ hV hF (lv_sub hl [3, 4, 5, 1, 2, 0] rfl)
set_option maxHeartbeats 4000000 in
theorem w_X10_take_69 {p : Program} {l : Launch} {e : Env} {s : State} {m : MethodId} {args : Array Value} {below : List Frame} {meth : Method} {c : Code} {g : Gl} (X : FX g p m c s args meth cX10_take 7 RX10 (some .int) "take") {r : Int32 × Hp} {rec9 : Hp × Int32 × Int32 × Int32 → Option (Int32 × Hp)} {σ : Hp} {x0 : Nat} {x1 : Int64} {x3 : Int32} {x4 : Int32} {x6 : Int32} (hr9 : ∀ (st : Hp × Int32 × Int32 × Int32), rec9 st = some r → ∀ (H : Heap) (locs : List Loc) (ls : Array Slot), HV g st.1 H → FR g locs → lv_has ls 7 [(0, .ref x0), (1, .long x1), (3, .int x3), (4, .int st.2.1), (5, .int st.2.2.1), (6, .int st.2.2.2)] → W p l e rm_X10_take s m args below meth c H locs 0 0 (MQ below (Qi g r) args s 0 0 (frN g)) (F0 m 9 ls [])) {H : Heap} {locs : List Loc} {ls : Array Slot} (h : F_X10_take_69 rec9 σ x0 x1 x3 x4 x6 = some r) (hV : HV g σ H) (hF : FR g locs) (hl : lv_has ls 7 [(0, .ref x0), (1, .long x1), (3, .int x3), (4, .int x4), (6, .int x6)]) : W p l e rm_X10_take s m args below meth c H locs 0 0 (MQ below (Qi g r) args s 0 0 (frN g)) (F0 m 69 ls []) := by
  unfold F_X10_take_69 at h
  refine lv_iconst (v := 1) X.1 X.2.1 dX10_take_69 (by decide) ?_
  refine lv_goto (tgt := 74) X.1 X.2.1 dX10_take_70 (by decide) ?_
  exact w_X10_take_74 X hr9 h hV hF (lv_sub hl [0, 1, 2, 3, 4] rfl)
set_option maxHeartbeats 4000000 in
theorem w_X10_take_9_b {p : Program} {l : Launch} {e : Env} {s : State} {m : MethodId} {args : Array Value} {below : List Frame} {meth : Method} {c : Code} {g : Gl} (X : FX g p m c s args meth cX10_take 7 RX10 (some .int) "take") {r : Int32 × Hp} {rec9 : Hp × Int32 × Int32 × Int32 → Option (Int32 × Hp)} {x0 : Nat} {x1 : Int64} {x3 : Int32} {σ : Hp} {x4 : Int32} {x5 : Int32} {x6 : Int32} (hr9 : ∀ (st : Hp × Int32 × Int32 × Int32), rec9 st = some r → ∀ (H : Heap) (locs : List Loc) (ls : Array Slot), HV g st.1 H → FR g locs → lv_has ls 7 [(0, .ref x0), (1, .long x1), (3, .int x3), (4, .int st.2.1), (5, .int st.2.2.1), (6, .int st.2.2.2)] → W p l e rm_X10_take s m args below meth c H locs 0 0 (MQ below (Qi g r) args s 0 0 (frN g)) (F0 m 9 ls [])) {H : Heap} {locs : List Loc} {ls : Array Slot} (h : B_X10_take_9 x0 x1 x3 rec9 σ x4 x5 x6 = some r) (hV : HV g σ H) (hF : FR g locs) (hl : lv_has ls 7 [(0, .ref x0), (1, .long x1), (3, .int x3), (4, .int x4), (5, .int x5), (6, .int x6)]) : W p l e rm_X10_take s m args below meth c H locs 0 0 (MQ below (Qi g r) args s 0 0 (frN g)) (F0 m 9 ls []) := by
  unfold B_X10_take_9 at h
  refine lv_iload X.1 X.2.1 dX10_take_9 (lv_at hl 5 rfl) ?_
  refine lv_iload_n X.1 X.2.1 dX10_take_11 rfl (lv_at hl 2 rfl) ?_
  refine r_ge (tgt := 96) X.1 X.2.1 dX10_take_12 (by decide) h (fun h => ?_) (fun h => ?_)
  · exact w_X10_take_96 X  h hV hF (lv_sub hl [4] rfl)
  · refine lv_aload_n X.1 X.2.1 dX10_take_15 rfl (lv_at hl 0 rfl) ?_
    refine r_gR X hV fl_X10_71_10 (by decide) dX10_take_16 h (fun v1 h => ?_)
    refine lv_iload X.1 X.2.1 dX10_take_19 (lv_at hl 5 rfl) ?_
    refine lv_lload_n X.1 X.2.1 dX10_take_21 rfl (lv_at hl 1 rfl) ?_
    refine lv_iconst (v := 5) X.1 X.2.1 dX10_take_22 (by decide) ?_
    refine lv_iload X.1 X.2.1 dX10_take_23 (lv_at hl 5 rfl) ?_
    refine lv_imul X.1 X.2.1 dX10_take_25 ?_
    refine lv_lshr (v := x1 >>> ((5 * x6 : Int32).toInt64 &&& 63)) X.1 X.2.1 dX10_take_26 rfl ?_
    refine lv_ldc2 (v := 31) X.1 X.2.1 X.2.2.2.1 (X.2.2.2.2.1 _ q1269) dX10_take_27 ?_
    refine lv_land X.1 X.2.1 dX10_take_30 ?_
    refine lv_l2i (v := ((x1 >>> ((5 * x6 : Int32).toInt64 &&& 63)) &&& 31 : Int64).toInt32) X.1 X.2.1 dX10_take_31 rfl ?_
    refine r_is X hV hF dX10_take_32 h (fun s1 H locs hV hF h => ?_)
    refine lv_aload_n X.1 X.2.1 dX10_take_33 rfl (lv_at hl 0 rfl) ?_
    refine r_gR X hV fl_X10_71_10 (by decide) dX10_take_34 h (fun v2 h => ?_)
    refine lv_iload X.1 X.2.1 dX10_take_37 (lv_at hl 5 rfl) ?_
    refine r_ia X hV dX10_take_39 h (fun v3 h => ?_)
    refine lv_bipush (v := 23) X.1 X.2.1 dX10_take_40 (by decide) ?_
    refine r_le (tgt := 48) X.1 X.2.1 dX10_take_42 (by decide) h (fun h => ?_) (fun h => ?_)
    · refine lv_iload X.1 X.2.1 dX10_take_48 (lv_at hl 4 rfl) ?_
      refine r_ifne (tgt := 69) X.1 X.2.1 dX10_take_50 (by decide) h (fun h => ?_) (fun h => ?_)
      · exact w_X10_take_69 X hr9 h hV hF (lv_sub hl [0, 1, 2, 3, 5] rfl)
      · refine lv_iload X.1 X.2.1 dX10_take_53 (lv_at hl 3 rfl) ?_
        refine lv_aload_n X.1 X.2.1 dX10_take_55 rfl (lv_at hl 0 rfl) ?_
        refine r_gR X hV fl_X10_71_10 (by decide) dX10_take_56 h (fun v4 h => ?_)
        refine lv_iload X.1 X.2.1 dX10_take_59 (lv_at hl 5 rfl) ?_
        refine r_ia X hV dX10_take_61 h (fun v5 h => ?_)
        refine lv_ishr X.1 X.2.1 dX10_take_62 ?_
        refine lv_iconst (v := 1) X.1 X.2.1 dX10_take_63 (by decide) ?_
        refine lv_iand X.1 X.2.1 dX10_take_64 ?_
        refine lv_iconst (v := 1) X.1 X.2.1 dX10_take_65 (by decide) ?_
        refine r_ne (tgt := 73) X.1 X.2.1 dX10_take_66 (by decide) h (fun h => ?_) (fun h => ?_)
        · refine lv_iconst (v := 0) X.1 X.2.1 dX10_take_73 (by decide) ?_
          exact w_X10_take_74 X hr9 h hV hF (lv_sub hl [0, 1, 2, 3, 5] rfl)
        · exact w_X10_take_69 X hr9 h hV hF (lv_sub hl [0, 1, 2, 3, 5] rfl)
    · refine lv_bipush (v := (-2)) X.1 X.2.1 dX10_take_45 (by decide) ?_
      exact r_iret X hV hF h dX10_take_47
set_option maxHeartbeats 4000000 in
theorem w_X10_take_9 {p : Program} {l : Launch} {e : Env} {s : State} {m : MethodId} {args : Array Value} {below : List Frame} {meth : Method} {c : Code} {g : Gl} (X : FX g p m c s args meth cX10_take 7 RX10 (some .int) "take") {r : Int32 × Hp} {x0 : Nat} {x1 : Int64} {x3 : Int32}  : ∀ (n : Nat) (st : Hp × Int32 × Int32 × Int32), L_X10_take_9 x0 x1 x3 n st = some r → ∀ (H : Heap) (locs : List Loc) (ls : Array Slot), HV g st.1 H → FR g locs → lv_has ls 7 [(0, .ref x0), (1, .long x1), (3, .int x3), (4, .int st.2.1), (5, .int st.2.2.1), (6, .int st.2.2.2)] → W p l e rm_X10_take s m args below meth c H locs 0 0 (MQ below (Qi g r) args s 0 0 (frN g)) (F0 m 9 ls []) := by
  intro n
  induction n with
  | zero =>
    intro st h
    rw [L_X10_take_9_0] at h
    cases h
  | succ n ih =>
    intro st h H locs ls hV hF hl
    rw [L_X10_take_9_s] at h
    exact w_X10_take_9_b X  ih h hV hF hl
set_option maxHeartbeats 4000000 in
theorem c_X10_take (l : Launch) {g : Gl} {σ : Hp} {x0 : Nat} {x1 : Int64} {x3 : Int32} {r : Int32 × Hp} (h : F_X10_take σ x0 x1 x3 = some r) : Met l yX10_take (ws_ yX10_take cX10_take 7 (some .int)) rm_X10_take (va_Pc [.ref x0, .long x1, .int x3] (WV g σ)) (Qi g r) 0 0 (frN g) := by
  refine ct_of (by decide) (Nat.le_of_ble_eq_true rfl) ?_
  intro p e s m below meth c ls X hV hl
  have hF : FR g [] := FR_nil
  unfold F_X10_take at h
  have hl : lv_has ls 7 [(0, .ref x0), (1, .long x1), (3, .int x3)] := hl
  have X : FX g p m c s _ meth cX10_take 7 RX10 (some .int) "take" := X
  obtain ⟨-, h⟩ := gd_inv h
  refine lv_iconst (v := 0) X.1 X.2.1 dX10_take_0 (by decide) ?_
  refine lv_istore (lv' := [(4, .int 0), (0, .ref x0), (1, .long x1), (3, .int x3)]) X.1 X.2.1 dX10_take_1 hl (by decide) rfl (fun ls hl => ?_)
  refine lv_iconst (v := 0) X.1 X.2.1 dX10_take_3 (by decide) ?_
  refine lv_istore (lv' := [(5, .int 0), (4, .int 0), (0, .ref x0), (1, .long x1), (3, .int x3)]) X.1 X.2.1 dX10_take_4 hl (by decide) rfl (fun ls hl => ?_)
  refine lv_iconst (v := 0) X.1 X.2.1 dX10_take_6 (by decide) ?_
  refine lv_istore (lv' := [(6, .int 0), (5, .int 0), (4, .int 0), (0, .ref x0), (1, .long x1), (3, .int x3)]) X.1 X.2.1 dX10_take_7 hl (by decide) rfl (fun ls hl => ?_)
  exact w_X10_take_9 X  FU (σ, 0, 0, 0) h _ _ _ hV hF (lv_sub hl [3, 4, 5, 2, 1, 0] rfl)
/-! PalaceOfRoomsModel.speechOf -/
theorem dX10_speechOf_0 : decode cX10_speechOf 0 = .ok (.iconst 0, 1) := by decide +kernel
theorem dX10_speechOf_1 : decode cX10_speechOf 1 = .ok (.istore_n 2, 1) := by decide +kernel
theorem dX10_speechOf_2 : decode cX10_speechOf 2 = .ok (.iconst 1, 1) := by decide +kernel
theorem dX10_speechOf_3 : decode cX10_speechOf 3 = .ok (.istore_n 3, 1) := by decide +kernel
theorem dX10_speechOf_4 : decode cX10_speechOf 4 = .ok (.iload_n 3, 1) := by decide +kernel
theorem dX10_speechOf_5 : decode cX10_speechOf 5 = .ok (.iload_n 1, 1) := by decide +kernel
theorem dX10_speechOf_6 : decode cX10_speechOf 6 = .ok (.if_icmp .ge 40, 3) := by decide +kernel
theorem dX10_speechOf_9 : decode cX10_speechOf 9 = .ok (.iload_n 2, 1) := by decide +kernel
theorem dX10_speechOf_10 : decode cX10_speechOf 10 = .ok (.aload_n 0, 1) := by decide +kernel
theorem dX10_speechOf_11 : decode cX10_speechOf 11 = .ok (.aload_n 0, 1) := by decide +kernel
theorem dX10_speechOf_12 : decode cX10_speechOf 12 = .ok (.getfield 71, 3) := by decide +kernel
theorem dX10_speechOf_15 : decode cX10_speechOf 15 = .ok (.aload_n 0, 1) := by decide +kernel
theorem dX10_speechOf_16 : decode cX10_speechOf 16 = .ok (.getfield 74, 3) := by decide +kernel
theorem dX10_speechOf_19 : decode cX10_speechOf 19 = .ok (.iload_n 3, 1) := by decide +kernel
theorem dX10_speechOf_20 : decode cX10_speechOf 20 = .ok (.iconst 1, 1) := by decide +kernel
theorem dX10_speechOf_21 : decode cX10_speechOf 21 = .ok (.isub, 1) := by decide +kernel
theorem dX10_speechOf_22 : decode cX10_speechOf 22 = .ok (.iaload, 1) := by decide +kernel
theorem dX10_speechOf_23 : decode cX10_speechOf 23 = .ok (.iaload, 1) := by decide +kernel
theorem dX10_speechOf_24 : decode cX10_speechOf 24 = .ok (.aload_n 0, 1) := by decide +kernel
theorem dX10_speechOf_25 : decode cX10_speechOf 25 = .ok (.getfield 71, 3) := by decide +kernel
theorem dX10_speechOf_28 : decode cX10_speechOf 28 = .ok (.aload_n 0, 1) := by decide +kernel
theorem dX10_speechOf_29 : decode cX10_speechOf 29 = .ok (.getfield 74, 3) := by decide +kernel
theorem dX10_speechOf_32 : decode cX10_speechOf 32 = .ok (.iload_n 3, 1) := by decide +kernel
theorem dX10_speechOf_33 : decode cX10_speechOf 33 = .ok (.iaload, 1) := by decide +kernel
theorem dX10_speechOf_34 : decode cX10_speechOf 34 = .ok (.iaload, 1) := by decide +kernel
theorem dX10_speechOf_35 : decode cX10_speechOf 35 = .ok (.invokevirtual 115, 3) := by decide +kernel
theorem dX10_speechOf_38 : decode cX10_speechOf 38 = .ok (.iadd, 1) := by decide +kernel
theorem dX10_speechOf_39 : decode cX10_speechOf 39 = .ok (.istore_n 2, 1) := by decide +kernel
theorem dX10_speechOf_40 : decode cX10_speechOf 40 = .ok (.iinc 3 1, 3) := by decide +kernel
theorem dX10_speechOf_43 : decode cX10_speechOf 43 = .ok (.goto (-39), 3) := by decide +kernel
theorem dX10_speechOf_46 : decode cX10_speechOf 46 = .ok (.iload_n 2, 1) := by decide +kernel
theorem dX10_speechOf_47 : decode cX10_speechOf 47 = .ok (.ireturn, 1) := by decide +kernel
theorem yd_X10_speechOf : yX10_speechOf.cls ≠ "java/lang/invoke/MethodHandle" ∧ yX10_speechOf.cls ≠ "java/lang/invoke/VarHandle" ∧ (parseMethodDescriptor yX10_speechOf.desc).map (fun d => d.parameters.length) = some 1 := by decide +kernel
theorem fl_X10_74_10 : FLk RX10 74 10 32 "[I" := ⟨RX10, TX10, 39, "PalaceOfRoomsModel", rfl, by decide, (fun q => by have h1 := q.1; have h2 := q.2; omega), rfl, in_X10, Or.inl q1011, Or.inl rfl⟩
abbrev rm_X10_speechOf : Room := { frames := 1, cells := 0, slots := 0, locals := 25 }
set_option maxHeartbeats 4000000 in
theorem w_X10_speechOf_4_b {p : Program} {l : Launch} {e : Env} {s : State} {m : MethodId} {args : Array Value} {below : List Frame} {meth : Method} {c : Code} {g : Gl} (X : FX g p m c s args meth cX10_speechOf 4 RX10 (some .int) "speechOf") {r : Int32 × Hp} {rec4 : Hp × Int32 × Int32 → Option (Int32 × Hp)} {x0 : Nat} {x1 : Int32} {σ : Hp} {x2 : Int32} {x3 : Int32} (hr4 : ∀ (st : Hp × Int32 × Int32), rec4 st = some r → ∀ (H : Heap) (locs : List Loc) (ls : Array Slot), HV g st.1 H → FR g locs → lv_has ls 4 [(0, .ref x0), (1, .int x1), (2, .int st.2.1), (3, .int st.2.2)] → W p l e rm_X10_speechOf s m args below meth c H locs 0 0 (MQ below (Qi g r) args s 0 0 (frN g)) (F0 m 4 ls [])) {H : Heap} {locs : List Loc} {ls : Array Slot} (h : B_X10_speechOf_4 x0 x1 rec4 σ x2 x3 = some r) (hV : HV g σ H) (hF : FR g locs) (hl : lv_has ls 4 [(0, .ref x0), (1, .int x1), (2, .int x2), (3, .int x3)]) : W p l e rm_X10_speechOf s m args below meth c H locs 0 0 (MQ below (Qi g r) args s 0 0 (frN g)) (F0 m 4 ls []) := by
  unfold B_X10_speechOf_4 at h
  refine lv_iload_n X.1 X.2.1 dX10_speechOf_4 rfl (lv_at hl 3 rfl) ?_
  refine lv_iload_n X.1 X.2.1 dX10_speechOf_5 rfl (lv_at hl 1 rfl) ?_
  refine r_ge (tgt := 46) X.1 X.2.1 dX10_speechOf_6 (by decide) h (fun h => ?_) (fun h => ?_)
  · refine lv_iload_n X.1 X.2.1 dX10_speechOf_46 rfl (lv_at hl 2 rfl) ?_
    exact r_iret X hV hF h dX10_speechOf_47
  · refine lv_iload_n X.1 X.2.1 dX10_speechOf_9 rfl (lv_at hl 2 rfl) ?_
    refine lv_aload_n X.1 X.2.1 dX10_speechOf_10 rfl (lv_at hl 0 rfl) ?_
    refine lv_aload_n X.1 X.2.1 dX10_speechOf_11 rfl (lv_at hl 0 rfl) ?_
    refine r_gR X hV fl_X10_71_10 (by decide) dX10_speechOf_12 h (fun v1 h => ?_)
    refine lv_aload_n X.1 X.2.1 dX10_speechOf_15 rfl (lv_at hl 0 rfl) ?_
    refine r_gR X hV fl_X10_74_10 (by decide) dX10_speechOf_16 h (fun v2 h => ?_)
    refine lv_iload_n X.1 X.2.1 dX10_speechOf_19 rfl (lv_at hl 3 rfl) ?_
    refine lv_iconst (v := 1) X.1 X.2.1 dX10_speechOf_20 (by decide) ?_
    refine lv_isub X.1 X.2.1 dX10_speechOf_21 ?_
    refine r_ia X hV dX10_speechOf_22 h (fun v3 h => ?_)
    refine r_ia X hV dX10_speechOf_23 h (fun v4 h => ?_)
    refine lv_aload_n X.1 X.2.1 dX10_speechOf_24 rfl (lv_at hl 0 rfl) ?_
    refine r_gR X hV fl_X10_71_10 (by decide) dX10_speechOf_25 h (fun v5 h => ?_)
    refine lv_aload_n X.1 X.2.1 dX10_speechOf_28 rfl (lv_at hl 0 rfl) ?_
    refine r_gR X hV fl_X10_74_10 (by decide) dX10_speechOf_29 h (fun v6 h => ?_)
    refine lv_iload_n X.1 X.2.1 dX10_speechOf_32 rfl (lv_at hl 3 rfl) ?_
    refine r_ia X hV dX10_speechOf_33 h (fun v7 h => ?_)
    refine r_ia X hV dX10_speechOf_34 h (fun v8 h => ?_)
    obtain ⟨v9, s1, hc, h⟩ := b2_inv h
    refine r_ci (va_runV (C := RX10) (As := [.int v4, .int v8]) (rest := [.int x2]) (cfX X) (c_X10_likeness l hc) (cwV 2 X.2.2.2.2.1 (lw_V q1130 q1132 qs24 q59 q1133) rfl rfl rfl ⟨rfl, yd_X10_likeness⟩ ⟨Nat.le_of_ble_eq_true rfl, Nat.le_of_ble_eq_true rfl⟩) (preV X hV (F_X10_likeness_g hc) rfl) rfl rfl hl.1 rfl (lv_room (Nat.le_of_ble_eq_true rfl)) dX10_speechOf_35 ⟨(Nat.le_of_ble_eq_true rfl), (Nat.le_of_ble_eq_true rfl)⟩) hF (fun H locs hV hF => ?_)
    refine lv_iadd X.1 X.2.1 dX10_speechOf_38 ?_
    refine lv_istore_n (lv' := [(2, .int (x2 + v9)), (0, .ref x0), (1, .int x1), (3, .int x3)]) X.1 X.2.1 dX10_speechOf_39 rfl hl (by decide) rfl (fun ls hl => ?_)
    refine lv_iinc (v := x3 + 1) (lv' := [(3, .int (x3 + 1)), (2, .int (x2 + v9)), (0, .ref x0), (1, .int x1)]) X.1 X.2.1 dX10_speechOf_40 hl (k := 3) rfl rfl (by decide) rfl (fun ls hl => ?_)
    refine lv_goto (tgt := 4) X.1 X.2.1 dX10_speechOf_43 (by decide) ?_
    exact hr4 (s1, x2 + v9, x3 + 1) h _ _ _ hV hF (lv_sub hl [2, 3, 1, 0] rfl)
set_option maxHeartbeats 4000000 in
theorem w_X10_speechOf_4 {p : Program} {l : Launch} {e : Env} {s : State} {m : MethodId} {args : Array Value} {below : List Frame} {meth : Method} {c : Code} {g : Gl} (X : FX g p m c s args meth cX10_speechOf 4 RX10 (some .int) "speechOf") {r : Int32 × Hp} {x0 : Nat} {x1 : Int32}  : ∀ (n : Nat) (st : Hp × Int32 × Int32), L_X10_speechOf_4 x0 x1 n st = some r → ∀ (H : Heap) (locs : List Loc) (ls : Array Slot), HV g st.1 H → FR g locs → lv_has ls 4 [(0, .ref x0), (1, .int x1), (2, .int st.2.1), (3, .int st.2.2)] → W p l e rm_X10_speechOf s m args below meth c H locs 0 0 (MQ below (Qi g r) args s 0 0 (frN g)) (F0 m 4 ls []) := by
  intro n
  induction n with
  | zero =>
    intro st h
    rw [L_X10_speechOf_4_0] at h
    cases h
  | succ n ih =>
    intro st h H locs ls hV hF hl
    rw [L_X10_speechOf_4_s] at h
    exact w_X10_speechOf_4_b X  ih h hV hF hl
set_option maxHeartbeats 4000000 in
theorem c_X10_speechOf (l : Launch) {g : Gl} {σ : Hp} {x0 : Nat} {x1 : Int32} {r : Int32 × Hp} (h : F_X10_speechOf σ x0 x1 = some r) : Met l yX10_speechOf (ws_ yX10_speechOf cX10_speechOf 4 (some .int)) rm_X10_speechOf (va_Pc [.ref x0, .int x1] (WV g σ)) (Qi g r) 0 0 (frN g) := by
  refine ct_of (by decide) (Nat.le_of_ble_eq_true rfl) ?_
  intro p e s m below meth c ls X hV hl
  have hF : FR g [] := FR_nil
  unfold F_X10_speechOf at h
  have hl : lv_has ls 4 [(0, .ref x0), (1, .int x1)] := hl
  have X : FX g p m c s _ meth cX10_speechOf 4 RX10 (some .int) "speechOf" := X
  obtain ⟨-, h⟩ := gd_inv h
  refine lv_iconst (v := 0) X.1 X.2.1 dX10_speechOf_0 (by decide) ?_
  refine lv_istore_n (lv' := [(2, .int 0), (0, .ref x0), (1, .int x1)]) X.1 X.2.1 dX10_speechOf_1 rfl hl (by decide) rfl (fun ls hl => ?_)
  refine lv_iconst (v := 1) X.1 X.2.1 dX10_speechOf_2 (by decide) ?_
  refine lv_istore_n (lv' := [(3, .int 1), (2, .int 0), (0, .ref x0), (1, .int x1)]) X.1 X.2.1 dX10_speechOf_3 rfl hl (by decide) rfl (fun ls hl => ?_)
  exact w_X10_speechOf_4 X  FU (σ, 0, 1) h _ _ _ hV hF (lv_sub hl [2, 3, 1, 0] rfl)
/-! PalaceOfRoomsModel.harmOf -/
theorem dX10_harmOf_0 : decode cX10_harmOf 0 = .ok (.iconst 0, 1) := by decide +kernel
theorem dX10_harmOf_1 : decode cX10_harmOf 1 = .ok (.istore_n 2, 1) := by decide +kernel
theorem dX10_harmOf_2 : decode cX10_harmOf 2 = .ok (.iconst 0, 1) := by decide +kernel
theorem dX10_harmOf_3 : decode cX10_harmOf 3 = .ok (.istore_n 3, 1) := by decide +kernel
theorem dX10_harmOf_4 : decode cX10_harmOf 4 = .ok (.iload_n 3, 1) := by decide +kernel
theorem dX10_harmOf_5 : decode cX10_harmOf 5 = .ok (.iload_n 1, 1) := by decide +kernel
theorem dX10_harmOf_6 : decode cX10_harmOf 6 = .ok (.if_icmp .ge 67, 3) := by decide +kernel
theorem dX10_harmOf_9 : decode cX10_harmOf 9 = .ok (.iconst 0, 1) := by decide +kernel
theorem dX10_harmOf_10 : decode cX10_harmOf 10 = .ok (.istore 4, 2) := by decide +kernel
theorem dX10_harmOf_12 : decode cX10_harmOf 12 = .ok (.iload 4, 2) := by decide +kernel
theorem dX10_harmOf_14 : decode cX10_harmOf 14 = .ok (.iload_n 3, 1) := by decide +kernel
theorem dX10_harmOf_15 : decode cX10_harmOf 15 = .ok (.if_icmp .ge 52, 3) := by decide +kernel
theorem dX10_harmOf_18 : decode cX10_harmOf 18 = .ok (.iload_n 2, 1) := by decide +kernel
theorem dX10_harmOf_19 : decode cX10_harmOf 19 = .ok (.aload_n 0, 1) := by decide +kernel
theorem dX10_harmOf_20 : decode cX10_harmOf 20 = .ok (.aload_n 0, 1) := by decide +kernel
theorem dX10_harmOf_21 : decode cX10_harmOf 21 = .ok (.getfield 71, 3) := by decide +kernel
theorem dX10_harmOf_24 : decode cX10_harmOf 24 = .ok (.aload_n 0, 1) := by decide +kernel
theorem dX10_harmOf_25 : decode cX10_harmOf 25 = .ok (.getfield 74, 3) := by decide +kernel
theorem dX10_harmOf_28 : decode cX10_harmOf 28 = .ok (.iload_n 3, 1) := by decide +kernel
theorem dX10_harmOf_29 : decode cX10_harmOf 29 = .ok (.iaload, 1) := by decide +kernel
theorem dX10_harmOf_30 : decode cX10_harmOf 30 = .ok (.iaload, 1) := by decide +kernel
theorem dX10_harmOf_31 : decode cX10_harmOf 31 = .ok (.aload_n 0, 1) := by decide +kernel
theorem dX10_harmOf_32 : decode cX10_harmOf 32 = .ok (.getfield 71, 3) := by decide +kernel
theorem dX10_harmOf_35 : decode cX10_harmOf 35 = .ok (.aload_n 0, 1) := by decide +kernel
theorem dX10_harmOf_36 : decode cX10_harmOf 36 = .ok (.getfield 74, 3) := by decide +kernel
theorem dX10_harmOf_39 : decode cX10_harmOf 39 = .ok (.iload 4, 2) := by decide +kernel
theorem dX10_harmOf_41 : decode cX10_harmOf 41 = .ok (.iaload, 1) := by decide +kernel
theorem dX10_harmOf_42 : decode cX10_harmOf 42 = .ok (.iaload, 1) := by decide +kernel
theorem dX10_harmOf_43 : decode cX10_harmOf 43 = .ok (.invokevirtual 115, 3) := by decide +kernel
theorem dX10_harmOf_46 : decode cX10_harmOf 46 = .ok (.aload_n 0, 1) := by decide +kernel
theorem dX10_harmOf_47 : decode cX10_harmOf 47 = .ok (.getfield 90, 3) := by decide +kernel
theorem dX10_harmOf_50 : decode cX10_harmOf 50 = .ok (.bipush 10, 2) := by decide +kernel
theorem dX10_harmOf_52 : decode cX10_harmOf 52 = .ok (.iload_n 3, 1) := by decide +kernel
theorem dX10_harmOf_53 : decode cX10_harmOf 53 = .ok (.imul, 1) := by decide +kernel
theorem dX10_harmOf_54 : decode cX10_harmOf 54 = .ok (.iload 4, 2) := by decide +kernel
theorem dX10_harmOf_56 : decode cX10_harmOf 56 = .ok (.iadd, 1) := by decide +kernel
theorem dX10_harmOf_57 : decode cX10_harmOf 57 = .ok (.iaload, 1) := by decide +kernel
theorem dX10_harmOf_58 : decode cX10_harmOf 58 = .ok (.imul, 1) := by decide +kernel
theorem dX10_harmOf_59 : decode cX10_harmOf 59 = .ok (.iadd, 1) := by decide +kernel
theorem dX10_harmOf_60 : decode cX10_harmOf 60 = .ok (.istore_n 2, 1) := by decide +kernel
theorem dX10_harmOf_61 : decode cX10_harmOf 61 = .ok (.iinc 4 1, 3) := by decide +kernel
theorem dX10_harmOf_64 : decode cX10_harmOf 64 = .ok (.goto (-52), 3) := by decide +kernel
theorem dX10_harmOf_67 : decode cX10_harmOf 67 = .ok (.iinc 3 1, 3) := by decide +kernel
theorem dX10_harmOf_70 : decode cX10_harmOf 70 = .ok (.goto (-66), 3) := by decide +kernel
theorem dX10_harmOf_73 : decode cX10_harmOf 73 = .ok (.iload_n 2, 1) := by decide +kernel
theorem dX10_harmOf_74 : decode cX10_harmOf 74 = .ok (.ireturn, 1) := by decide +kernel
theorem yd_X10_harmOf : yX10_harmOf.cls ≠ "java/lang/invoke/MethodHandle" ∧ yX10_harmOf.cls ≠ "java/lang/invoke/VarHandle" ∧ (parseMethodDescriptor yX10_harmOf.desc).map (fun d => d.parameters.length) = some 1 := by decide +kernel
theorem fl_X10_90_10 : FLk RX10 90 10 38 "[I" := ⟨RX10, TX10, 39, "PalaceOfRoomsModel", rfl, by decide, (fun q => by have h1 := q.1; have h2 := q.2; omega), rfl, in_X10, Or.inl q1017, Or.inl rfl⟩
abbrev rm_X10_harmOf : Room := { frames := 1, cells := 0, slots := 0, locals := 25 }
set_option maxHeartbeats 4000000 in
theorem w_X10_harmOf_12_b {p : Program} {l : Launch} {e : Env} {s : State} {m : MethodId} {args : Array Value} {below : List Frame} {meth : Method} {c : Code} {g : Gl} (X : FX g p m c s args meth cX10_harmOf 5 RX10 (some .int) "harmOf") {r : Int32 × Hp} {rec4 : Hp × Int32 × Int32 → Option (Int32 × Hp)} {rec12 : Hp × Int32 × Int32 → Option (Int32 × Hp)} {x0 : Nat} {x1 : Int32} {x3 : Int32} {σ : Hp} {x2 : Int32} {x4 : Int32} (hr4 : ∀ (st : Hp × Int32 × Int32), rec4 st = some r → ∀ (H : Heap) (locs : List Loc) (ls : Array Slot), HV g st.1 H → FR g locs → lv_has ls 5 [(0, .ref x0), (1, .int x1), (2, .int st.2.1), (3, .int st.2.2)] → W p l e rm_X10_harmOf s m args below meth c H locs 0 0 (MQ below (Qi g r) args s 0 0 (frN g)) (F0 m 4 ls [])) (hr12 : ∀ (st : Hp × Int32 × Int32), rec12 st = some r → ∀ (H : Heap) (locs : List Loc) (ls : Array Slot), HV g st.1 H → FR g locs → lv_has ls 5 [(0, .ref x0), (1, .int x1), (2, .int st.2.1), (3, .int x3), (4, .int st.2.2)] → W p l e rm_X10_harmOf s m args below meth c H locs 0 0 (MQ below (Qi g r) args s 0 0 (frN g)) (F0 m 12 ls [])) {H : Heap} {locs : List Loc} {ls : Array Slot} (h : B_X10_harmOf_12 rec4 x0 x1 x3 rec12 σ x2 x4 = some r) (hV : HV g σ H) (hF : FR g locs) (hl : lv_has ls 5 [(0, .ref x0), (1, .int x1), (2, .int x2), (3, .int x3), (4, .int x4)]) : W p l e rm_X10_harmOf s m args below meth c H locs 0 0 (MQ below (Qi g r) args s 0 0 (frN g)) (F0 m 12 ls []) := by
  unfold B_X10_harmOf_12 at h
  refine lv_iload X.1 X.2.1 dX10_harmOf_12 (lv_at hl 4 rfl) ?_
  refine lv_iload_n X.1 X.2.1 dX10_harmOf_14 rfl (lv_at hl 3 rfl) ?_
  refine r_ge (tgt := 67) X.1 X.2.1 dX10_harmOf_15 (by decide) h (fun h => ?_) (fun h => ?_)
  · refine lv_iinc (v := x3 + 1) (lv' := [(3, .int (x3 + 1)), (0, .ref x0), (1, .int x1), (2, .int x2), (4, .int x4)]) X.1 X.2.1 dX10_harmOf_67 hl (k := 3) rfl rfl (by decide) rfl (fun ls hl => ?_)
    refine lv_goto (tgt := 4) X.1 X.2.1 dX10_harmOf_70 (by decide) ?_
    exact hr4 (σ, x2, x3 + 1) h _ _ _ hV hF (lv_sub hl [1, 2, 3, 0] rfl)
  · refine lv_iload_n X.1 X.2.1 dX10_harmOf_18 rfl (lv_at hl 2 rfl) ?_
    refine lv_aload_n X.1 X.2.1 dX10_harmOf_19 rfl (lv_at hl 0 rfl) ?_
    refine lv_aload_n X.1 X.2.1 dX10_harmOf_20 rfl (lv_at hl 0 rfl) ?_
    refine r_gR X hV fl_X10_71_10 (by decide) dX10_harmOf_21 h (fun v1 h => ?_)
    refine lv_aload_n X.1 X.2.1 dX10_harmOf_24 rfl (lv_at hl 0 rfl) ?_
    refine r_gR X hV fl_X10_74_10 (by decide) dX10_harmOf_25 h (fun v2 h => ?_)
    refine lv_iload_n X.1 X.2.1 dX10_harmOf_28 rfl (lv_at hl 3 rfl) ?_
    refine r_ia X hV dX10_harmOf_29 h (fun v3 h => ?_)
    refine r_ia X hV dX10_harmOf_30 h (fun v4 h => ?_)
    refine lv_aload_n X.1 X.2.1 dX10_harmOf_31 rfl (lv_at hl 0 rfl) ?_
    refine r_gR X hV fl_X10_71_10 (by decide) dX10_harmOf_32 h (fun v5 h => ?_)
    refine lv_aload_n X.1 X.2.1 dX10_harmOf_35 rfl (lv_at hl 0 rfl) ?_
    refine r_gR X hV fl_X10_74_10 (by decide) dX10_harmOf_36 h (fun v6 h => ?_)
    refine lv_iload X.1 X.2.1 dX10_harmOf_39 (lv_at hl 4 rfl) ?_
    refine r_ia X hV dX10_harmOf_41 h (fun v7 h => ?_)
    refine r_ia X hV dX10_harmOf_42 h (fun v8 h => ?_)
    obtain ⟨v9, s1, hc, h⟩ := b2_inv h
    refine r_ci (va_runV (C := RX10) (As := [.int v4, .int v8]) (rest := [.int x2]) (cfX X) (c_X10_likeness l hc) (cwV 2 X.2.2.2.2.1 (lw_V q1130 q1132 qs24 q59 q1133) rfl rfl rfl ⟨rfl, yd_X10_likeness⟩ ⟨Nat.le_of_ble_eq_true rfl, Nat.le_of_ble_eq_true rfl⟩) (preV X hV (F_X10_likeness_g hc) rfl) rfl rfl hl.1 rfl (lv_room (Nat.le_of_ble_eq_true rfl)) dX10_harmOf_43 ⟨(Nat.le_of_ble_eq_true rfl), (Nat.le_of_ble_eq_true rfl)⟩) hF (fun H locs hV hF => ?_)
    refine lv_aload_n X.1 X.2.1 dX10_harmOf_46 rfl (lv_at hl 0 rfl) ?_
    refine r_gR X hV fl_X10_90_10 (by decide) dX10_harmOf_47 h (fun v10 h => ?_)
    refine lv_bipush (v := 10) X.1 X.2.1 dX10_harmOf_50 (by decide) ?_
    refine lv_iload_n X.1 X.2.1 dX10_harmOf_52 rfl (lv_at hl 3 rfl) ?_
    refine lv_imul X.1 X.2.1 dX10_harmOf_53 ?_
    refine lv_iload X.1 X.2.1 dX10_harmOf_54 (lv_at hl 4 rfl) ?_
    refine lv_iadd X.1 X.2.1 dX10_harmOf_56 ?_
    refine r_ia X hV dX10_harmOf_57 h (fun v11 h => ?_)
    refine lv_imul X.1 X.2.1 dX10_harmOf_58 ?_
    refine lv_iadd X.1 X.2.1 dX10_harmOf_59 ?_
    refine lv_istore_n (lv' := [(2, .int (x2 + (v9 * v11))), (0, .ref x0), (1, .int x1), (3, .int x3), (4, .int x4)]) X.1 X.2.1 dX10_harmOf_60 rfl hl (by decide) rfl (fun ls hl => ?_)
    refine lv_iinc (v := x4 + 1) (lv' := [(4, .int (x4 + 1)), (2, .int (x2 + (v9 * v11))), (0, .ref x0), (1, .int x1), (3, .int x3)]) X.1 X.2.1 dX10_harmOf_61 hl (k := 4) rfl rfl (by decide) rfl (fun ls hl => ?_)
    refine lv_goto (tgt := 12) X.1 X.2.1 dX10_harmOf_64 (by decide) ?_
    exact hr12 (s1, x2 + (v9 * v11), x4 + 1) h _ _ _ hV hF (lv_sub hl [2, 3, 1, 4, 0] rfl)
set_option maxHeartbeats 4000000 in
theorem w_X10_harmOf_12 {p : Program} {l : Launch} {e : Env} {s : State} {m : MethodId} {args : Array Value} {below : List Frame} {meth : Method} {c : Code} {g : Gl} (X : FX g p m c s args meth cX10_harmOf 5 RX10 (some .int) "harmOf") {r : Int32 × Hp} {rec4 : Hp × Int32 × Int32 → Option (Int32 × Hp)} {x0 : Nat} {x1 : Int32} {x3 : Int32} (hr4 : ∀ (st : Hp × Int32 × Int32), rec4 st = some r → ∀ (H : Heap) (locs : List Loc) (ls : Array Slot), HV g st.1 H → FR g locs → lv_has ls 5 [(0, .ref x0), (1, .int x1), (2, .int st.2.1), (3, .int st.2.2)] → W p l e rm_X10_harmOf s m args below meth c H locs 0 0 (MQ below (Qi g r) args s 0 0 (frN g)) (F0 m 4 ls [])) : ∀ (n : Nat) (st : Hp × Int32 × Int32), L_X10_harmOf_12 rec4 x0 x1 x3 n st = some r → ∀ (H : Heap) (locs : List Loc) (ls : Array Slot), HV g st.1 H → FR g locs → lv_has ls 5 [(0, .ref x0), (1, .int x1), (2, .int st.2.1), (3, .int x3), (4, .int st.2.2)] → W p l e rm_X10_harmOf s m args below meth c H locs 0 0 (MQ below (Qi g r) args s 0 0 (frN g)) (F0 m 12 ls []) := by
  intro n
  induction n with
  | zero =>
    intro st h
    rw [L_X10_harmOf_12_0] at h
    cases h
  | succ n ih =>
    intro st h H locs ls hV hF hl
    rw [L_X10_harmOf_12_s] at h
    exact w_X10_harmOf_12_b X hr4 ih h hV hF hl
set_option maxHeartbeats 4000000 in
theorem w_X10_harmOf_4_b {p : Program} {l : Launch} {e : Env} {s : State} {m : MethodId} {args : Array Value} {below : List Frame} {meth : Method} {c : Code} {g : Gl} (X : FX g p m c s args meth cX10_harmOf 5 RX10 (some .int) "harmOf") {r : Int32 × Hp} {rec4 : Hp × Int32 × Int32 → Option (Int32 × Hp)} {x0 : Nat} {x1 : Int32} {σ : Hp} {x2 : Int32} {x3 : Int32} (hr4 : ∀ (st : Hp × Int32 × Int32), rec4 st = some r → ∀ (H : Heap) (locs : List Loc) (ls : Array Slot), HV g st.1 H → FR g locs → lv_has ls 5 [(0, .ref x0), (1, .int x1), (2, .int st.2.1), (3, .int st.2.2)] → W p l e rm_X10_harmOf s m args below meth c H locs 0 0 (MQ below (Qi g r) args s 0 0 (frN g)) (F0 m 4 ls [])) {H : Heap} {locs : List Loc} {ls : Array Slot} (h : B_X10_harmOf_4 x0 x1 rec4 σ x2 x3 = some r) (hV : HV g σ H) (hF : FR g locs) (hl : lv_has ls 5 [(0, .ref x0), (1, .int x1), (2, .int x2), (3, .int x3)]) : W p l e rm_X10_harmOf s m args below meth c H locs 0 0 (MQ below (Qi g r) args s 0 0 (frN g)) (F0 m 4 ls []) := by
  unfold B_X10_harmOf_4 at h
  refine lv_iload_n X.1 X.2.1 dX10_harmOf_4 rfl (lv_at hl 3 rfl) ?_
  refine lv_iload_n X.1 X.2.1 dX10_harmOf_5 rfl (lv_at hl 1 rfl) ?_
  refine r_ge (tgt := 73) X.1 X.2.1 dX10_harmOf_6 (by decide) h (fun h => ?_) (fun h => ?_)
  · refine lv_iload_n X.1 X.2.1 dX10_harmOf_73 rfl (lv_at hl 2 rfl) ?_
    exact r_iret X hV hF h dX10_harmOf_74
  · refine lv_iconst (v := 0) X.1 X.2.1 dX10_harmOf_9 (by decide) ?_
    refine lv_istore (lv' := [(4, .int 0), (0, .ref x0), (1, .int x1), (2, .int x2), (3, .int x3)]) X.1 X.2.1 dX10_harmOf_10 hl (by decide) rfl (fun ls hl => ?_)
    exact w_X10_harmOf_12 X hr4 FU (σ, x2, 0) h _ _ _ hV hF (lv_sub hl [1, 2, 3, 4, 0] rfl)
set_option maxHeartbeats 4000000 in
theorem w_X10_harmOf_4 {p : Program} {l : Launch} {e : Env} {s : State} {m : MethodId} {args : Array Value} {below : List Frame} {meth : Method} {c : Code} {g : Gl} (X : FX g p m c s args meth cX10_harmOf 5 RX10 (some .int) "harmOf") {r : Int32 × Hp} {x0 : Nat} {x1 : Int32}  : ∀ (n : Nat) (st : Hp × Int32 × Int32), L_X10_harmOf_4 x0 x1 n st = some r → ∀ (H : Heap) (locs : List Loc) (ls : Array Slot), HV g st.1 H → FR g locs → lv_has ls 5 [(0, .ref x0), (1, .int x1), (2, .int st.2.1), (3, .int st.2.2)] → W p l e rm_X10_harmOf s m args below meth c H locs 0 0 (MQ below (Qi g r) args s 0 0 (frN g)) (F0 m 4 ls []) := by
  intro n
  induction n with
  | zero =>
    intro st h
    rw [L_X10_harmOf_4_0] at h
    cases h
  | succ n ih =>
    intro st h H locs ls hV hF hl
    rw [L_X10_harmOf_4_s] at h
    exact w_X10_harmOf_4_b X  ih h hV hF hl
set_option maxHeartbeats 4000000 in
theorem c_X10_harmOf (l : Launch) {g : Gl} {σ : Hp} {x0 : Nat} {x1 : Int32} {r : Int32 × Hp} (h : F_X10_harmOf σ x0 x1 = some r) : Met l yX10_harmOf (ws_ yX10_harmOf cX10_harmOf 5 (some .int)) rm_X10_harmOf (va_Pc [.ref x0, .int x1] (WV g σ)) (Qi g r) 0 0 (frN g) := by
  refine ct_of (by decide) (Nat.le_of_ble_eq_true rfl) ?_
  intro p e s m below meth c ls X hV hl
  have hF : FR g [] := FR_nil
  unfold F_X10_harmOf at h
  have hl : lv_has ls 5 [(0, .ref x0), (1, .int x1)] := hl
  have X : FX g p m c s _ meth cX10_harmOf 5 RX10 (some .int) "harmOf" := X
  obtain ⟨-, h⟩ := gd_inv h
  refine lv_iconst (v := 0) X.1 X.2.1 dX10_harmOf_0 (by decide) ?_
  refine lv_istore_n (lv' := [(2, .int 0), (0, .ref x0), (1, .int x1)]) X.1 X.2.1 dX10_harmOf_1 rfl hl (by decide) rfl (fun ls hl => ?_)
  refine lv_iconst (v := 0) X.1 X.2.1 dX10_harmOf_2 (by decide) ?_
  refine lv_istore_n (lv' := [(3, .int 0), (2, .int 0), (0, .ref x0), (1, .int x1)]) X.1 X.2.1 dX10_harmOf_3 rfl hl (by decide) rfl (fun ls hl => ?_)
  exact w_X10_harmOf_4 X  FU (σ, 0, 0) h _ _ _ hV hF (lv_sub hl [2, 3, 1, 0] rfl)
/-! PalaceOfRoomsModel.findOrder -/
theorem dX10_findOrder_0 : decode cX10_findOrder 0 = .ok (.aload_n 0, 1) := by decide +kernel
theorem dX10_findOrder_1 : decode cX10_findOrder 1 = .ok (.iconst (-1), 1) := by decide +kernel
theorem dX10_findOrder_2 : decode cX10_findOrder 2 = .ok (.putfield 225, 3) := by decide +kernel
theorem dX10_findOrder_5 : decode cX10_findOrder 5 = .ok (.iconst 0, 1) := by decide +kernel
theorem dX10_findOrder_6 : decode cX10_findOrder 6 = .ok (.istore_n 3, 1) := by decide +kernel
theorem dX10_findOrder_7 : decode cX10_findOrder 7 = .ok (.aload_n 0, 1) := by decide +kernel
theorem dX10_findOrder_8 : decode cX10_findOrder 8 = .ok (.getfield 74, 3) := by decide +kernel
theorem dX10_findOrder_11 : decode cX10_findOrder 11 = .ok (.iconst 0, 1) := by decide +kernel
theorem dX10_findOrder_12 : decode cX10_findOrder 12 = .ok (.iconst (-1), 1) := by decide +kernel
theorem dX10_findOrder_13 : decode cX10_findOrder 13 = .ok (.iastore, 1) := by decide +kernel
theorem dX10_findOrder_14 : decode cX10_findOrder 14 = .ok (.iload_n 3, 1) := by decide +kernel
theorem dX10_findOrder_15 : decode cX10_findOrder 15 = .ok (.ifCond .lt 184, 3) := by decide +kernel
theorem dX10_findOrder_18 : decode cX10_findOrder 18 = .ok (.aload_n 0, 1) := by decide +kernel
theorem dX10_findOrder_19 : decode cX10_findOrder 19 = .ok (.getfield 74, 3) := by decide +kernel
theorem dX10_findOrder_22 : decode cX10_findOrder 22 = .ok (.iload_n 3, 1) := by decide +kernel
theorem dX10_findOrder_23 : decode cX10_findOrder 23 = .ok (.dup2, 1) := by decide +kernel
theorem dX10_findOrder_24 : decode cX10_findOrder 24 = .ok (.iaload, 1) := by decide +kernel
theorem dX10_findOrder_25 : decode cX10_findOrder 25 = .ok (.iconst 1, 1) := by decide +kernel
theorem dX10_findOrder_26 : decode cX10_findOrder 26 = .ok (.iadd, 1) := by decide +kernel
theorem dX10_findOrder_27 : decode cX10_findOrder 27 = .ok (.iastore, 1) := by decide +kernel
theorem dX10_findOrder_28 : decode cX10_findOrder 28 = .ok (.iconst 1, 1) := by decide +kernel
theorem dX10_findOrder_29 : decode cX10_findOrder 29 = .ok (.istore 4, 2) := by decide +kernel
theorem dX10_findOrder_31 : decode cX10_findOrder 31 = .ok (.iconst 0, 1) := by decide +kernel
theorem dX10_findOrder_32 : decode cX10_findOrder 32 = .ok (.istore 5, 2) := by decide +kernel
theorem dX10_findOrder_34 : decode cX10_findOrder 34 = .ok (.iload 5, 2) := by decide +kernel
theorem dX10_findOrder_36 : decode cX10_findOrder 36 = .ok (.iload_n 3, 1) := by decide +kernel
theorem dX10_findOrder_37 : decode cX10_findOrder 37 = .ok (.if_icmp .ge 37, 3) := by decide +kernel
theorem dX10_findOrder_40 : decode cX10_findOrder 40 = .ok (.iload 4, 2) := by decide +kernel
theorem dX10_findOrder_42 : decode cX10_findOrder 42 = .ok (.ifCond .eq 23, 3) := by decide +kernel
theorem dX10_findOrder_45 : decode cX10_findOrder 45 = .ok (.aload_n 0, 1) := by decide +kernel
theorem dX10_findOrder_46 : decode cX10_findOrder 46 = .ok (.getfield 74, 3) := by decide +kernel
theorem dX10_findOrder_49 : decode cX10_findOrder 49 = .ok (.iload 5, 2) := by decide +kernel
theorem dX10_findOrder_51 : decode cX10_findOrder 51 = .ok (.iaload, 1) := by decide +kernel
theorem dX10_findOrder_52 : decode cX10_findOrder 52 = .ok (.aload_n 0, 1) := by decide +kernel
theorem dX10_findOrder_53 : decode cX10_findOrder 53 = .ok (.getfield 74, 3) := by decide +kernel
theorem dX10_findOrder_56 : decode cX10_findOrder 56 = .ok (.iload_n 3, 1) := by decide +kernel
theorem dX10_findOrder_57 : decode cX10_findOrder 57 = .ok (.iaload, 1) := by decide +kernel
theorem dX10_findOrder_58 : decode cX10_findOrder 58 = .ok (.if_icmp .eq 7, 3) := by decide +kernel
theorem dX10_findOrder_61 : decode cX10_findOrder 61 = .ok (.iconst 1, 1) := by decide +kernel
theorem dX10_findOrder_62 : decode cX10_findOrder 62 = .ok (.goto 4, 3) := by decide +kernel
theorem dX10_findOrder_65 : decode cX10_findOrder 65 = .ok (.iconst 0, 1) := by decide +kernel
theorem dX10_findOrder_66 : decode cX10_findOrder 66 = .ok (.istore 4, 2) := by decide +kernel
theorem dX10_findOrder_68 : decode cX10_findOrder 68 = .ok (.iinc 5 1, 3) := by decide +kernel
theorem dX10_findOrder_71 : decode cX10_findOrder 71 = .ok (.goto (-37), 3) := by decide +kernel
theorem dX10_findOrder_74 : decode cX10_findOrder 74 = .ok (.aload_n 0, 1) := by decide +kernel
theorem dX10_findOrder_75 : decode cX10_findOrder 75 = .ok (.getfield 74, 3) := by decide +kernel
theorem dX10_findOrder_78 : decode cX10_findOrder 78 = .ok (.iload_n 3, 1) := by decide +kernel
theorem dX10_findOrder_79 : decode cX10_findOrder 79 = .ok (.iaload, 1) := by decide +kernel
theorem dX10_findOrder_80 : decode cX10_findOrder 80 = .ok (.iload_n 1, 1) := by decide +kernel
theorem dX10_findOrder_81 : decode cX10_findOrder 81 = .ok (.if_icmp .ne 9, 3) := by decide +kernel
theorem dX10_findOrder_84 : decode cX10_findOrder 84 = .ok (.iinc 3 (-1), 3) := by decide +kernel
theorem dX10_findOrder_87 : decode cX10_findOrder 87 = .ok (.goto 109, 3) := by decide +kernel
theorem dX10_findOrder_90 : decode cX10_findOrder 90 = .ok (.iload 4, 2) := by decide +kernel
theorem dX10_findOrder_92 : decode cX10_findOrder 92 = .ok (.ifCond .eq 89, 3) := by decide +kernel
theorem dX10_findOrder_95 : decode cX10_findOrder 95 = .ok (.iload_n 3, 1) := by decide +kernel
theorem dX10_findOrder_96 : decode cX10_findOrder 96 = .ok (.iload_n 1, 1) := by decide +kernel
theorem dX10_findOrder_97 : decode cX10_findOrder 97 = .ok (.iconst 1, 1) := by decide +kernel
theorem dX10_findOrder_98 : decode cX10_findOrder 98 = .ok (.isub, 1) := by decide +kernel
theorem dX10_findOrder_99 : decode cX10_findOrder 99 = .ok (.if_icmp .ne 82, 3) := by decide +kernel
theorem dX10_findOrder_102 : decode cX10_findOrder 102 = .ok (.iload_n 2, 1) := by decide +kernel
theorem dX10_findOrder_103 : decode cX10_findOrder 103 = .ok (.ifCond .eq 11, 3) := by decide +kernel
theorem dX10_findOrder_106 : decode cX10_findOrder 106 = .ok (.aload_n 0, 1) := by decide +kernel
theorem dX10_findOrder_107 : decode cX10_findOrder 107 = .ok (.iload_n 1, 1) := by decide +kernel
theorem dX10_findOrder_108 : decode cX10_findOrder 108 = .ok (.invokevirtual 228, 3) := by decide +kernel
theorem dX10_findOrder_111 : decode cX10_findOrder 111 = .ok (.goto 8, 3) := by decide +kernel
theorem dX10_findOrder_114 : decode cX10_findOrder 114 = .ok (.aload_n 0, 1) := by decide +kernel
theorem dX10_findOrder_115 : decode cX10_findOrder 115 = .ok (.iload_n 1, 1) := by decide +kernel
theorem dX10_findOrder_116 : decode cX10_findOrder 116 = .ok (.invokevirtual 231, 3) := by decide +kernel
theorem dX10_findOrder_119 : decode cX10_findOrder 119 = .ok (.istore 5, 2) := by decide +kernel
theorem dX10_findOrder_121 : decode cX10_findOrder 121 = .ok (.aload_n 0, 1) := by decide +kernel
theorem dX10_findOrder_122 : decode cX10_findOrder 122 = .ok (.getfield 225, 3) := by decide +kernel
theorem dX10_findOrder_125 : decode cX10_findOrder 125 = .ok (.iconst (-1), 1) := by decide +kernel
theorem dX10_findOrder_126 : decode cX10_findOrder 126 = .ok (.if_icmp .eq 12, 3) := by decide +kernel
theorem dX10_findOrder_129 : decode cX10_findOrder 129 = .ok (.iload 5, 2) := by decide +kernel
theorem dX10_findOrder_131 : decode cX10_findOrder 131 = .ok (.aload_n 0, 1) := by decide +kernel
theorem dX10_findOrder_132 : decode cX10_findOrder 132 = .ok (.getfield 225, 3) := by decide +kernel
theorem dX10_findOrder_135 : decode cX10_findOrder 135 = .ok (.if_icmp .ge 43, 3) := by decide +kernel
theorem dX10_findOrder_138 : decode cX10_findOrder 138 = .ok (.aload_n 0, 1) := by decide +kernel
theorem dX10_findOrder_139 : decode cX10_findOrder 139 = .ok (.iload 5, 2) := by decide +kernel
theorem dX10_findOrder_141 : decode cX10_findOrder 141 = .ok (.putfield 225, 3) := by decide +kernel
theorem dX10_findOrder_144 : decode cX10_findOrder 144 = .ok (.iconst 0, 1) := by decide +kernel
theorem dX10_findOrder_145 : decode cX10_findOrder 145 = .ok (.istore 6, 2) := by decide +kernel
theorem dX10_findOrder_147 : decode cX10_findOrder 147 = .ok (.iload 6, 2) := by decide +kernel
theorem dX10_findOrder_149 : decode cX10_findOrder 149 = .ok (.iload_n 1, 1) := by decide +kernel
theorem dX10_findOrder_150 : decode cX10_findOrder 150 = .ok (.if_icmp .ge 28, 3) := by decide +kernel
theorem dX10_findOrder_153 : decode cX10_findOrder 153 = .ok (.aload_n 0, 1) := by decide +kernel
theorem dX10_findOrder_154 : decode cX10_findOrder 154 = .ok (.getfield 77, 3) := by decide +kernel
theorem dX10_findOrder_157 : decode cX10_findOrder 157 = .ok (.iload 6, 2) := by decide +kernel
theorem dX10_findOrder_159 : decode cX10_findOrder 159 = .ok (.aload_n 0, 1) := by decide +kernel
theorem dX10_findOrder_160 : decode cX10_findOrder 160 = .ok (.getfield 71, 3) := by decide +kernel
theorem dX10_findOrder_163 : decode cX10_findOrder 163 = .ok (.aload_n 0, 1) := by decide +kernel
theorem dX10_findOrder_164 : decode cX10_findOrder 164 = .ok (.getfield 74, 3) := by decide +kernel
theorem dX10_findOrder_167 : decode cX10_findOrder 167 = .ok (.iload 6, 2) := by decide +kernel
theorem dX10_findOrder_169 : decode cX10_findOrder 169 = .ok (.iaload, 1) := by decide +kernel
theorem dX10_findOrder_170 : decode cX10_findOrder 170 = .ok (.iaload, 1) := by decide +kernel
theorem dX10_findOrder_171 : decode cX10_findOrder 171 = .ok (.iastore, 1) := by decide +kernel
theorem dX10_findOrder_172 : decode cX10_findOrder 172 = .ok (.iinc 6 1, 3) := by decide +kernel
theorem dX10_findOrder_175 : decode cX10_findOrder 175 = .ok (.goto (-28), 3) := by decide +kernel
theorem dX10_findOrder_178 : decode cX10_findOrder 178 = .ok (.goto 18, 3) := by decide +kernel
theorem dX10_findOrder_181 : decode cX10_findOrder 181 = .ok (.iload 4, 2) := by decide +kernel
theorem dX10_findOrder_183 : decode cX10_findOrder 183 = .ok (.ifCond .eq 13, 3) := by decide +kernel
theorem dX10_findOrder_186 : decode cX10_findOrder 186 = .ok (.iinc 3 1, 3) := by decide +kernel
theorem dX10_findOrder_189 : decode cX10_findOrder 189 = .ok (.aload_n 0, 1) := by decide +kernel
theorem dX10_findOrder_190 : decode cX10_findOrder 190 = .ok (.getfield 74, 3) := by decide +kernel
theorem dX10_findOrder_193 : decode cX10_findOrder 193 = .ok (.iload_n 3, 1) := by decide +kernel
theorem dX10_findOrder_194 : decode cX10_findOrder 194 = .ok (.iconst (-1), 1) := by decide +kernel
theorem dX10_findOrder_195 : decode cX10_findOrder 195 = .ok (.iastore, 1) := by decide +kernel
theorem dX10_findOrder_196 : decode cX10_findOrder 196 = .ok (.goto (-182), 3) := by decide +kernel
theorem dX10_findOrder_199 : decode cX10_findOrder 199 = .ok (.return_, 1) := by decide +kernel
theorem yd_X10_findOrder : yX10_findOrder.cls ≠ "java/lang/invoke/MethodHandle" ∧ yX10_findOrder.cls ≠ "java/lang/invoke/VarHandle" ∧ (parseMethodDescriptor yX10_findOrder.desc).map (fun d => d.parameters.length) = some 2 := by decide +kernel
theorem fl_X10_77_10 : FLk RX10 77 10 33 "[I" := ⟨RX10, TX10, 39, "PalaceOfRoomsModel", rfl, by decide, (fun q => by have h1 := q.1; have h2 := q.2; omega), rfl, in_X10, Or.inl q1012, Or.inl rfl⟩
theorem fl_X10_225_10 : FLk RX10 225 10 34 "I" := ⟨RX10, TX10, 39, "PalaceOfRoomsModel", rfl, by decide, (fun q => by have h1 := q.1; have h2 := q.2; omega), rfl, in_X10, Or.inl q1013, Or.inl rfl⟩
theorem fp_X10_225_10 : FPk RX10 225 10 34 "I" false := ⟨RX10, TX10, 39, "PalaceOfRoomsModel", tyX10, rfl, by decide, (fun q => by have h1 := q.1; have h2 := q.2; omega), rfl, in_X10, tyX10_ok, (fun a ha b hb h => Or.inl (nmX10 a ha b hb h)), rfl, (fun q => by cases q), (Or.inl q1013), Or.inl rfl⟩
abbrev rm_X10_findOrder : Room := { frames := 2, cells := 0, slots := 0, locals := 49 }
set_option maxHeartbeats 4000000 in
theorem w_X10_findOrder_147_b {p : Program} {l : Launch} {e : Env} {s : State} {m : MethodId} {args : Array Value} {below : List Frame} {meth : Method} {c : Code} {g : Gl} (X : FX g p m c s args meth cX10_findOrder 7 RX10 none "findOrder") {r : Hp} {rec14 : Hp × Int32 → Option (Hp)} {rec147 : Hp × Int32 → Option (Hp)} {x0 : Nat} {x1 : Int32} {x2 : Int32} {x3 : Int32} {σ : Hp} {x6 : Int32} (hr14 : ∀ (st : Hp × Int32), rec14 st = some r → ∀ (H : Heap) (locs : List Loc) (ls : Array Slot), HV g st.1 H → FR g locs → lv_has ls 7 [(0, .ref x0), (1, .int x1), (2, .int x2), (3, .int st.2)] → W p l e rm_X10_findOrder s m args below meth c H locs 0 0 (MQ below (Qv g r) args s 0 0 (frN g)) (F0 m 14 ls [])) (hr147 : ∀ (st : Hp × Int32), rec147 st = some r → ∀ (H : Heap) (locs : List Loc) (ls : Array Slot), HV g st.1 H → FR g locs → lv_has ls 7 [(0, .ref x0), (1, .int x1), (2, .int x2), (3, .int x3), (6, .int st.2)] → W p l e rm_X10_findOrder s m args below meth c H locs 0 0 (MQ below (Qv g r) args s 0 0 (frN g)) (F0 m 147 ls [])) {H : Heap} {locs : List Loc} {ls : Array Slot} (h : B_X10_findOrder_147 rec14 x0 x1 x2 x3 rec147 σ x6 = some r) (hV : HV g σ H) (hF : FR g locs) (hl : lv_has ls 7 [(0, .ref x0), (1, .int x1), (2, .int x2), (3, .int x3), (6, .int x6)]) : W p l e rm_X10_findOrder s m args below meth c H locs 0 0 (MQ below (Qv g r) args s 0 0 (frN g)) (F0 m 147 ls []) := by
  unfold B_X10_findOrder_147 at h
  refine lv_iload X.1 X.2.1 dX10_findOrder_147 (lv_at hl 4 rfl) ?_
  refine lv_iload_n X.1 X.2.1 dX10_findOrder_149 rfl (lv_at hl 1 rfl) ?_
  refine r_ge (tgt := 178) X.1 X.2.1 dX10_findOrder_150 (by decide) h (fun h => ?_) (fun h => ?_)
  · refine lv_goto (tgt := 196) X.1 X.2.1 dX10_findOrder_178 (by decide) ?_
    refine lv_goto (tgt := 14) X.1 X.2.1 dX10_findOrder_196 (by decide) ?_
    exact hr14 (σ, x3) h _ _ _ hV hF (lv_sub hl [0, 1, 2, 3] rfl)
  · refine lv_aload_n X.1 X.2.1 dX10_findOrder_153 rfl (lv_at hl 0 rfl) ?_
    refine r_gR X hV fl_X10_77_10 (by decide) dX10_findOrder_154 h (fun v1 h => ?_)
    refine lv_iload X.1 X.2.1 dX10_findOrder_157 (lv_at hl 4 rfl) ?_
    refine lv_aload_n X.1 X.2.1 dX10_findOrder_159 rfl (lv_at hl 0 rfl) ?_
    refine r_gR X hV fl_X10_71_10 (by decide) dX10_findOrder_160 h (fun v2 h => ?_)
    refine lv_aload_n X.1 X.2.1 dX10_findOrder_163 rfl (lv_at hl 0 rfl) ?_
    refine r_gR X hV fl_X10_74_10 (by decide) dX10_findOrder_164 h (fun v3 h => ?_)
    refine lv_iload X.1 X.2.1 dX10_findOrder_167 (lv_at hl 4 rfl) ?_
    refine r_ia X hV dX10_findOrder_169 h (fun v4 h => ?_)
    refine r_ia X hV dX10_findOrder_170 h (fun v5 h => ?_)
    refine r_is X hV hF dX10_findOrder_171 h (fun s1 H locs hV hF h => ?_)
    refine lv_iinc (v := x6 + 1) (lv' := [(6, .int (x6 + 1)), (0, .ref x0), (1, .int x1), (2, .int x2), (3, .int x3)]) X.1 X.2.1 dX10_findOrder_172 hl (k := 4) rfl rfl (by decide) rfl (fun ls hl => ?_)
    refine lv_goto (tgt := 147) X.1 X.2.1 dX10_findOrder_175 (by decide) ?_
    exact hr147 (s1, x6 + 1) h _ _ _ hV hF (lv_sub hl [1, 2, 3, 4, 0] rfl)
set_option maxHeartbeats 4000000 in
theorem w_X10_findOrder_147 {p : Program} {l : Launch} {e : Env} {s : State} {m : MethodId} {args : Array Value} {below : List Frame} {meth : Method} {c : Code} {g : Gl} (X : FX g p m c s args meth cX10_findOrder 7 RX10 none "findOrder") {r : Hp} {rec14 : Hp × Int32 → Option (Hp)} {x0 : Nat} {x1 : Int32} {x2 : Int32} {x3 : Int32} (hr14 : ∀ (st : Hp × Int32), rec14 st = some r → ∀ (H : Heap) (locs : List Loc) (ls : Array Slot), HV g st.1 H → FR g locs → lv_has ls 7 [(0, .ref x0), (1, .int x1), (2, .int x2), (3, .int st.2)] → W p l e rm_X10_findOrder s m args below meth c H locs 0 0 (MQ below (Qv g r) args s 0 0 (frN g)) (F0 m 14 ls [])) : ∀ (n : Nat) (st : Hp × Int32), L_X10_findOrder_147 rec14 x0 x1 x2 x3 n st = some r → ∀ (H : Heap) (locs : List Loc) (ls : Array Slot), HV g st.1 H → FR g locs → lv_has ls 7 [(0, .ref x0), (1, .int x1), (2, .int x2), (3, .int x3), (6, .int st.2)] → W p l e rm_X10_findOrder s m args below meth c H locs 0 0 (MQ below (Qv g r) args s 0 0 (frN g)) (F0 m 147 ls []) := by
  intro n
  induction n with
  | zero =>
    intro st h
    rw [L_X10_findOrder_147_0] at h
    cases h
  | succ n ih =>
    intro st h H locs ls hV hF hl
    rw [L_X10_findOrder_147_s] at h
    exact w_X10_findOrder_147_b X hr14 ih h hV hF hl
set_option maxHeartbeats 4000000 in
theorem w_X10_findOrder_119 {p : Program} {l : Launch} {e : Env} {s : State} {m : MethodId} {args : Array Value} {below : List Frame} {meth : Method} {c : Code} {g : Gl} (X : FX g p m c s args meth cX10_findOrder 7 RX10 none "findOrder") {r : Hp} {rec14 : Hp × Int32 → Option (Hp)} {σ : Hp} {x0 : Nat} {x1 : Int32} {x2 : Int32} {x3 : Int32} {y0 : Int32} (hr14 : ∀ (st : Hp × Int32), rec14 st = some r → ∀ (H : Heap) (locs : List Loc) (ls : Array Slot), HV g st.1 H → FR g locs → lv_has ls 7 [(0, .ref x0), (1, .int x1), (2, .int x2), (3, .int st.2)] → W p l e rm_X10_findOrder s m args below meth c H locs 0 0 (MQ below (Qv g r) args s 0 0 (frN g)) (F0 m 14 ls [])) {H : Heap} {locs : List Loc} {ls : Array Slot} (h : F_X10_findOrder_119 rec14 σ x0 x1 x2 x3 y0 = some r) (hV : HV g σ H) (hF : FR g locs) (hl : lv_has ls 7 [(0, .ref x0), (1, .int x1), (2, .int x2), (3, .int x3)]) : W p l e rm_X10_findOrder s m args below meth c H locs 0 0 (MQ below (Qv g r) args s 0 0 (frN g)) (F0 m 119 ls [.int y0]) := by
  unfold F_X10_findOrder_119 at h
  refine lv_istore (lv' := [(5, .int y0), (0, .ref x0), (1, .int x1), (2, .int x2), (3, .int x3)]) X.1 X.2.1 dX10_findOrder_119 hl (by decide) rfl (fun ls hl => ?_)
  refine lv_aload_n X.1 X.2.1 dX10_findOrder_121 rfl (lv_at hl 1 rfl) ?_
  refine r_gI X hV fl_X10_225_10 dX10_findOrder_122 h (fun v1 h => ?_)
  refine lv_iconst (v := (-1)) X.1 X.2.1 dX10_findOrder_125 (by decide) ?_
  refine r_eq (tgt := 138) X.1 X.2.1 dX10_findOrder_126 (by decide) h (fun h => ?_) (fun h => ?_)
  · refine lv_aload_n X.1 X.2.1 dX10_findOrder_138 rfl (lv_at hl 1 rfl) ?_
    refine lv_iload X.1 X.2.1 dX10_findOrder_139 (lv_at hl 0 rfl) ?_
    refine r_pI X hV hF fp_X10_225_10 (fun q => by cases q) dX10_findOrder_141 h (fun s1 H locs hV hF h => ?_)
    refine lv_iconst (v := 0) X.1 X.2.1 dX10_findOrder_144 (by decide) ?_
    refine lv_istore (lv' := [(6, .int 0), (5, .int y0), (0, .ref x0), (1, .int x1), (2, .int x2), (3, .int x3)]) X.1 X.2.1 dX10_findOrder_145 hl (by decide) rfl (fun ls hl => ?_)
    exact w_X10_findOrder_147 X hr14 FU (s1, 0) h _ _ _ hV hF (lv_sub hl [2, 3, 4, 5, 0] rfl)
  · refine lv_iload X.1 X.2.1 dX10_findOrder_129 (lv_at hl 0 rfl) ?_
    refine lv_aload_n X.1 X.2.1 dX10_findOrder_131 rfl (lv_at hl 1 rfl) ?_
    refine r_gI X hV fl_X10_225_10 dX10_findOrder_132 h (fun v2 h => ?_)
    refine r_ge (tgt := 178) X.1 X.2.1 dX10_findOrder_135 (by decide) h (fun h => ?_) (fun h => ?_)
    · refine lv_goto (tgt := 196) X.1 X.2.1 dX10_findOrder_178 (by decide) ?_
      refine lv_goto (tgt := 14) X.1 X.2.1 dX10_findOrder_196 (by decide) ?_
      exact hr14 (σ, x3) h _ _ _ hV hF (lv_sub hl [1, 2, 3, 4] rfl)
    · refine lv_aload_n X.1 X.2.1 dX10_findOrder_138 rfl (lv_at hl 1 rfl) ?_
      refine lv_iload X.1 X.2.1 dX10_findOrder_139 (lv_at hl 0 rfl) ?_
      refine r_pI X hV hF fp_X10_225_10 (fun q => by cases q) dX10_findOrder_141 h (fun s2 H locs hV hF h => ?_)
      refine lv_iconst (v := 0) X.1 X.2.1 dX10_findOrder_144 (by decide) ?_
      refine lv_istore (lv' := [(6, .int 0), (5, .int y0), (0, .ref x0), (1, .int x1), (2, .int x2), (3, .int x3)]) X.1 X.2.1 dX10_findOrder_145 hl (by decide) rfl (fun ls hl => ?_)
      exact w_X10_findOrder_147 X hr14 FU (s2, 0) h _ _ _ hV hF (lv_sub hl [2, 3, 4, 5, 0] rfl)
set_option maxHeartbeats 4000000 in
theorem w_X10_findOrder_74 {p : Program} {l : Launch} {e : Env} {s : State} {m : MethodId} {args : Array Value} {below : List Frame} {meth : Method} {c : Code} {g : Gl} (X : FX g p m c s args meth cX10_findOrder 7 RX10 none "findOrder") {r : Hp} {rec14 : Hp × Int32 → Option (Hp)} {σ : Hp} {x0 : Nat} {x1 : Int32} {x2 : Int32} {x3 : Int32} {x4 : Int32} (hr14 : ∀ (st : Hp × Int32), rec14 st = some r → ∀ (H : Heap) (locs : List Loc) (ls : Array Slot), HV g st.1 H → FR g locs → lv_has ls 7 [(0, .ref x0), (1, .int x1), (2, .int x2), (3, .int st.2)] → W p l e rm_X10_findOrder s m args below meth c H locs 0 0 (MQ below (Qv g r) args s 0 0 (frN g)) (F0 m 14 ls [])) {H : Heap} {locs : List Loc} {ls : Array Slot} (h : F_X10_findOrder_74 rec14 σ x0 x1 x2 x3 x4 = some r) (hV : HV g σ H) (hF : FR g locs) (hl : lv_has ls 7 [(0, .ref x0), (1, .int x1), (2, .int x2), (3, .int x3), (4, .int x4)]) : W p l e rm_X10_findOrder s m args below meth c H locs 0 0 (MQ below (Qv g r) args s 0 0 (frN g)) (F0 m 74 ls []) := by
  unfold F_X10_findOrder_74 at h
  refine lv_aload_n X.1 X.2.1 dX10_findOrder_74 rfl (lv_at hl 0 rfl) ?_
  refine r_gR X hV fl_X10_74_10 (by decide) dX10_findOrder_75 h (fun v1 h => ?_)
  refine lv_iload_n X.1 X.2.1 dX10_findOrder_78 rfl (lv_at hl 3 rfl) ?_
  refine r_ia X hV dX10_findOrder_79 h (fun v2 h => ?_)
  refine lv_iload_n X.1 X.2.1 dX10_findOrder_80 rfl (lv_at hl 1 rfl) ?_
  refine r_ne (tgt := 90) X.1 X.2.1 dX10_findOrder_81 (by decide) h (fun h => ?_) (fun h => ?_)
  · refine lv_iload X.1 X.2.1 dX10_findOrder_90 (lv_at hl 4 rfl) ?_
    refine r_ifeq (tgt := 181) X.1 X.2.1 dX10_findOrder_92 (by decide) h (fun h => ?_) (fun h => ?_)
    · refine lv_iload X.1 X.2.1 dX10_findOrder_181 (lv_at hl 4 rfl) ?_
      refine r_ifeq (tgt := 196) X.1 X.2.1 dX10_findOrder_183 (by decide) h (fun h => ?_) (fun h => ?_)
      · refine lv_goto (tgt := 14) X.1 X.2.1 dX10_findOrder_196 (by decide) ?_
        exact hr14 (σ, x3) h _ _ _ hV hF (lv_sub hl [0, 1, 2, 3] rfl)
      · refine lv_iinc (v := x3 + 1) (lv' := [(3, .int (x3 + 1)), (0, .ref x0), (1, .int x1), (2, .int x2), (4, .int x4)]) X.1 X.2.1 dX10_findOrder_186 hl (k := 3) rfl rfl (by decide) rfl (fun ls hl => ?_)
        refine lv_aload_n X.1 X.2.1 dX10_findOrder_189 rfl (lv_at hl 1 rfl) ?_
        refine r_gR X hV fl_X10_74_10 (by decide) dX10_findOrder_190 h (fun v3 h => ?_)
        refine lv_iload_n X.1 X.2.1 dX10_findOrder_193 rfl (lv_at hl 0 rfl) ?_
        refine lv_iconst (v := (-1)) X.1 X.2.1 dX10_findOrder_194 (by decide) ?_
        refine r_is X hV hF dX10_findOrder_195 h (fun s1 H locs hV hF h => ?_)
        refine lv_goto (tgt := 14) X.1 X.2.1 dX10_findOrder_196 (by decide) ?_
        exact hr14 (s1, x3 + 1) h _ _ _ hV hF (lv_sub hl [1, 2, 3, 0] rfl)
    · refine lv_iload_n X.1 X.2.1 dX10_findOrder_95 rfl (lv_at hl 3 rfl) ?_
      refine lv_iload_n X.1 X.2.1 dX10_findOrder_96 rfl (lv_at hl 1 rfl) ?_
      refine lv_iconst (v := 1) X.1 X.2.1 dX10_findOrder_97 (by decide) ?_
      refine lv_isub X.1 X.2.1 dX10_findOrder_98 ?_
      refine r_ne (tgt := 181) X.1 X.2.1 dX10_findOrder_99 (by decide) h (fun h => ?_) (fun h => ?_)
      · refine lv_iload X.1 X.2.1 dX10_findOrder_181 (lv_at hl 4 rfl) ?_
        refine r_ifeq (tgt := 196) X.1 X.2.1 dX10_findOrder_183 (by decide) h (fun h => ?_) (fun h => ?_)
        · refine lv_goto (tgt := 14) X.1 X.2.1 dX10_findOrder_196 (by decide) ?_
          exact hr14 (σ, x3) h _ _ _ hV hF (lv_sub hl [0, 1, 2, 3] rfl)
        · refine lv_iinc (v := x3 + 1) (lv' := [(3, .int (x3 + 1)), (0, .ref x0), (1, .int x1), (2, .int x2), (4, .int x4)]) X.1 X.2.1 dX10_findOrder_186 hl (k := 3) rfl rfl (by decide) rfl (fun ls hl => ?_)
          refine lv_aload_n X.1 X.2.1 dX10_findOrder_189 rfl (lv_at hl 1 rfl) ?_
          refine r_gR X hV fl_X10_74_10 (by decide) dX10_findOrder_190 h (fun v4 h => ?_)
          refine lv_iload_n X.1 X.2.1 dX10_findOrder_193 rfl (lv_at hl 0 rfl) ?_
          refine lv_iconst (v := (-1)) X.1 X.2.1 dX10_findOrder_194 (by decide) ?_
          refine r_is X hV hF dX10_findOrder_195 h (fun s2 H locs hV hF h => ?_)
          refine lv_goto (tgt := 14) X.1 X.2.1 dX10_findOrder_196 (by decide) ?_
          exact hr14 (s2, x3 + 1) h _ _ _ hV hF (lv_sub hl [1, 2, 3, 0] rfl)
      · refine lv_iload_n X.1 X.2.1 dX10_findOrder_102 rfl (lv_at hl 2 rfl) ?_
        refine r_ifeq (tgt := 114) X.1 X.2.1 dX10_findOrder_103 (by decide) h (fun h => ?_) (fun h => ?_)
        · refine lv_aload_n X.1 X.2.1 dX10_findOrder_114 rfl (lv_at hl 0 rfl) ?_
          refine lv_iload_n X.1 X.2.1 dX10_findOrder_115 rfl (lv_at hl 1 rfl) ?_
          obtain ⟨v5, s3, hc, h⟩ := b2_inv h
          refine r_ci (va_runV (C := RX10) (As := [.int x1]) (rest := []) (cfX X) (c_X10_harmOf l hc) (cwV 1 X.2.2.2.2.1 (lw_V q1278 q1280 qs42 q59 q1281) rfl rfl rfl ⟨rfl, yd_X10_harmOf⟩ ⟨Nat.le_of_ble_eq_true rfl, Nat.le_of_ble_eq_true rfl⟩) (preV X hV (F_X10_harmOf_g hc) rfl) rfl rfl hl.1 rfl (lv_room (Nat.le_of_ble_eq_true rfl)) dX10_findOrder_116 ⟨(Nat.le_of_ble_eq_true rfl), (Nat.le_of_ble_eq_true rfl)⟩) hF (fun H locs hV hF => ?_)
          exact w_X10_findOrder_119 X hr14 h hV hF (lv_sub hl [0, 1, 2, 3] rfl)
        · refine lv_aload_n X.1 X.2.1 dX10_findOrder_106 rfl (lv_at hl 0 rfl) ?_
          refine lv_iload_n X.1 X.2.1 dX10_findOrder_107 rfl (lv_at hl 1 rfl) ?_
          obtain ⟨v6, s4, hc, h⟩ := b2_inv h
          refine r_ci (va_runV (C := RX10) (As := [.int x1]) (rest := []) (cfX X) (c_X10_speechOf l hc) (cwV 1 X.2.2.2.2.1 (lw_V q1274 q1276 qs41 q59 q1277) rfl rfl rfl ⟨rfl, yd_X10_speechOf⟩ ⟨Nat.le_of_ble_eq_true rfl, Nat.le_of_ble_eq_true rfl⟩) (preV X hV (F_X10_speechOf_g hc) rfl) rfl rfl hl.1 rfl (lv_room (Nat.le_of_ble_eq_true rfl)) dX10_findOrder_108 ⟨(Nat.le_of_ble_eq_true rfl), (Nat.le_of_ble_eq_true rfl)⟩) hF (fun H locs hV hF => ?_)
          refine lv_goto (tgt := 119) X.1 X.2.1 dX10_findOrder_111 (by decide) ?_
          exact w_X10_findOrder_119 X hr14 h hV hF (lv_sub hl [0, 1, 2, 3] rfl)
  · refine lv_iinc (v := x3 + (-1)) (lv' := [(3, .int (x3 + (-1))), (0, .ref x0), (1, .int x1), (2, .int x2), (4, .int x4)]) X.1 X.2.1 dX10_findOrder_84 hl (k := 3) rfl rfl (by decide) rfl (fun ls hl => ?_)
    refine lv_goto (tgt := 196) X.1 X.2.1 dX10_findOrder_87 (by decide) ?_
    refine lv_goto (tgt := 14) X.1 X.2.1 dX10_findOrder_196 (by decide) ?_
    exact hr14 (σ, x3 + (-1)) h _ _ _ hV hF (lv_sub hl [1, 2, 3, 0] rfl)
set_option maxHeartbeats 4000000 in
theorem w_X10_findOrder_34_b {p : Program} {l : Launch} {e : Env} {s : State} {m : MethodId} {args : Array Value} {below : List Frame} {meth : Method} {c : Code} {g : Gl} (X : FX g p m c s args meth cX10_findOrder 7 RX10 none "findOrder") {r : Hp} {rec14 : Hp × Int32 → Option (Hp)} {rec34 : Int32 × Int32 → Option (Hp)} {σ : Hp} {x0 : Nat} {x1 : Int32} {x2 : Int32} {x3 : Int32} {x4 : Int32} {x5 : Int32} (hr14 : ∀ (st : Hp × Int32), rec14 st = some r → ∀ (H : Heap) (locs : List Loc) (ls : Array Slot), HV g st.1 H → FR g locs → lv_has ls 7 [(0, .ref x0), (1, .int x1), (2, .int x2), (3, .int st.2)] → W p l e rm_X10_findOrder s m args below meth c H locs 0 0 (MQ below (Qv g r) args s 0 0 (frN g)) (F0 m 14 ls [])) (hr34 : ∀ (st : Int32 × Int32), rec34 st = some r → ∀ (H : Heap) (locs : List Loc) (ls : Array Slot), HV g σ H → FR g locs → lv_has ls 7 [(0, .ref x0), (1, .int x1), (2, .int x2), (3, .int x3), (4, .int st.1), (5, .int st.2)] → W p l e rm_X10_findOrder s m args below meth c H locs 0 0 (MQ below (Qv g r) args s 0 0 (frN g)) (F0 m 34 ls [])) {H : Heap} {locs : List Loc} {ls : Array Slot} (h : B_X10_findOrder_34 rec14 σ x0 x1 x2 x3 rec34 x4 x5 = some r) (hV : HV g σ H) (hF : FR g locs) (hl : lv_has ls 7 [(0, .ref x0), (1, .int x1), (2, .int x2), (3, .int x3), (4, .int x4), (5, .int x5)]) : W p l e rm_X10_findOrder s m args below meth c H locs 0 0 (MQ below (Qv g r) args s 0 0 (frN g)) (F0 m 34 ls []) := by
  unfold B_X10_findOrder_34 at h
  refine lv_iload X.1 X.2.1 dX10_findOrder_34 (lv_at hl 5 rfl) ?_
  refine lv_iload_n X.1 X.2.1 dX10_findOrder_36 rfl (lv_at hl 3 rfl) ?_
  refine r_ge (tgt := 74) X.1 X.2.1 dX10_findOrder_37 (by decide) h (fun h => ?_) (fun h => ?_)
  · exact w_X10_findOrder_74 X hr14 h hV hF (lv_sub hl [0, 1, 2, 3, 4] rfl)
  · refine lv_iload X.1 X.2.1 dX10_findOrder_40 (lv_at hl 4 rfl) ?_
    refine r_ifeq (tgt := 65) X.1 X.2.1 dX10_findOrder_42 (by decide) h (fun h => ?_) (fun h => ?_)
    · refine lv_iconst (v := 0) X.1 X.2.1 dX10_findOrder_65 (by decide) ?_
      refine lv_istore (lv' := [(4, .int 0), (0, .ref x0), (1, .int x1), (2, .int x2), (3, .int x3), (5, .int x5)]) X.1 X.2.1 dX10_findOrder_66 hl (by decide) rfl (fun ls hl => ?_)
      refine lv_iinc (v := x5 + 1) (lv' := [(5, .int (x5 + 1)), (4, .int 0), (0, .ref x0), (1, .int x1), (2, .int x2), (3, .int x3)]) X.1 X.2.1 dX10_findOrder_68 hl (k := 5) rfl rfl (by decide) rfl (fun ls hl => ?_)
      refine lv_goto (tgt := 34) X.1 X.2.1 dX10_findOrder_71 (by decide) ?_
      exact hr34 (0, x5 + 1) h _ _ _ hV hF (lv_sub hl [2, 3, 4, 5, 1, 0] rfl)
    · refine lv_aload_n X.1 X.2.1 dX10_findOrder_45 rfl (lv_at hl 0 rfl) ?_
      refine r_gR X hV fl_X10_74_10 (by decide) dX10_findOrder_46 h (fun v1 h => ?_)
      refine lv_iload X.1 X.2.1 dX10_findOrder_49 (lv_at hl 5 rfl) ?_
      refine r_ia X hV dX10_findOrder_51 h (fun v2 h => ?_)
      refine lv_aload_n X.1 X.2.1 dX10_findOrder_52 rfl (lv_at hl 0 rfl) ?_
      refine r_gR X hV fl_X10_74_10 (by decide) dX10_findOrder_53 h (fun v3 h => ?_)
      refine lv_iload_n X.1 X.2.1 dX10_findOrder_56 rfl (lv_at hl 3 rfl) ?_
      refine r_ia X hV dX10_findOrder_57 h (fun v4 h => ?_)
      refine r_eq (tgt := 65) X.1 X.2.1 dX10_findOrder_58 (by decide) h (fun h => ?_) (fun h => ?_)
      · refine lv_iconst (v := 0) X.1 X.2.1 dX10_findOrder_65 (by decide) ?_
        refine lv_istore (lv' := [(4, .int 0), (0, .ref x0), (1, .int x1), (2, .int x2), (3, .int x3), (5, .int x5)]) X.1 X.2.1 dX10_findOrder_66 hl (by decide) rfl (fun ls hl => ?_)
        refine lv_iinc (v := x5 + 1) (lv' := [(5, .int (x5 + 1)), (4, .int 0), (0, .ref x0), (1, .int x1), (2, .int x2), (3, .int x3)]) X.1 X.2.1 dX10_findOrder_68 hl (k := 5) rfl rfl (by decide) rfl (fun ls hl => ?_)
        refine lv_goto (tgt := 34) X.1 X.2.1 dX10_findOrder_71 (by decide) ?_
        exact hr34 (0, x5 + 1) h _ _ _ hV hF (lv_sub hl [2, 3, 4, 5, 1, 0] rfl)
      · refine lv_iconst (v := 1) X.1 X.2.1 dX10_findOrder_61 (by decide) ?_
        refine lv_goto (tgt := 66) X.1 X.2.1 dX10_findOrder_62 (by decide) ?_
        refine lv_istore (lv' := [(4, .int 1), (0, .ref x0), (1, .int x1), (2, .int x2), (3, .int x3), (5, .int x5)]) X.1 X.2.1 dX10_findOrder_66 hl (by decide) rfl (fun ls hl => ?_)
        refine lv_iinc (v := x5 + 1) (lv' := [(5, .int (x5 + 1)), (4, .int 1), (0, .ref x0), (1, .int x1), (2, .int x2), (3, .int x3)]) X.1 X.2.1 dX10_findOrder_68 hl (k := 5) rfl rfl (by decide) rfl (fun ls hl => ?_)
        refine lv_goto (tgt := 34) X.1 X.2.1 dX10_findOrder_71 (by decide) ?_
        exact hr34 (1, x5 + 1) h _ _ _ hV hF (lv_sub hl [2, 3, 4, 5, 1, 0] rfl)
set_option maxHeartbeats 4000000 in
theorem w_X10_findOrder_34 {p : Program} {l : Launch} {e : Env} {s : State} {m : MethodId} {args : Array Value} {below : List Frame} {meth : Method} {c : Code} {g : Gl} (X : FX g p m c s args meth cX10_findOrder 7 RX10 none "findOrder") {r : Hp} {rec14 : Hp × Int32 → Option (Hp)} {σ : Hp} {x0 : Nat} {x1 : Int32} {x2 : Int32} {x3 : Int32} (hr14 : ∀ (st : Hp × Int32), rec14 st = some r → ∀ (H : Heap) (locs : List Loc) (ls : Array Slot), HV g st.1 H → FR g locs → lv_has ls 7 [(0, .ref x0), (1, .int x1), (2, .int x2), (3, .int st.2)] → W p l e rm_X10_findOrder s m args below meth c H locs 0 0 (MQ below (Qv g r) args s 0 0 (frN g)) (F0 m 14 ls [])) : ∀ (n : Nat) (st : Int32 × Int32), L_X10_findOrder_34 rec14 σ x0 x1 x2 x3 n st = some r → ∀ (H : Heap) (locs : List Loc) (ls : Array Slot), HV g σ H → FR g locs → lv_has ls 7 [(0, .ref x0), (1, .int x1), (2, .int x2), (3, .int x3), (4, .int st.1), (5, .int st.2)] → W p l e rm_X10_findOrder s m args below meth c H locs 0 0 (MQ below (Qv g r) args s 0 0 (frN g)) (F0 m 34 ls []) := by
  intro n
  induction n with
  | zero =>
    intro st h
    rw [L_X10_findOrder_34_0] at h
    cases h
  | succ n ih =>
    intro st h H locs ls hV hF hl
    rw [L_X10_findOrder_34_s] at h
    exact w_X10_findOrder_34_b X hr14 ih h hV hF hl
set_option maxHeartbeats 4000000 in
theorem w_X10_findOrder_14_b {p : Program} {l : Launch} {e : Env} {s : State} {m : MethodId} {args : Array Value} {below : List Frame} {meth : Method} {c : Code} {g : Gl} (X : FX g p m c s args meth cX10_findOrder 7 RX10 none "findOrder") {r : Hp} {rec14 : Hp × Int32 → Option (Hp)} {x0 : Nat} {x1 : Int32} {x2 : Int32} {σ : Hp} {x3 : Int32} (hr14 : ∀ (st : Hp × Int32), rec14 st = some r → ∀ (H : Heap) (locs : List Loc) (ls : Array Slot), HV g st.1 H → FR g locs → lv_has ls 7 [(0, .ref x0), (1, .int x1), (2, .int x2), (3, .int st.2)] → W p l e rm_X10_findOrder s m args below meth c H locs 0 0 (MQ below (Qv g r) args s 0 0 (frN g)) (F0 m 14 ls [])) {H : Heap} {locs : List Loc} {ls : Array Slot} (h : B_X10_findOrder_14 x0 x1 x2 rec14 σ x3 = some r) (hV : HV g σ H) (hF : FR g locs) (hl : lv_has ls 7 [(0, .ref x0), (1, .int x1), (2, .int x2), (3, .int x3)]) : W p l e rm_X10_findOrder s m args below meth c H locs 0 0 (MQ below (Qv g r) args s 0 0 (frN g)) (F0 m 14 ls []) := by
  unfold B_X10_findOrder_14 at h
  refine lv_iload_n X.1 X.2.1 dX10_findOrder_14 rfl (lv_at hl 3 rfl) ?_
  refine r_iflt (tgt := 199) X.1 X.2.1 dX10_findOrder_15 (by decide) h (fun h => ?_) (fun h => ?_)
  · exact r_vret X hV hF h dX10_findOrder_199
  · refine lv_aload_n X.1 X.2.1 dX10_findOrder_18 rfl (lv_at hl 0 rfl) ?_
    refine r_gR X hV fl_X10_74_10 (by decide) dX10_findOrder_19 h (fun v1 h => ?_)
    refine lv_iload_n X.1 X.2.1 dX10_findOrder_22 rfl (lv_at hl 3 rfl) ?_
    refine lv_dup2_11 X.1 X.2.1 dX10_findOrder_23 rfl rfl ?_
    refine r_ia X hV dX10_findOrder_24 h (fun v2 h => ?_)
    refine lv_iconst (v := 1) X.1 X.2.1 dX10_findOrder_25 (by decide) ?_
    refine lv_iadd X.1 X.2.1 dX10_findOrder_26 ?_
    refine r_is X hV hF dX10_findOrder_27 h (fun s1 H locs hV hF h => ?_)
    refine lv_iconst (v := 1) X.1 X.2.1 dX10_findOrder_28 (by decide) ?_
    refine lv_istore (lv' := [(4, .int 1), (0, .ref x0), (1, .int x1), (2, .int x2), (3, .int x3)]) X.1 X.2.1 dX10_findOrder_29 hl (by decide) rfl (fun ls hl => ?_)
    refine lv_iconst (v := 0) X.1 X.2.1 dX10_findOrder_31 (by decide) ?_
    refine lv_istore (lv' := [(5, .int 0), (4, .int 1), (0, .ref x0), (1, .int x1), (2, .int x2), (3, .int x3)]) X.1 X.2.1 dX10_findOrder_32 hl (by decide) rfl (fun ls hl => ?_)
    exact w_X10_findOrder_34 X hr14 FU (1, 0) h _ _ _ hV hF (lv_sub hl [2, 3, 4, 5, 1, 0] rfl)
set_option maxHeartbeats 4000000 in
theorem w_X10_findOrder_14 {p : Program} {l : Launch} {e : Env} {s : State} {m : MethodId} {args : Array Value} {below : List Frame} {meth : Method} {c : Code} {g : Gl} (X : FX g p m c s args meth cX10_findOrder 7 RX10 none "findOrder") {r : Hp} {x0 : Nat} {x1 : Int32} {x2 : Int32}  : ∀ (n : Nat) (st : Hp × Int32), L_X10_findOrder_14 x0 x1 x2 n st = some r → ∀ (H : Heap) (locs : List Loc) (ls : Array Slot), HV g st.1 H → FR g locs → lv_has ls 7 [(0, .ref x0), (1, .int x1), (2, .int x2), (3, .int st.2)] → W p l e rm_X10_findOrder s m args below meth c H locs 0 0 (MQ below (Qv g r) args s 0 0 (frN g)) (F0 m 14 ls []) := by
  intro n
  induction n with
  | zero =>
    intro st h
    rw [L_X10_findOrder_14_0] at h
    cases h
  | succ n ih =>
    intro st h H locs ls hV hF hl
    rw [L_X10_findOrder_14_s] at h
    exact w_X10_findOrder_14_b X  ih h hV hF hl
set_option maxHeartbeats 4000000 in
theorem c_X10_findOrder (l : Launch) {g : Gl} {σ : Hp} {x0 : Nat} {x1 : Int32} {x2 : Int32} {r : Hp} (h : F_X10_findOrder σ x0 x1 x2 = some r) : Met l yX10_findOrder (ws_ yX10_findOrder cX10_findOrder 7 none) rm_X10_findOrder (va_Pc [.ref x0, .int x1, .int x2] (WV g σ)) (Qv g r) 0 0 (frN g) := by
  refine ct_of (by decide) (Nat.le_of_ble_eq_true rfl) ?_
  intro p e s m below meth c ls X hV hl
  have hF : FR g [] := FR_nil
  unfold F_X10_findOrder at h
  have hl : lv_has ls 7 [(0, .ref x0), (1, .int x1), (2, .int x2)] := hl
  have X : FX g p m c s _ meth cX10_findOrder 7 RX10 none "findOrder" := X
  obtain ⟨-, h⟩ := gd_inv h
  refine lv_aload_n X.1 X.2.1 dX10_findOrder_0 rfl (lv_at hl 0 rfl) ?_
  refine lv_iconst (v := (-1)) X.1 X.2.1 dX10_findOrder_1 (by decide) ?_
  refine r_pI X hV hF fp_X10_225_10 (fun q => by cases q) dX10_findOrder_2 h (fun s1 H locs hV hF h => ?_)
  refine lv_iconst (v := 0) X.1 X.2.1 dX10_findOrder_5 (by decide) ?_
  refine lv_istore_n (lv' := [(3, .int 0), (0, .ref x0), (1, .int x1), (2, .int x2)]) X.1 X.2.1 dX10_findOrder_6 rfl hl (by decide) rfl (fun ls hl => ?_)
  refine lv_aload_n X.1 X.2.1 dX10_findOrder_7 rfl (lv_at hl 1 rfl) ?_
  refine r_gR X hV fl_X10_74_10 (by decide) dX10_findOrder_8 h (fun v1 h => ?_)
  refine lv_iconst (v := 0) X.1 X.2.1 dX10_findOrder_11 (by decide) ?_
  refine lv_iconst (v := (-1)) X.1 X.2.1 dX10_findOrder_12 (by decide) ?_
  refine r_is X hV hF dX10_findOrder_13 h (fun s2 H locs hV hF h => ?_)
  exact w_X10_findOrder_14 X  FU (s2, 0) h _ _ _ hV hF (lv_sub hl [1, 2, 3, 0] rfl)
