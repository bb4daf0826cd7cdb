set_option maxRecDepth 100000
/-! PalaceOfRoomsModel.laid -/
theorem dX10_laid_0 : decode cX10_laid 0 = .ok (.iload_n 3, 1) := by decide +kernel
theorem dX10_laid_1 : decode cX10_laid 1 = .ok (.iconst 1, 1) := by decide +kernel
theorem dX10_laid_2 : decode cX10_laid 2 = .ok (.bipush 8, 2) := by decide +kernel
theorem dX10_laid_4 : decode cX10_laid 4 = .ok (.invokestatic 93, 3) := by decide +kernel
theorem dX10_laid_7 : decode cX10_laid 7 = .ok (.ifCond .ne 6, 3) := by decide +kernel
theorem dX10_laid_10 : decode cX10_laid 10 = .ok (.bipush (-3), 2) := by decide +kernel
theorem dX10_laid_12 : decode cX10_laid 12 = .ok (.ireturn, 1) := by decide +kernel
theorem dX10_laid_13 : decode cX10_laid 13 = .ok (.aload_n 0, 1) := by decide +kernel
theorem dX10_laid_14 : decode cX10_laid 14 = .ok (.lload_n 1, 1) := by decide +kernel
theorem dX10_laid_15 : decode cX10_laid 15 = .ok (.iload_n 3, 1) := by decide +kernel
theorem dX10_laid_16 : decode cX10_laid 16 = .ok (.invokevirtual 234, 3) := by decide +kernel
theorem dX10_laid_19 : decode cX10_laid 19 = .ok (.istore 5, 2) := by decide +kernel
theorem dX10_laid_21 : decode cX10_laid 21 = .ok (.iload 5, 2) := by decide +kernel
theorem dX10_laid_23 : decode cX10_laid 23 = .ok (.iconst 1, 1) := by decide +kernel
theorem dX10_laid_24 : decode cX10_laid 24 = .ok (.if_icmp .eq 6, 3) := by decide +kernel
theorem dX10_laid_27 : decode cX10_laid 27 = .ok (.iload 5, 2) := by decide +kernel
theorem dX10_laid_29 : decode cX10_laid 29 = .ok (.ireturn, 1) := by decide +kernel
theorem dX10_laid_30 : decode cX10_laid 30 = .ok (.iload 4, 2) := by decide +kernel
theorem dX10_laid_32 : decode cX10_laid 32 = .ok (.iconst (-1), 1) := by decide +kernel
theorem dX10_laid_33 : decode cX10_laid 33 = .ok (.if_icmp .ge 6, 3) := by decide +kernel
theorem dX10_laid_36 : decode cX10_laid 36 = .ok (.bipush (-3), 2) := by decide +kernel
theorem dX10_laid_38 : decode cX10_laid 38 = .ok (.ireturn, 1) := by decide +kernel
theorem dX10_laid_39 : decode cX10_laid 39 = .ok (.iconst 0, 1) := by decide +kernel
theorem dX10_laid_40 : decode cX10_laid 40 = .ok (.istore 6, 2) := by decide +kernel
theorem dX10_laid_42 : decode cX10_laid 42 = .ok (.iload 6, 2) := by decide +kernel
theorem dX10_laid_44 : decode cX10_laid 44 = .ok (.iload_n 3, 1) := by decide +kernel
theorem dX10_laid_45 : decode cX10_laid 45 = .ok (.if_icmp .ge 97, 3) := by decide +kernel
theorem dX10_laid_48 : decode cX10_laid 48 = .ok (.iload 6, 2) := by decide +kernel
theorem dX10_laid_50 : decode cX10_laid 50 = .ok (.iconst 1, 1) := by decide +kernel
theorem dX10_laid_51 : decode cX10_laid 51 = .ok (.iadd, 1) := by decide +kernel
theorem dX10_laid_52 : decode cX10_laid 52 = .ok (.istore 7, 2) := by decide +kernel
theorem dX10_laid_54 : decode cX10_laid 54 = .ok (.iload 7, 2) := by decide +kernel
theorem dX10_laid_56 : decode cX10_laid 56 = .ok (.iload_n 3, 1) := by decide +kernel
theorem dX10_laid_57 : decode cX10_laid 57 = .ok (.if_icmp .ge 79, 3) := by decide +kernel
theorem dX10_laid_60 : decode cX10_laid 60 = .ok (.aload_n 0, 1) := by decide +kernel
theorem dX10_laid_61 : decode cX10_laid 61 = .ok (.getfield 71, 3) := by decide +kernel
theorem dX10_laid_64 : decode cX10_laid 64 = .ok (.iload 6, 2) := by decide +kernel
theorem dX10_laid_66 : decode cX10_laid 66 = .ok (.iaload, 1) := by decide +kernel
theorem dX10_laid_67 : decode cX10_laid 67 = .ok (.aload_n 0, 1) := by decide +kernel
theorem dX10_laid_68 : decode cX10_laid 68 = .ok (.getfield 71, 3) := by decide +kernel
theorem dX10_laid_71 : decode cX10_laid 71 = .ok (.iload 7, 2) := by decide +kernel
theorem dX10_laid_73 : decode cX10_laid 73 = .ok (.iaload, 1) := by decide +kernel
theorem dX10_laid_74 : decode cX10_laid 74 = .ok (.if_icmp .ge 13, 3) := by decide +kernel
theorem dX10_laid_77 : decode cX10_laid 77 = .ok (.aload_n 0, 1) := by decide +kernel
theorem dX10_laid_78 : decode cX10_laid 78 = .ok (.getfield 71, 3) := by decide +kernel
theorem dX10_laid_81 : decode cX10_laid 81 = .ok (.iload 6, 2) := by decide +kernel
theorem dX10_laid_83 : decode cX10_laid 83 = .ok (.iaload, 1) := by decide +kernel
theorem dX10_laid_84 : decode cX10_laid 84 = .ok (.goto 10, 3) := by decide +kernel
theorem dX10_laid_87 : decode cX10_laid 87 = .ok (.aload_n 0, 1) := by decide +kernel
theorem dX10_laid_88 : decode cX10_laid 88 = .ok (.getfield 71, 3) := by decide +kernel
theorem dX10_laid_91 : decode cX10_laid 91 = .ok (.iload 7, 2) := by decide +kernel
theorem dX10_laid_93 : decode cX10_laid 93 = .ok (.iaload, 1) := by decide +kernel
theorem dX10_laid_94 : decode cX10_laid 94 = .ok (.istore 8, 2) := by decide +kernel
theorem dX10_laid_96 : decode cX10_laid 96 = .ok (.aload_n 0, 1) := by decide +kernel
theorem dX10_laid_97 : decode cX10_laid 97 = .ok (.getfield 71, 3) := by decide +kernel
theorem dX10_laid_100 : decode cX10_laid 100 = .ok (.iload 7, 2) := by decide +kernel
theorem dX10_laid_102 : decode cX10_laid 102 = .ok (.aload_n 0, 1) := by decide +kernel
theorem dX10_laid_103 : decode cX10_laid 103 = .ok (.getfield 71, 3) := by decide +kernel
theorem dX10_laid_106 : decode cX10_laid 106 = .ok (.iload 6, 2) := by decide +kernel
theorem dX10_laid_108 : decode cX10_laid 108 = .ok (.iaload, 1) := by decide +kernel
theorem dX10_laid_109 : decode cX10_laid 109 = .ok (.aload_n 0, 1) := by decide +kernel
theorem dX10_laid_110 : decode cX10_laid 110 = .ok (.getfield 71, 3) := by decide +kernel
theorem dX10_laid_113 : decode cX10_laid 113 = .ok (.iload 7, 2) := by decide +kernel
theorem dX10_laid_115 : decode cX10_laid 115 = .ok (.iaload, 1) := by decide +kernel
theorem dX10_laid_116 : decode cX10_laid 116 = .ok (.iadd, 1) := by decide +kernel
theorem dX10_laid_117 : decode cX10_laid 117 = .ok (.iload 8, 2) := by decide +kernel
theorem dX10_laid_119 : decode cX10_laid 119 = .ok (.isub, 1) := by decide +kernel
theorem dX10_laid_120 : decode cX10_laid 120 = .ok (.iastore, 1) := by decide +kernel
theorem dX10_laid_121 : decode cX10_laid 121 = .ok (.aload_n 0, 1) := by decide +kernel
theorem dX10_laid_122 : decode cX10_laid 122 = .ok (.getfield 71, 3) := by decide +kernel
theorem dX10_laid_125 : decode cX10_laid 125 = .ok (.iload 6, 2) := by decide +kernel
theorem dX10_laid_127 : decode cX10_laid 127 = .ok (.iload 8, 2) := by decide +kernel
theorem dX10_laid_129 : decode cX10_laid 129 = .ok (.iastore, 1) := by decide +kernel
theorem dX10_laid_130 : decode cX10_laid 130 = .ok (.iinc 7 1, 3) := by decide +kernel
theorem dX10_laid_133 : decode cX10_laid 133 = .ok (.goto (-79), 3) := by decide +kernel
theorem dX10_laid_136 : decode cX10_laid 136 = .ok (.iinc 6 1, 3) := by decide +kernel
theorem dX10_laid_139 : decode cX10_laid 139 = .ok (.goto (-97), 3) := by decide +kernel
theorem dX10_laid_142 : decode cX10_laid 142 = .ok (.aload_n 0, 1) := by decide +kernel
theorem dX10_laid_143 : decode cX10_laid 143 = .ok (.iload_n 3, 1) := by decide +kernel
theorem dX10_laid_144 : decode cX10_laid 144 = .ok (.iconst 1, 1) := by decide +kernel
theorem dX10_laid_145 : decode cX10_laid 145 = .ok (.invokevirtual 238, 3) := by decide +kernel
theorem dX10_laid_148 : decode cX10_laid 148 = .ok (.iload 4, 2) := by decide +kernel
theorem dX10_laid_150 : decode cX10_laid 150 = .ok (.iconst (-1), 1) := by decide +kernel
theorem dX10_laid_151 : decode cX10_laid 151 = .ok (.if_icmp .ne 10, 3) := by decide +kernel
theorem dX10_laid_154 : decode cX10_laid 154 = .ok (.aload_n 0, 1) := by decide +kernel
theorem dX10_laid_155 : decode cX10_laid 155 = .ok (.getfield 225, 3) := by decide +kernel
theorem dX10_laid_158 : decode cX10_laid 158 = .ok (.goto 20, 3) := by decide +kernel
theorem dX10_laid_161 : decode cX10_laid 161 = .ok (.iload 4, 2) := by decide +kernel
theorem dX10_laid_163 : decode cX10_laid 163 = .ok (.iload_n 3, 1) := by decide +kernel
theorem dX10_laid_164 : decode cX10_laid 164 = .ok (.if_icmp .ge 13, 3) := by decide +kernel
theorem dX10_laid_167 : decode cX10_laid 167 = .ok (.aload_n 0, 1) := by decide +kernel
theorem dX10_laid_168 : decode cX10_laid 168 = .ok (.getfield 77, 3) := by decide +kernel
theorem dX10_laid_171 : decode cX10_laid 171 = .ok (.iload 4, 2) := by decide +kernel
theorem dX10_laid_173 : decode cX10_laid 173 = .ok (.iaload, 1) := by decide +kernel
theorem dX10_laid_174 : decode cX10_laid 174 = .ok (.goto 4, 3) := by decide +kernel
theorem dX10_laid_177 : decode cX10_laid 177 = .ok (.iconst (-1), 1) := by decide +kernel
theorem dX10_laid_178 : decode cX10_laid 178 = .ok (.ireturn, 1) := by decide +kernel
theorem yd_X10_laid : yX10_laid.cls ≠ "java/lang/invoke/MethodHandle" ∧ yX10_laid.cls ≠ "java/lang/invoke/VarHandle" ∧ (parseMethodDescriptor yX10_laid.desc).map (fun d => d.parameters.length) = some 3 := by decide +kernel
abbrev rm_X10_laid : Room := { frames := 3, cells := 0, slots := 0, locals := 75 }
set_option maxHeartbeats 4000000 in
theorem w_X10_laid_142 {p : Program} {l : Launch} {e : Env} {s : State} {m : MethodId} {args : Array Value} {below : List Frame} {meth : Method} {c : Code} {g : Gl} (X : FX g p m c s args meth cX10_laid 9 RX10 (some .int) "laid") {r : Int32 × Hp} {σ : Hp} {x0 : Nat} {x3 : Int32} {x4 : Int32}  {H : Heap} {locs : List Loc} {ls : Array Slot} (h : F_X10_laid_142 σ x0 x3 x4 = some r) (hV : HV g σ H) (hF : FR g locs) (hl : lv_has ls 9 [(0, .ref x0), (3, .int x3), (4, .int x4)]) : W p l e rm_X10_laid s m args below meth c H locs 0 0 (MQ below (Qi g r) args s 0 0 (frN g)) (F0 m 142 ls []) := by
  unfold F_X10_laid_142 at h
  refine lv_aload_n X.1 X.2.1 dX10_laid_142 rfl (lv_at hl 0 rfl) ?_
  refine lv_iload_n X.1 X.2.1 dX10_laid_143 rfl (lv_at hl 1 rfl) ?_
  refine lv_iconst (v := 1) X.1 X.2.1 dX10_laid_144 (by decide) ?_
  obtain ⟨s1, hc, h⟩ := b1_inv h
  refine r_cv (va_runV (C := RX10) (As := [.int x3, .int 1]) (rest := []) (cfX X) (c_X10_findOrder l hc) (cwV 2 X.2.2.2.2.1 (lw_V q1270 q1272 qs40 q59 q1273) rfl rfl rfl ⟨rfl, yd_X10_findOrder⟩ ⟨Nat.le_of_ble_eq_true rfl, Nat.le_of_ble_eq_true rfl⟩) (preV X hV (F_X10_findOrder_g hc) rfl) rfl rfl hl.1 rfl (lv_room (Nat.le_of_ble_eq_true rfl)) dX10_laid_145 ⟨(Nat.le_of_ble_eq_true rfl), (Nat.le_of_ble_eq_true rfl)⟩) hF (fun H locs hV hF => ?_)
  refine lv_iload X.1 X.2.1 dX10_laid_148 (lv_at hl 2 rfl) ?_
  refine lv_iconst (v := (-1)) X.1 X.2.1 dX10_laid_150 (by decide) ?_
  refine r_ne (tgt := 161) X.1 X.2.1 dX10_laid_151 (by decide) h (fun h => ?_) (fun h => ?_)
  · refine lv_iload X.1 X.2.1 dX10_laid_161 (lv_at hl 2 rfl) ?_
    refine lv_iload_n X.1 X.2.1 dX10_laid_163 rfl (lv_at hl 1 rfl) ?_
    refine r_ge (tgt := 177) X.1 X.2.1 dX10_laid_164 (by decide) h (fun h => ?_) (fun h => ?_)
    · refine lv_iconst (v := (-1)) X.1 X.2.1 dX10_laid_177 (by decide) ?_
      exact r_iret X hV hF h dX10_laid_178
    · refine lv_aload_n X.1 X.2.1 dX10_laid_167 rfl (lv_at hl 0 rfl) ?_
      refine r_gR X hV fl_X10_77_10 (by decide) dX10_laid_168 h (fun v2 h => ?_)
      refine lv_iload X.1 X.2.1 dX10_laid_171 (lv_at hl 2 rfl) ?_
      refine r_ia X hV dX10_laid_173 h (fun v3 h => ?_)
      refine lv_goto (tgt := 178) X.1 X.2.1 dX10_laid_174 (by decide) ?_
      exact r_iret X hV hF h dX10_laid_178
  · refine lv_aload_n X.1 X.2.1 dX10_laid_154 rfl (lv_at hl 0 rfl) ?_
    refine r_gI X hV fl_X10_225_10 dX10_laid_155 h (fun v4 h => ?_)
    refine lv_goto (tgt := 178) X.1 X.2.1 dX10_laid_158 (by decide) ?_
    exact r_iret X hV hF h dX10_laid_178
set_option maxHeartbeats 4000000 in
theorem w_X10_laid_94 {p : Program} {l : Launch} {e : Env} {s : State} {m : MethodId} {args : Array Value} {below : List Frame} {meth : Method} {c : Code} {g : Gl} (X : FX g p m c s args meth cX10_laid 9 RX10 (some .int) "laid") {r : Int32 × Hp} {rec42 : Hp × Int32 → Option (Int32 × Hp)} {rec54 : Hp × Int32 → Option (Int32 × Hp)} {σ : Hp} {x0 : Nat} {x3 : Int32} {x4 : Int32} {x6 : Int32} {x7 : Int32} {y0 : Int32} (hr42 : ∀ (st : Hp × Int32), rec42 st = some r → ∀ (H : Heap) (locs : List Loc) (ls : Array Slot), HV g st.1 H → FR g locs → lv_has ls 9 [(0, .ref x0), (3, .int x3), (4, .int x4), (6, .int st.2)] → W p l e rm_X10_laid s m args below meth c H locs 0 0 (MQ below (Qi g r) args s 0 0 (frN g)) (F0 m 42 ls [])) (hr54 : ∀ (st : Hp × Int32), rec54 st = some r → ∀ (H : Heap) (locs : List Loc) (ls : Array Slot), HV g st.1 H → FR g locs → lv_has ls 9 [(0, .ref x0), (3, .int x3), (4, .int x4), (6, .int x6), (7, .int st.2)] → W p l e rm_X10_laid s m args below meth c H locs 0 0 (MQ below (Qi g r) args s 0 0 (frN g)) (F0 m 54 ls [])) {H : Heap} {locs : List Loc} {ls : Array Slot} (h : F_X10_laid_94 rec42 rec54 σ x0 x3 x4 x6 x7 y0 = some r) (hV : HV g σ H) (hF : FR g locs) (hl : lv_has ls 9 [(0, .ref x0), (3, .int x3), (4, .int x4), (6, .int x6), (7, .int x7)]) : W p l e rm_X10_laid s m args below meth c H locs 0 0 (MQ below (Qi g r) args s 0 0 (frN g)) (F0 m 94 ls [.int y0]) := by
  unfold F_X10_laid_94 at h
  refine lv_istore (lv' := [(8, .int y0), (0, .ref x0), (3, .int x3), (4, .int x4), (6, .int x6), (7, .int x7)]) X.1 X.2.1 dX10_laid_94 hl (by decide) rfl (fun ls hl => ?_)
  refine lv_aload_n X.1 X.2.1 dX10_laid_96 rfl (lv_at hl 1 rfl) ?_
  refine r_gR X hV fl_X10_71_10 (by decide) dX10_laid_97 h (fun v1 h => ?_)
  refine lv_iload X.1 X.2.1 dX10_laid_100 (lv_at hl 5 rfl) ?_
  refine lv_aload_n X.1 X.2.1 dX10_laid_102 rfl (lv_at hl 1 rfl) ?_
  refine r_gR X hV fl_X10_71_10 (by decide) dX10_laid_103 h (fun v2 h => ?_)
  refine lv_iload X.1 X.2.1 dX10_laid_106 (lv_at hl 4 rfl) ?_
  refine r_ia X hV dX10_laid_108 h (fun v3 h => ?_)
  refine lv_aload_n X.1 X.2.1 dX10_laid_109 rfl (lv_at hl 1 rfl) ?_
  refine r_gR X hV fl_X10_71_10 (by decide) dX10_laid_110 h (fun v4 h => ?_)
  refine lv_iload X.1 X.2.1 dX10_laid_113 (lv_at hl 5 rfl) ?_
  refine r_ia X hV dX10_laid_115 h (fun v5 h => ?_)
  refine lv_iadd X.1 X.2.1 dX10_laid_116 ?_
  refine lv_iload X.1 X.2.1 dX10_laid_117 (lv_at hl 0 rfl) ?_
  refine lv_isub X.1 X.2.1 dX10_laid_119 ?_
  refine r_is X hV hF dX10_laid_120 h (fun s1 H locs hV hF h => ?_)
  refine lv_aload_n X.1 X.2.1 dX10_laid_121 rfl (lv_at hl 1 rfl) ?_
  refine r_gR X hV fl_X10_71_10 (by decide) dX10_laid_122 h (fun v6 h => ?_)
  refine lv_iload X.1 X.2.1 dX10_laid_125 (lv_at hl 4 rfl) ?_
  refine lv_iload X.1 X.2.1 dX10_laid_127 (lv_at hl 0 rfl) ?_
  refine r_is X hV hF dX10_laid_129 h (fun s2 H locs hV hF h => ?_)
  refine lv_iinc (v := x7 + 1) (lv' := [(7, .int (x7 + 1)), (8, .int y0), (0, .ref x0), (3, .int x3), (4, .int x4), (6, .int x6)]) X.1 X.2.1 dX10_laid_130 hl (k := 5) rfl rfl (by decide) rfl (fun ls hl => ?_)
  refine lv_goto (tgt := 54) X.1 X.2.1 dX10_laid_133 (by decide) ?_
  exact hr54 (s2, x7 + 1) h _ _ _ hV hF (lv_sub hl [2, 3, 4, 5, 0] rfl)
set_option maxHeartbeats 4000000 in
theorem w_X10_laid_54_b {p : Program} {l : Launch} {e : Env} {s : State} {m : MethodId} {args : Array Value} {below : List Frame} {meth : Method} {c : Code} {g : Gl} (X : FX g p m c s args meth cX10_laid 9 RX10 (some .int) "laid") {r : Int32 × Hp} {rec42 : Hp × Int32 → Option (Int32 × Hp)} {rec54 : Hp × Int32 → Option (Int32 × Hp)} {x0 : Nat} {x3 : Int32} {x4 : Int32} {x6 : Int32} {σ : Hp} {x7 : Int32} (hr42 : ∀ (st : Hp × Int32), rec42 st = some r → ∀ (H : Heap) (locs : List Loc) (ls : Array Slot), HV g st.1 H → FR g locs → lv_has ls 9 [(0, .ref x0), (3, .int x3), (4, .int x4), (6, .int st.2)] → W p l e rm_X10_laid s m args below meth c H locs 0 0 (MQ below (Qi g r) args s 0 0 (frN g)) (F0 m 42 ls [])) (hr54 : ∀ (st : Hp × Int32), rec54 st = some r → ∀ (H : Heap) (locs : List Loc) (ls : Array Slot), HV g st.1 H → FR g locs → lv_has ls 9 [(0, .ref x0), (3, .int x3), (4, .int x4), (6, .int x6), (7, .int st.2)] → W p l e rm_X10_laid s m args below meth c H locs 0 0 (MQ below (Qi g r) args s 0 0 (frN g)) (F0 m 54 ls [])) {H : Heap} {locs : List Loc} {ls : Array Slot} (h : B_X10_laid_54 rec42 x0 x3 x4 x6 rec54 σ x7 = some r) (hV : HV g σ H) (hF : FR g locs) (hl : lv_has ls 9 [(0, .ref x0), (3, .int x3), (4, .int x4), (6, .int x6), (7, .int x7)]) : W p l e rm_X10_laid s m args below meth c H locs 0 0 (MQ below (Qi g r) args s 0 0 (frN g)) (F0 m 54 ls []) := by
  unfold B_X10_laid_54 at h
  refine lv_iload X.1 X.2.1 dX10_laid_54 (lv_at hl 4 rfl) ?_
  refine lv_iload_n X.1 X.2.1 dX10_laid_56 rfl (lv_at hl 1 rfl) ?_
  refine r_ge (tgt := 136) X.1 X.2.1 dX10_laid_57 (by decide) h (fun h => ?_) (fun h => ?_)
  · refine lv_iinc (v := x6 + 1) (lv' := [(6, .int (x6 + 1)), (0, .ref x0), (3, .int x3), (4, .int x4), (7, .int x7)]) X.1 X.2.1 dX10_laid_136 hl (k := 3) rfl rfl (by decide) rfl (fun ls hl => ?_)
    refine lv_goto (tgt := 42) X.1 X.2.1 dX10_laid_139 (by decide) ?_
    exact hr42 (σ, x6 + 1) h _ _ _ hV hF (lv_sub hl [1, 2, 3, 0] rfl)
  · refine lv_aload_n X.1 X.2.1 dX10_laid_60 rfl (lv_at hl 0 rfl) ?_
    refine r_gR X hV fl_X10_71_10 (by decide) dX10_laid_61 h (fun v1 h => ?_)
    refine lv_iload X.1 X.2.1 dX10_laid_64 (lv_at hl 3 rfl) ?_
    refine r_ia X hV dX10_laid_66 h (fun v2 h => ?_)
    refine lv_aload_n X.1 X.2.1 dX10_laid_67 rfl (lv_at hl 0 rfl) ?_
    refine r_gR X hV fl_X10_71_10 (by decide) dX10_laid_68 h (fun v3 h => ?_)
    refine lv_iload X.1 X.2.1 dX10_laid_71 (lv_at hl 4 rfl) ?_
    refine r_ia X hV dX10_laid_73 h (fun v4 h => ?_)
    refine r_ge (tgt := 87) X.1 X.2.1 dX10_laid_74 (by decide) h (fun h => ?_) (fun h => ?_)
    · refine lv_aload_n X.1 X.2.1 dX10_laid_87 rfl (lv_at hl 0 rfl) ?_
      refine r_gR X hV fl_X10_71_10 (by decide) dX10_laid_88 h (fun v5 h => ?_)
      refine lv_iload X.1 X.2.1 dX10_laid_91 (lv_at hl 4 rfl) ?_
      refine r_ia X hV dX10_laid_93 h (fun v6 h => ?_)
      exact w_X10_laid_94 X hr42 hr54 h hV hF (lv_sub hl [0, 1, 2, 3, 4] rfl)
    · refine lv_aload_n X.1 X.2.1 dX10_laid_77 rfl (lv_at hl 0 rfl) ?_
      refine r_gR X hV fl_X10_71_10 (by decide) dX10_laid_78 h (fun v7 h => ?_)
      refine lv_iload X.1 X.2.1 dX10_laid_81 (lv_at hl 3 rfl) ?_
      refine r_ia X hV dX10_laid_83 h (fun v8 h => ?_)
      refine lv_goto (tgt := 94) X.1 X.2.1 dX10_laid_84 (by decide) ?_
      exact w_X10_laid_94 X hr42 hr54 h hV hF (lv_sub hl [0, 1, 2, 3, 4] rfl)
set_option maxHeartbeats 4000000 in
theorem w_X10_laid_54 {p : Program} {l : Launch} {e : Env} {s : State} {m : MethodId} {args : Array Value} {below : List Frame} {meth : Method} {c : Code} {g : Gl} (X : FX g p m c s args meth cX10_laid 9 RX10 (some .int) "laid") {r : Int32 × Hp} {rec42 : Hp × Int32 → Option (Int32 × Hp)} {x0 : Nat} {x3 : Int32} {x4 : Int32} {x6 : Int32} (hr42 : ∀ (st : Hp × Int32), rec42 st = some r → ∀ (H : Heap) (locs : List Loc) (ls : Array Slot), HV g st.1 H → FR g locs → lv_has ls 9 [(0, .ref x0), (3, .int x3), (4, .int x4), (6, .int st.2)] → W p l e rm_X10_laid s m args below meth c H locs 0 0 (MQ below (Qi g r) args s 0 0 (frN g)) (F0 m 42 ls [])) : ∀ (n : Nat) (st : Hp × Int32), L_X10_laid_54 rec42 x0 x3 x4 x6 n st = some r → ∀ (H : Heap) (locs : List Loc) (ls : Array Slot), HV g st.1 H → FR g locs → lv_has ls 9 [(0, .ref x0), (3, .int x3), (4, .int x4), (6, .int x6), (7, .int st.2)] → W p l e rm_X10_laid s m args below meth c H locs 0 0 (MQ below (Qi g r) args s 0 0 (frN g)) (F0 m 54 ls []) := by
  intro n
  induction n with
  | zero =>
    intro st h
    rw [L_X10_laid_54_0] at h
    cases h
  | succ n ih =>
    intro st h H locs ls hV hF hl
    rw [L_X10_laid_54_s] at h
    exact w_X10_laid_54_b X hr42 ih h hV hF hl
set_option maxHeartbeats 4000000 in
theorem w_X10_laid_42_b {p : Program} {l : Launch} {e : Env} {s : State} {m : MethodId} {args : Array Value} {below : List Frame} {meth : Method} {c : Code} {g : Gl} (X : FX g p m c s args meth cX10_laid 9 RX10 (some .int) "laid") {r : Int32 × Hp} {rec42 : Hp × Int32 → Option (Int32 × Hp)} {x0 : Nat} {x3 : Int32} {x4 : Int32} {σ : Hp} {x6 : Int32} (hr42 : ∀ (st : Hp × Int32), rec42 st = some r → ∀ (H : Heap) (locs : List Loc) (ls : Array Slot), HV g st.1 H → FR g locs → lv_has ls 9 [(0, .ref x0), (3, .int x3), (4, .int x4), (6, .int st.2)] → W p l e rm_X10_laid s m args below meth c H locs 0 0 (MQ below (Qi g r) args s 0 0 (frN g)) (F0 m 42 ls [])) {H : Heap} {locs : List Loc} {ls : Array Slot} (h : B_X10_laid_42 x0 x3 x4 rec42 σ x6 = some r) (hV : HV g σ H) (hF : FR g locs) (hl : lv_has ls 9 [(0, .ref x0), (3, .int x3), (4, .int x4), (6, .int x6)]) : W p l e rm_X10_laid s m args below meth c H locs 0 0 (MQ below (Qi g r) args s 0 0 (frN g)) (F0 m 42 ls []) := by
  unfold B_X10_laid_42 at h
  refine lv_iload X.1 X.2.1 dX10_laid_42 (lv_at hl 3 rfl) ?_
  refine lv_iload_n X.1 X.2.1 dX10_laid_44 rfl (lv_at hl 1 rfl) ?_
  refine r_ge (tgt := 142) X.1 X.2.1 dX10_laid_45 (by decide) h (fun h => ?_) (fun h => ?_)
  · exact w_X10_laid_142 X  h hV hF (lv_sub hl [0, 1, 2] rfl)
  · refine lv_iload X.1 X.2.1 dX10_laid_48 (lv_at hl 3 rfl) ?_
    refine lv_iconst (v := 1) X.1 X.2.1 dX10_laid_50 (by decide) ?_
    refine lv_iadd X.1 X.2.1 dX10_laid_51 ?_
    refine lv_istore (lv' := [(7, .int (x6 + 1)), (0, .ref x0), (3, .int x3), (4, .int x4), (6, .int x6)]) X.1 X.2.1 dX10_laid_52 hl (by decide) rfl (fun ls hl => ?_)
    exact w_X10_laid_54 X hr42 FU (σ, x6 + 1) h _ _ _ hV hF (lv_sub hl [1, 2, 3, 4, 0] rfl)
set_option maxHeartbeats 4000000 in
theorem w_X10_laid_42 {p : Program} {l : Launch} {e : Env} {s : State} {m : MethodId} {args : Array Value} {below : List Frame} {meth : Method} {c : Code} {g : Gl} (X : FX g p m c s args meth cX10_laid 9 RX10 (some .int) "laid") {r : Int32 × Hp} {x0 : Nat} {x3 : Int32} {x4 : Int32}  : ∀ (n : Nat) (st : Hp × Int32), L_X10_laid_42 x0 x3 x4 n st = some r → ∀ (H : Heap) (locs : List Loc) (ls : Array Slot), HV g st.1 H → FR g locs → lv_has ls 9 [(0, .ref x0), (3, .int x3), (4, .int x4), (6, .int st.2)] → W p l e rm_X10_laid s m args below meth c H locs 0 0 (MQ below (Qi g r) args s 0 0 (frN g)) (F0 m 42 ls []) := by
  intro n
  induction n with
  | zero =>
    intro st h
    rw [L_X10_laid_42_0] at h
    cases h
  | succ n ih =>
    intro st h H locs ls hV hF hl
    rw [L_X10_laid_42_s] at h
    exact w_X10_laid_42_b X  ih h hV hF hl
set_option maxHeartbeats 4000000 in
theorem c_X10_laid (l : Launch) {g : Gl} {σ : Hp} {x0 : Nat} {x1 : Int64} {x3 : Int32} {x4 : Int32} {r : Int32 × Hp} (h : F_X10_laid σ x0 x1 x3 x4 = some r) : Met l yX10_laid (ws_ yX10_laid cX10_laid 9 (some .int)) rm_X10_laid (va_Pc [.ref x0, .long x1, .int x3, .int x4] (WV g σ)) (Qi g r) 0 0 (frN g) := by
  refine ct_of (by decide) (Nat.le_of_ble_eq_true rfl) ?_
  intro p e s m below meth c ls X hV hl
  have hF : FR g [] := FR_nil
  unfold F_X10_laid at h
  have hl : lv_has ls 9 [(0, .ref x0), (1, .long x1), (3, .int x3), (4, .int x4)] := hl
  have X : FX g p m c s _ meth cX10_laid 9 RX10 (some .int) "laid" := X
  obtain ⟨-, h⟩ := gd_inv h
  refine lv_iload_n X.1 X.2.1 dX10_laid_0 rfl (lv_at hl 2 rfl) ?_
  refine lv_iconst (v := 1) X.1 X.2.1 dX10_laid_1 (by decide) ?_
  refine lv_bipush (v := 8) X.1 X.2.1 dX10_laid_2 (by decide) ?_
  obtain ⟨v1, s1, hc, h⟩ := b2_inv h
  refine r_ci (va_runS (As := [.int x3, .int 1, .int 8]) (rest := []) (cfX X) (c_X10_in l hc) (va_cwS 3 X.2.2.2.2.1 (lw_S q1104 q1105 q59 q1106) rfl rfl rfl yd_X10_in ⟨Nat.le_of_ble_eq_true rfl, Nat.le_of_ble_eq_true rfl⟩) (preS X hV) rfl rfl hl.1 rfl (lv_room (Nat.le_of_ble_eq_true rfl)) dX10_laid_4 ⟨(Nat.le_of_ble_eq_true rfl), (Nat.le_of_ble_eq_true rfl)⟩) hF (fun H locs hV hF => ?_)
  refine r_ifne (tgt := 13) X.1 X.2.1 dX10_laid_7 (by decide) h (fun h => ?_) (fun h => ?_)
  · refine lv_aload_n X.1 X.2.1 dX10_laid_13 rfl (lv_at hl 0 rfl) ?_
    refine lv_lload_n X.1 X.2.1 dX10_laid_14 rfl (lv_at hl 1 rfl) ?_
    refine lv_iload_n X.1 X.2.1 dX10_laid_15 rfl (lv_at hl 2 rfl) ?_
    obtain ⟨v2, s2, hc, h⟩ := b2_inv h
    refine r_ci (va_runV (C := RX10) (As := [.long x1, .int x3]) (rest := []) (cfX X) (c_X10_take l hc) (cwV 2 X.2.2.2.2.1 (lw_V q1265 q1267 qs39 q59 q1268) rfl rfl rfl ⟨rfl, yd_X10_take⟩ ⟨Nat.le_of_ble_eq_true rfl, Nat.le_of_ble_eq_true rfl⟩) (preV X hV (F_X10_take_g hc) rfl) rfl rfl hl.1 rfl (lv_room (Nat.le_of_ble_eq_true rfl)) dX10_laid_16 ⟨(Nat.le_of_ble_eq_true rfl), (Nat.le_of_ble_eq_true rfl)⟩) hF (fun H locs hV hF => ?_)
    refine lv_istore (lv' := [(5, .int v2), (0, .ref x0), (1, .long x1), (3, .int x3), (4, .int x4)]) X.1 X.2.1 dX10_laid_19 hl (by decide) rfl (fun ls hl => ?_)
    refine lv_iload X.1 X.2.1 dX10_laid_21 (lv_at hl 0 rfl) ?_
    refine lv_iconst (v := 1) X.1 X.2.1 dX10_laid_23 (by decide) ?_
    refine r_eq (tgt := 30) X.1 X.2.1 dX10_laid_24 (by decide) h (fun h => ?_) (fun h => ?_)
    · refine lv_iload X.1 X.2.1 dX10_laid_30 (lv_at hl 4 rfl) ?_
      refine lv_iconst (v := (-1)) X.1 X.2.1 dX10_laid_32 (by decide) ?_
      refine r_ge (tgt := 39) X.1 X.2.1 dX10_laid_33 (by decide) h (fun h => ?_) (fun h => ?_)
      · refine lv_iconst (v := 0) X.1 X.2.1 dX10_laid_39 (by decide) ?_
        refine lv_istore (lv' := [(6, .int 0), (5, .int v2), (0, .ref x0), (1, .long x1), (3, .int x3), (4, .int x4)]) X.1 X.2.1 dX10_laid_40 hl (by decide) rfl (fun ls hl => ?_)
        exact w_X10_laid_42 X  FU (s2, 0) h _ _ _ hV hF (lv_sub hl [2, 4, 5, 0] rfl)
      · refine lv_bipush (v := (-3)) X.1 X.2.1 dX10_laid_36 (by decide) ?_
        exact r_iret X hV hF h dX10_laid_38
    · refine lv_iload X.1 X.2.1 dX10_laid_27 (lv_at hl 0 rfl) ?_
      exact r_iret X hV hF h dX10_laid_29
  · refine lv_bipush (v := (-3)) X.1 X.2.1 dX10_laid_10 (by decide) ?_
    exact r_iret X hV hF h dX10_laid_12
/-! PalaceOfRoomsModel.costOf -/
theorem dX10_costOf_0 : decode cX10_costOf 0 = .ok (.aload_n 0, 1) := by decide +kernel
theorem dX10_costOf_1 : decode cX10_costOf 1 = .ok (.iconst 0, 1) := by decide +kernel
theorem dX10_costOf_2 : decode cX10_costOf 2 = .ok (.iload_n 1, 1) := by decide +kernel
theorem dX10_costOf_3 : decode cX10_costOf 3 = .ok (.invokevirtual 108, 3) := by decide +kernel
theorem dX10_costOf_6 : decode cX10_costOf 6 = .ok (.istore_n 2, 1) := by decide +kernel
theorem dX10_costOf_7 : decode cX10_costOf 7 = .ok (.iload_n 2, 1) := by decide +kernel
theorem dX10_costOf_8 : decode cX10_costOf 8 = .ok (.iconst (-1), 1) := by decide +kernel
theorem dX10_costOf_9 : decode cX10_costOf 9 = .ok (.if_icmp .ne 7, 3) := by decide +kernel
theorem dX10_costOf_12 : decode cX10_costOf 12 = .ok (.iconst (-1), 1) := by decide +kernel
theorem dX10_costOf_13 : decode cX10_costOf 13 = .ok (.goto 12, 3) := by decide +kernel
theorem dX10_costOf_16 : decode cX10_costOf 16 = .ok (.iconst 2, 1) := by decide +kernel
theorem dX10_costOf_17 : decode cX10_costOf 17 = .ok (.iload_n 2, 1) := by decide +kernel
theorem dX10_costOf_18 : decode cX10_costOf 18 = .ok (.imul, 1) := by decide +kernel
theorem dX10_costOf_19 : decode cX10_costOf 19 = .ok (.aload_n 0, 1) := by decide +kernel
theorem dX10_costOf_20 : decode cX10_costOf 20 = .ok (.iload_n 1, 1) := by decide +kernel
theorem dX10_costOf_21 : decode cX10_costOf 21 = .ok (.invokevirtual 213, 3) := by decide +kernel
theorem dX10_costOf_24 : decode cX10_costOf 24 = .ok (.iadd, 1) := by decide +kernel
theorem dX10_costOf_25 : decode cX10_costOf 25 = .ok (.ireturn, 1) := by decide +kernel
theorem yd_X10_costOf : yX10_costOf.cls ≠ "java/lang/invoke/MethodHandle" ∧ yX10_costOf.cls ≠ "java/lang/invoke/VarHandle" ∧ (parseMethodDescriptor yX10_costOf.desc).map (fun d => d.parameters.length) = some 1 := by decide +kernel
abbrev rm_X10_costOf : Room := { frames := 1, cells := 0, slots := 0, locals := 26 }
set_option maxHeartbeats 4000000 in
theorem c_X10_costOf (l : Launch) {g : Gl} {σ : Hp} {x0 : Nat} {x1 : Int32} {r : Int32 × Hp} (h : F_X10_costOf σ x0 x1 = some r) : Met l yX10_costOf (ws_ yX10_costOf cX10_costOf 3 (some .int)) rm_X10_costOf (va_Pc [.ref x0, .int x1] (WV g σ)) (Qi g r) 0 0 (frN g) := by
  refine ct_of (by decide) (Nat.le_of_ble_eq_true rfl) ?_
  intro p e s m below meth c ls X hV hl
  have hF : FR g [] := FR_nil
  unfold F_X10_costOf at h
  have hl : lv_has ls 3 [(0, .ref x0), (1, .int x1)] := hl
  have X : FX g p m c s _ meth cX10_costOf 3 RX10 (some .int) "costOf" := X
  obtain ⟨-, h⟩ := gd_inv h
  refine lv_aload_n X.1 X.2.1 dX10_costOf_0 rfl (lv_at hl 0 rfl) ?_
  refine lv_iconst (v := 0) X.1 X.2.1 dX10_costOf_1 (by decide) ?_
  refine lv_iload_n X.1 X.2.1 dX10_costOf_2 rfl (lv_at hl 1 rfl) ?_
  obtain ⟨v1, s1, hc, h⟩ := b2_inv h
  refine r_ci (va_runV (C := RX10) (As := [.int 0, .int x1]) (rest := []) (cfX X) (c_X10_doorsTo l hc) (cwV 2 X.2.2.2.2.1 (lw_V q1115 q1117 qs23 q59 q1118) rfl rfl rfl ⟨rfl, yd_X10_doorsTo⟩ ⟨Nat.le_of_ble_eq_true rfl, Nat.le_of_ble_eq_true rfl⟩) (preV X hV (F_X10_doorsTo_g hc) rfl) rfl rfl hl.1 rfl (lv_room (Nat.le_of_ble_eq_true rfl)) dX10_costOf_3 ⟨(Nat.le_of_ble_eq_true rfl), (Nat.le_of_ble_eq_true rfl)⟩) hF (fun H locs hV hF => ?_)
  refine lv_istore_n (lv' := [(2, .int v1), (0, .ref x0), (1, .int x1)]) X.1 X.2.1 dX10_costOf_6 rfl hl (by decide) rfl (fun ls hl => ?_)
  refine lv_iload_n X.1 X.2.1 dX10_costOf_7 rfl (lv_at hl 0 rfl) ?_
  refine lv_iconst (v := (-1)) X.1 X.2.1 dX10_costOf_8 (by decide) ?_
  refine r_ne (tgt := 16) X.1 X.2.1 dX10_costOf_9 (by decide) h (fun h => ?_) (fun h => ?_)
  · refine lv_iconst (v := 2) X.1 X.2.1 dX10_costOf_16 (by decide) ?_
    refine lv_iload_n X.1 X.2.1 dX10_costOf_17 rfl (lv_at hl 0 rfl) ?_
    refine lv_imul X.1 X.2.1 dX10_costOf_18 ?_
    refine lv_aload_n X.1 X.2.1 dX10_costOf_19 rfl (lv_at hl 1 rfl) ?_
    refine lv_iload_n X.1 X.2.1 dX10_costOf_20 rfl (lv_at hl 2 rfl) ?_
    obtain ⟨v2, s2, hc, h⟩ := b2_inv h
    refine r_ci (va_runV (C := RX10) (As := [.int x1]) (rest := [.int (2 * v1)]) (cfX X) (c_X10_standIn l hc) (cwV 1 X.2.2.2.2.1 (lw_V q1245 q1247 qs36 q59 q1248) rfl rfl rfl ⟨rfl, yd_X10_standIn⟩ ⟨Nat.le_of_ble_eq_true rfl, Nat.le_of_ble_eq_true rfl⟩) (preV X hV (F_X10_standIn_g hc) rfl) rfl rfl hl.1 rfl (lv_room (Nat.le_of_ble_eq_true rfl)) dX10_costOf_21 ⟨(Nat.le_of_ble_eq_true rfl), (Nat.le_of_ble_eq_true rfl)⟩) hF (fun H locs hV hF => ?_)
    refine lv_iadd X.1 X.2.1 dX10_costOf_24 ?_
    exact r_iret X hV hF h dX10_costOf_25
  · refine lv_iconst (v := (-1)) X.1 X.2.1 dX10_costOf_12 (by decide) ?_
    refine lv_goto (tgt := 25) X.1 X.2.1 dX10_costOf_13 (by decide) ?_
    exact r_iret X hV hF h dX10_costOf_25
/-! PalaceOfRoomsModel.cost -/
theorem dX10_cost_0 : decode cX10_cost 0 = .ok (.iload_n 1, 1) := by decide +kernel
theorem dX10_cost_1 : decode cX10_cost 1 = .ok (.invokestatic 100, 3) := by decide +kernel
theorem dX10_cost_4 : decode cX10_cost 4 = .ok (.ifCond .eq 11, 3) := by decide +kernel
theorem dX10_cost_7 : decode cX10_cost 7 = .ok (.aload_n 0, 1) := by decide +kernel
theorem dX10_cost_8 : decode cX10_cost 8 = .ok (.iload_n 1, 1) := by decide +kernel
theorem dX10_cost_9 : decode cX10_cost 9 = .ok (.invokevirtual 242, 3) := by decide +kernel
theorem dX10_cost_12 : decode cX10_cost 12 = .ok (.goto 5, 3) := by decide +kernel
theorem dX10_cost_15 : decode cX10_cost 15 = .ok (.bipush (-2), 2) := by decide +kernel
theorem dX10_cost_17 : decode cX10_cost 17 = .ok (.ireturn, 1) := by decide +kernel
theorem yd_X10_cost : yX10_cost.cls ≠ "java/lang/invoke/MethodHandle" ∧ yX10_cost.cls ≠ "java/lang/invoke/VarHandle" ∧ (parseMethodDescriptor yX10_cost.desc).map (fun d => d.parameters.length) = some 1 := by decide +kernel
abbrev rm_X10_cost : Room := { frames := 2, cells := 0, slots := 0, locals := 48 }
set_option maxHeartbeats 4000000 in
theorem c_X10_cost (l : Launch) {g : Gl} {σ : Hp} {x0 : Nat} {x1 : Int32} {r : Int32 × Hp} (h : F_X10_cost σ x0 x1 = some r) : Met l yX10_cost (ws_ yX10_cost cX10_cost 2 (some .int)) rm_X10_cost (va_Pc [.ref x0, .int x1] (WV g σ)) (Qi g r) 0 0 (frN g) := by
  refine ct_of (by decide) (Nat.le_of_ble_eq_true rfl) ?_
  intro p e s m below meth c ls X hV hl
  have hF : FR g [] := FR_nil
  unfold F_X10_cost at h
  have hl : lv_has ls 2 [(0, .ref x0), (1, .int x1)] := hl
  have X : FX g p m c s _ meth cX10_cost 2 RX10 (some .int) "cost" := X
  obtain ⟨-, h⟩ := gd_inv h
  refine lv_iload_n X.1 X.2.1 dX10_cost_0 rfl (lv_at hl 1 rfl) ?_
  obtain ⟨v1, s1, hc, h⟩ := b2_inv h
  refine r_ci (va_runS (As := [.int x1]) (rest := []) (cfX X) (c_X10_isRoom l hc) (va_cwS 1 X.2.2.2.2.1 (lw_S q1101 q1102 q59 q1103) rfl rfl rfl yd_X10_isRoom ⟨Nat.le_of_ble_eq_true rfl, Nat.le_of_ble_eq_true rfl⟩) (preS X hV) rfl rfl hl.1 rfl (lv_room (Nat.le_of_ble_eq_true rfl)) dX10_cost_1 ⟨(Nat.le_of_ble_eq_true rfl), (Nat.le_of_ble_eq_true rfl)⟩) hF (fun H locs hV hF => ?_)
  refine r_ifeq (tgt := 15) X.1 X.2.1 dX10_cost_4 (by decide) h (fun h => ?_) (fun h => ?_)
  · refine lv_bipush (v := (-2)) X.1 X.2.1 dX10_cost_15 (by decide) ?_
    exact r_iret X hV hF h dX10_cost_17
  · refine lv_aload_n X.1 X.2.1 dX10_cost_7 rfl (lv_at hl 0 rfl) ?_
    refine lv_iload_n X.1 X.2.1 dX10_cost_8 rfl (lv_at hl 1 rfl) ?_
    obtain ⟨v2, s2, hc, h⟩ := b2_inv h
    refine r_ci (va_runV (C := RX10) (As := [.int x1]) (rest := []) (cfX X) (c_X10_costOf l hc) (cwV 1 X.2.2.2.2.1 (lw_V q1286 q1288 qs43 q59 q1289) rfl rfl rfl ⟨rfl, yd_X10_costOf⟩ ⟨Nat.le_of_ble_eq_true rfl, Nat.le_of_ble_eq_true rfl⟩) (preV X hV (F_X10_costOf_g hc) rfl) rfl rfl hl.1 rfl (lv_room (Nat.le_of_ble_eq_true rfl)) dX10_cost_9 ⟨(Nat.le_of_ble_eq_true rfl), (Nat.le_of_ble_eq_true rfl)⟩) hF (fun H locs hV hF => ?_)
    refine lv_goto (tgt := 17) X.1 X.2.1 dX10_cost_12 (by decide) ?_
    exact r_iret X hV hF h dX10_cost_17
/-! PalaceOfRoomsModel.areMinutes -/
theorem dX10_areMinutes_0 : decode cX10_areMinutes 0 = .ok (.iload_n 0, 1) := by decide +kernel
theorem dX10_areMinutes_1 : decode cX10_areMinutes 1 = .ok (.iconst 1, 1) := by decide +kernel
theorem dX10_areMinutes_2 : decode cX10_areMinutes 2 = .ok (.iconst 4, 1) := by decide +kernel
theorem dX10_areMinutes_3 : decode cX10_areMinutes 3 = .ok (.invokestatic 93, 3) := by decide +kernel
theorem dX10_areMinutes_6 : decode cX10_areMinutes 6 = .ok (.istore_n 2, 1) := by decide +kernel
theorem dX10_areMinutes_7 : decode cX10_areMinutes 7 = .ok (.iconst 0, 1) := by decide +kernel
theorem dX10_areMinutes_8 : decode cX10_areMinutes 8 = .ok (.istore_n 3, 1) := by decide +kernel
theorem dX10_areMinutes_9 : decode cX10_areMinutes 9 = .ok (.iload_n 3, 1) := by decide +kernel
theorem dX10_areMinutes_10 : decode cX10_areMinutes 10 = .ok (.iload_n 0, 1) := by decide +kernel
theorem dX10_areMinutes_11 : decode cX10_areMinutes 11 = .ok (.if_icmp .ge 33, 3) := by decide +kernel
theorem dX10_areMinutes_14 : decode cX10_areMinutes 14 = .ok (.iload_n 2, 1) := by decide +kernel
theorem dX10_areMinutes_15 : decode cX10_areMinutes 15 = .ok (.ifCond .eq 29, 3) := by decide +kernel
theorem dX10_areMinutes_18 : decode cX10_areMinutes 18 = .ok (.iload_n 1, 1) := by decide +kernel
theorem dX10_areMinutes_19 : decode cX10_areMinutes 19 = .ok (.bipush 7, 2) := by decide +kernel
theorem dX10_areMinutes_21 : decode cX10_areMinutes 21 = .ok (.iload_n 3, 1) := by decide +kernel
theorem dX10_areMinutes_22 : decode cX10_areMinutes 22 = .ok (.imul, 1) := by decide +kernel
theorem dX10_areMinutes_23 : decode cX10_areMinutes 23 = .ok (.ishr, 1) := by decide +kernel
theorem dX10_areMinutes_24 : decode cX10_areMinutes 24 = .ok (.bipush 127, 2) := by decide +kernel
theorem dX10_areMinutes_26 : decode cX10_areMinutes 26 = .ok (.iand, 1) := by decide +kernel
theorem dX10_areMinutes_27 : decode cX10_areMinutes 27 = .ok (.bipush 100, 2) := by decide +kernel
theorem dX10_areMinutes_29 : decode cX10_areMinutes 29 = .ok (.if_icmp .ge 7, 3) := by decide +kernel
theorem dX10_areMinutes_32 : decode cX10_areMinutes 32 = .ok (.iconst 1, 1) := by decide +kernel
theorem dX10_areMinutes_33 : decode cX10_areMinutes 33 = .ok (.goto 4, 3) := by decide +kernel
theorem dX10_areMinutes_36 : decode cX10_areMinutes 36 = .ok (.iconst 0, 1) := by decide +kernel
theorem dX10_areMinutes_37 : decode cX10_areMinutes 37 = .ok (.istore_n 2, 1) := by decide +kernel
theorem dX10_areMinutes_38 : decode cX10_areMinutes 38 = .ok (.iinc 3 1, 3) := by decide +kernel
theorem dX10_areMinutes_41 : decode cX10_areMinutes 41 = .ok (.goto (-32), 3) := by decide +kernel
theorem dX10_areMinutes_44 : decode cX10_areMinutes 44 = .ok (.iload_n 2, 1) := by decide +kernel
theorem dX10_areMinutes_45 : decode cX10_areMinutes 45 = .ok (.ireturn, 1) := by decide +kernel
theorem yd_X10_areMinutes : yX10_areMinutes.cls ≠ "java/lang/invoke/MethodHandle" ∧ yX10_areMinutes.cls ≠ "java/lang/invoke/VarHandle" ∧ (parseMethodDescriptor yX10_areMinutes.desc).map (fun d => d.parameters.length) = some 2 := by decide +kernel
abbrev rm_X10_areMinutes : Room := { frames := 1, cells := 0, slots := 0, locals := 22 }
set_option maxHeartbeats 4000000 in
theorem w_X10_areMinutes_9_b {p : Program} {l : Launch} {e : Env} {s : State} {m : MethodId} {args : Array Value} {below : List Frame} {meth : Method} {c : Code} {g : Gl} (X : FX g p m c s args meth cX10_areMinutes 4 RX10 (some .boolean) "areMinutes") {r : Int32 × Hp} {rec9 : Int32 × Int32 → Option (Int32 × Hp)} {σ : Hp} {x0 : Int32} {x1 : Int32} {x2 : Int32} {x3 : Int32} (hr9 : ∀ (st : Int32 × Int32), rec9 st = some r → ∀ (H : Heap) (locs : List Loc) (ls : Array Slot), HV g σ H → FR g locs → lv_has ls 4 [(0, .int x0), (1, .int x1), (2, .int st.1), (3, .int st.2)] → W p l e rm_X10_areMinutes s m args below meth c H locs 0 0 (MQ below (Qi g r) args s 0 0 (frN g)) (F0 m 9 ls [])) {H : Heap} {locs : List Loc} {ls : Array Slot} (h : B_X10_areMinutes_9 σ x0 x1 rec9 x2 x3 = some r) (hV : HV g σ H) (hF : FR g locs) (hl : lv_has ls 4 [(0, .int x0), (1, .int x1), (2, .int x2), (3, .int x3)]) : W p l e rm_X10_areMinutes s m args below meth c H locs 0 0 (MQ below (Qi g r) args s 0 0 (frN g)) (F0 m 9 ls []) := by
  unfold B_X10_areMinutes_9 at h
  refine lv_iload_n X.1 X.2.1 dX10_areMinutes_9 rfl (lv_at hl 3 rfl) ?_
  refine lv_iload_n X.1 X.2.1 dX10_areMinutes_10 rfl (lv_at hl 0 rfl) ?_
  refine r_ge (tgt := 44) X.1 X.2.1 dX10_areMinutes_11 (by decide) h (fun h => ?_) (fun h => ?_)
  · refine lv_iload_n X.1 X.2.1 dX10_areMinutes_44 rfl (lv_at hl 2 rfl) ?_
    exact r_zrv X hV hF h dX10_areMinutes_45
  · refine lv_iload_n X.1 X.2.1 dX10_areMinutes_14 rfl (lv_at hl 2 rfl) ?_
    refine r_ifeq (tgt := 44) X.1 X.2.1 dX10_areMinutes_15 (by decide) h (fun h => ?_) (fun h => ?_)
    · refine lv_iload_n X.1 X.2.1 dX10_areMinutes_44 rfl (lv_at hl 2 rfl) ?_
      exact r_zrv X hV hF h dX10_areMinutes_45
    · refine lv_iload_n X.1 X.2.1 dX10_areMinutes_18 rfl (lv_at hl 1 rfl) ?_
      refine lv_bipush (v := 7) X.1 X.2.1 dX10_areMinutes_19 (by decide) ?_
      refine lv_iload_n X.1 X.2.1 dX10_areMinutes_21 rfl (lv_at hl 3 rfl) ?_
      refine lv_imul X.1 X.2.1 dX10_areMinutes_22 ?_
      refine lv_ishr X.1 X.2.1 dX10_areMinutes_23 ?_
      refine lv_bipush (v := 127) X.1 X.2.1 dX10_areMinutes_24 (by decide) ?_
      refine lv_iand X.1 X.2.1 dX10_areMinutes_26 ?_
      refine lv_bipush (v := 100) X.1 X.2.1 dX10_areMinutes_27 (by decide) ?_
      refine r_ge (tgt := 36) X.1 X.2.1 dX10_areMinutes_29 (by decide) h (fun h => ?_) (fun h => ?_)
      · refine lv_iconst (v := 0) X.1 X.2.1 dX10_areMinutes_36 (by decide) ?_
        refine lv_istore_n (lv' := [(2, .int 0), (0, .int x0), (1, .int x1), (3, .int x3)]) X.1 X.2.1 dX10_areMinutes_37 rfl hl (by decide) rfl (fun ls hl => ?_)
        refine lv_iinc (v := x3 + 1) (lv' := [(3, .int (x3 + 1)), (2, .int 0), (0, .int x0), (1, .int x1)]) X.1 X.2.1 dX10_areMinutes_38 hl (k := 3) rfl rfl (by decide) rfl (fun ls hl => ?_)
        refine lv_goto (tgt := 9) X.1 X.2.1 dX10_areMinutes_41 (by decide) ?_
        exact hr9 (0, x3 + 1) h _ _ _ hV hF (lv_sub hl [2, 3, 1, 0] rfl)
      · refine lv_iconst (v := 1) X.1 X.2.1 dX10_areMinutes_32 (by decide) ?_
        refine lv_goto (tgt := 37) X.1 X.2.1 dX10_areMinutes_33 (by decide) ?_
        refine lv_istore_n (lv' := [(2, .int 1), (0, .int x0), (1, .int x1), (3, .int x3)]) X.1 X.2.1 dX10_areMinutes_37 rfl hl (by decide) rfl (fun ls hl => ?_)
        refine lv_iinc (v := x3 + 1) (lv' := [(3, .int (x3 + 1)), (2, .int 1), (0, .int x0), (1, .int x1)]) X.1 X.2.1 dX10_areMinutes_38 hl (k := 3) rfl rfl (by decide) rfl (fun ls hl => ?_)
        refine lv_goto (tgt := 9) X.1 X.2.1 dX10_areMinutes_41 (by decide) ?_
        exact hr9 (1, x3 + 1) h _ _ _ hV hF (lv_sub hl [2, 3, 1, 0] rfl)
set_option maxHeartbeats 4000000 in
theorem w_X10_areMinutes_9 {p : Program} {l : Launch} {e : Env} {s : State} {m : MethodId} {args : Array Value} {below : List Frame} {meth : Method} {c : Code} {g : Gl} (X : FX g p m c s args meth cX10_areMinutes 4 RX10 (some .boolean) "areMinutes") {r : Int32 × Hp} {σ : Hp} {x0 : Int32} {x1 : Int32}  : ∀ (n : Nat) (st : Int32 × Int32), L_X10_areMinutes_9 σ x0 x1 n st = some r → ∀ (H : Heap) (locs : List Loc) (ls : Array Slot), HV g σ H → FR g locs → lv_has ls 4 [(0, .int x0), (1, .int x1), (2, .int st.1), (3, .int st.2)] → W p l e rm_X10_areMinutes s m args below meth c H locs 0 0 (MQ below (Qi g r) args s 0 0 (frN g)) (F0 m 9 ls []) := by
  intro n
  induction n with
  | zero =>
    intro st h
    rw [L_X10_areMinutes_9_0] at h
    cases h
  | succ n ih =>
    intro st h H locs ls hV hF hl
    rw [L_X10_areMinutes_9_s] at h
    exact w_X10_areMinutes_9_b X  ih h hV hF hl
set_option maxHeartbeats 4000000 in
theorem c_X10_areMinutes (l : Launch) {g : Gl} {σ : Hp} {x0 : Int32} {x1 : Int32} {r : Int32 × Hp} (h : F_X10_areMinutes σ x0 x1 = some r) : Met l yX10_areMinutes (ws_ yX10_areMinutes cX10_areMinutes 4 (some .boolean)) rm_X10_areMinutes (va_Pc [.int x0, .int x1] (WV g σ)) (Qi g r) 0 0 (frN g) := by
  refine ct_of (by decide) (Nat.le_of_ble_eq_true rfl) ?_
  intro p e s m below meth c ls X hV hl
  have hF : FR g [] := FR_nil
  unfold F_X10_areMinutes at h
  have hl : lv_has ls 4 [(0, .int x0), (1, .int x1)] := hl
  have X : FX g p m c s _ meth cX10_areMinutes 4 RX10 (some .boolean) "areMinutes" := X
  refine lv_iload_n X.1 X.2.1 dX10_areMinutes_0 rfl (lv_at hl 0 rfl) ?_
  refine lv_iconst (v := 1) X.1 X.2.1 dX10_areMinutes_1 (by decide) ?_
  refine lv_iconst (v := 4) X.1 X.2.1 dX10_areMinutes_2 (by decide) ?_
  obtain ⟨v1, s1, hc, h⟩ := b2_inv h
  refine r_ci (va_runS (As := [.int x0, .int 1, .int 4]) (rest := []) (cfX X) (c_X10_in l hc) (va_cwS 3 X.2.2.2.2.1 (lw_S q1104 q1105 q59 q1106) rfl rfl rfl yd_X10_in ⟨Nat.le_of_ble_eq_true rfl, Nat.le_of_ble_eq_true rfl⟩) (preS X hV) rfl rfl hl.1 rfl (lv_room (Nat.le_of_ble_eq_true rfl)) dX10_areMinutes_3 ⟨(Nat.le_of_ble_eq_true rfl), (Nat.le_of_ble_eq_true rfl)⟩) hF (fun H locs hV hF => ?_)
  refine lv_istore_n (lv' := [(2, .int v1), (0, .int x0), (1, .int x1)]) X.1 X.2.1 dX10_areMinutes_6 rfl hl (by decide) rfl (fun ls hl => ?_)
  refine lv_iconst (v := 0) X.1 X.2.1 dX10_areMinutes_7 (by decide) ?_
  refine lv_istore_n (lv' := [(3, .int 0), (2, .int v1), (0, .int x0), (1, .int x1)]) X.1 X.2.1 dX10_areMinutes_8 rfl hl (by decide) rfl (fun ls hl => ?_)
  exact w_X10_areMinutes_9 X  FU (v1, 0) h _ _ _ hV hF (lv_sub hl [2, 3, 1, 0] rfl)
/-! PalaceOfRoomsModel.isGone -/
theorem dX10_isGone_0 : decode cX10_isGone 0 = .ok (.iconst 0, 1) := by decide +kernel
theorem dX10_isGone_1 : decode cX10_isGone 1 = .ok (.istore 4, 2) := by decide +kernel
theorem dX10_isGone_3 : decode cX10_isGone 3 = .ok (.iload 4, 2) := by decide +kernel
theorem dX10_isGone_5 : decode cX10_isGone 5 = .ok (.bipush 48, 2) := by decide +kernel
theorem dX10_isGone_7 : decode cX10_isGone 7 = .ok (.if_icmp .ge 63, 3) := by decide +kernel
theorem dX10_isGone_10 : decode cX10_isGone 10 = .ok (.aload_n 0, 1) := by decide +kernel
theorem dX10_isGone_11 : decode cX10_isGone 11 = .ok (.getfield 50, 3) := by decide +kernel
theorem dX10_isGone_14 : decode cX10_isGone 14 = .ok (.bipush 48, 2) := by decide +kernel
theorem dX10_isGone_16 : decode cX10_isGone 16 = .ok (.iload_n 1, 1) := by decide +kernel
theorem dX10_isGone_17 : decode cX10_isGone 17 = .ok (.imul, 1) := by decide +kernel
theorem dX10_isGone_18 : decode cX10_isGone 18 = .ok (.bipush 48, 2) := by decide +kernel
theorem dX10_isGone_20 : decode cX10_isGone 20 = .ok (.iadd, 1) := by decide +kernel
theorem dX10_isGone_21 : decode cX10_isGone 21 = .ok (.iload 4, 2) := by decide +kernel
theorem dX10_isGone_23 : decode cX10_isGone 23 = .ok (.iadd, 1) := by decide +kernel
theorem dX10_isGone_24 : decode cX10_isGone 24 = .ok (.aload_n 0, 1) := by decide +kernel
theorem dX10_isGone_25 : decode cX10_isGone 25 = .ok (.getfield 50, 3) := by decide +kernel
theorem dX10_isGone_28 : decode cX10_isGone 28 = .ok (.bipush 48, 2) := by decide +kernel
theorem dX10_isGone_30 : decode cX10_isGone 30 = .ok (.iload_n 1, 1) := by decide +kernel
theorem dX10_isGone_31 : decode cX10_isGone 31 = .ok (.imul, 1) := by decide +kernel
theorem dX10_isGone_32 : decode cX10_isGone 32 = .ok (.iload 4, 2) := by decide +kernel
theorem dX10_isGone_34 : decode cX10_isGone 34 = .ok (.iadd, 1) := by decide +kernel
theorem dX10_isGone_35 : decode cX10_isGone 35 = .ok (.iaload, 1) := by decide +kernel
theorem dX10_isGone_36 : decode cX10_isGone 36 = .ok (.iastore, 1) := by decide +kernel
theorem dX10_isGone_37 : decode cX10_isGone 37 = .ok (.aload_n 0, 1) := by decide +kernel
theorem dX10_isGone_38 : decode cX10_isGone 38 = .ok (.getfield 53, 3) := by decide +kernel
theorem dX10_isGone_41 : decode cX10_isGone 41 = .ok (.bipush 48, 2) := by decide +kernel
theorem dX10_isGone_43 : decode cX10_isGone 43 = .ok (.iload_n 1, 1) := by decide +kernel
theorem dX10_isGone_44 : decode cX10_isGone 44 = .ok (.imul, 1) := by decide +kernel
theorem dX10_isGone_45 : decode cX10_isGone 45 = .ok (.bipush 48, 2) := by decide +kernel
theorem dX10_isGone_47 : decode cX10_isGone 47 = .ok (.iadd, 1) := by decide +kernel
theorem dX10_isGone_48 : decode cX10_isGone 48 = .ok (.iload 4, 2) := by decide +kernel
theorem dX10_isGone_50 : decode cX10_isGone 50 = .ok (.iadd, 1) := by decide +kernel
theorem dX10_isGone_51 : decode cX10_isGone 51 = .ok (.aload_n 0, 1) := by decide +kernel
theorem dX10_isGone_52 : decode cX10_isGone 52 = .ok (.getfield 53, 3) := by decide +kernel
theorem dX10_isGone_55 : decode cX10_isGone 55 = .ok (.bipush 48, 2) := by decide +kernel
theorem dX10_isGone_57 : decode cX10_isGone 57 = .ok (.iload_n 1, 1) := by decide +kernel
theorem dX10_isGone_58 : decode cX10_isGone 58 = .ok (.imul, 1) := by decide +kernel
theorem dX10_isGone_59 : decode cX10_isGone 59 = .ok (.iload 4, 2) := by decide +kernel
theorem dX10_isGone_61 : decode cX10_isGone 61 = .ok (.iadd, 1) := by decide +kernel
theorem dX10_isGone_62 : decode cX10_isGone 62 = .ok (.iaload, 1) := by decide +kernel
theorem dX10_isGone_63 : decode cX10_isGone 63 = .ok (.iastore, 1) := by decide +kernel
theorem dX10_isGone_64 : decode cX10_isGone 64 = .ok (.iinc 4 1, 3) := by decide +kernel
theorem dX10_isGone_67 : decode cX10_isGone 67 = .ok (.goto (-64), 3) := by decide +kernel
theorem dX10_isGone_70 : decode cX10_isGone 70 = .ok (.iload_n 2, 1) := by decide +kernel
theorem dX10_isGone_71 : decode cX10_isGone 71 = .ok (.bipush 8, 2) := by decide +kernel
theorem dX10_isGone_73 : decode cX10_isGone 73 = .ok (.if_icmp .ne 7, 3) := by decide +kernel
theorem dX10_isGone_76 : decode cX10_isGone 76 = .ok (.iconst 0, 1) := by decide +kernel
theorem dX10_isGone_77 : decode cX10_isGone 77 = .ok (.goto 8, 3) := by decide +kernel
theorem dX10_isGone_80 : decode cX10_isGone 80 = .ok (.aload_n 0, 1) := by decide +kernel
theorem dX10_isGone_81 : decode cX10_isGone 81 = .ok (.iload_n 2, 1) := by decide +kernel
theorem dX10_isGone_82 : decode cX10_isGone 82 = .ok (.invokevirtual 242, 3) := by decide +kernel
theorem dX10_isGone_85 : decode cX10_isGone 85 = .ok (.istore 4, 2) := by decide +kernel
theorem dX10_isGone_87 : decode cX10_isGone 87 = .ok (.iload 4, 2) := by decide +kernel
theorem dX10_isGone_89 : decode cX10_isGone 89 = .ok (.iconst (-1), 1) := by decide +kernel
theorem dX10_isGone_90 : decode cX10_isGone 90 = .ok (.if_icmp .eq 23, 3) := by decide +kernel
theorem dX10_isGone_93 : decode cX10_isGone 93 = .ok (.iload 4, 2) := by decide +kernel
theorem dX10_isGone_95 : decode cX10_isGone 95 = .ok (.iload_n 3, 1) := by decide +kernel
theorem dX10_isGone_96 : decode cX10_isGone 96 = .ok (.bipush 7, 2) := by decide +kernel
theorem dX10_isGone_98 : decode cX10_isGone 98 = .ok (.iload_n 1, 1) := by decide +kernel
theorem dX10_isGone_99 : decode cX10_isGone 99 = .ok (.imul, 1) := by decide +kernel
theorem dX10_isGone_100 : decode cX10_isGone 100 = .ok (.ishr, 1) := by decide +kernel
theorem dX10_isGone_101 : decode cX10_isGone 101 = .ok (.bipush 127, 2) := by decide +kernel
theorem dX10_isGone_103 : decode cX10_isGone 103 = .ok (.iand, 1) := by decide +kernel
theorem dX10_isGone_104 : decode cX10_isGone 104 = .ok (.if_icmp .le 11, 3) := by decide +kernel
theorem dX10_isGone_107 : decode cX10_isGone 107 = .ok (.iload_n 2, 1) := by decide +kernel
theorem dX10_isGone_108 : decode cX10_isGone 108 = .ok (.bipush 8, 2) := by decide +kernel
theorem dX10_isGone_110 : decode cX10_isGone 110 = .ok (.if_icmp .ge 5, 3) := by decide +kernel
theorem dX10_isGone_113 : decode cX10_isGone 113 = .ok (.iconst 0, 1) := by decide +kernel
theorem dX10_isGone_114 : decode cX10_isGone 114 = .ok (.ireturn, 1) := by decide +kernel
theorem dX10_isGone_115 : decode cX10_isGone 115 = .ok (.iload_n 2, 1) := by decide +kernel
theorem dX10_isGone_116 : decode cX10_isGone 116 = .ok (.bipush 8, 2) := by decide +kernel
theorem dX10_isGone_118 : decode cX10_isGone 118 = .ok (.if_icmp .ge 16, 3) := by decide +kernel
theorem dX10_isGone_121 : decode cX10_isGone 121 = .ok (.aload_n 0, 1) := by decide +kernel
theorem dX10_isGone_122 : decode cX10_isGone 122 = .ok (.iload_n 2, 1) := by decide +kernel
theorem dX10_isGone_123 : decode cX10_isGone 123 = .ok (.bipush 48, 2) := by decide +kernel
theorem dX10_isGone_125 : decode cX10_isGone 125 = .ok (.iload_n 1, 1) := by decide +kernel
theorem dX10_isGone_126 : decode cX10_isGone 126 = .ok (.imul, 1) := by decide +kernel
theorem dX10_isGone_127 : decode cX10_isGone 127 = .ok (.bipush 48, 2) := by decide +kernel
theorem dX10_isGone_129 : decode cX10_isGone 129 = .ok (.iadd, 1) := by decide +kernel
theorem dX10_isGone_130 : decode cX10_isGone 130 = .ok (.invokevirtual 138, 3) := by decide +kernel
theorem dX10_isGone_133 : decode cX10_isGone 133 = .ok (.pop, 1) := by decide +kernel
theorem dX10_isGone_134 : decode cX10_isGone 134 = .ok (.aload_n 0, 1) := by decide +kernel
theorem dX10_isGone_135 : decode cX10_isGone 135 = .ok (.bipush 48, 2) := by decide +kernel
theorem dX10_isGone_137 : decode cX10_isGone 137 = .ok (.iload_n 1, 1) := by decide +kernel
theorem dX10_isGone_138 : decode cX10_isGone 138 = .ok (.imul, 1) := by decide +kernel
theorem dX10_isGone_139 : decode cX10_isGone 139 = .ok (.bipush 48, 2) := by decide +kernel
theorem dX10_isGone_141 : decode cX10_isGone 141 = .ok (.iadd, 1) := by decide +kernel
theorem dX10_isGone_142 : decode cX10_isGone 142 = .ok (.bipush 48, 2) := by decide +kernel
theorem dX10_isGone_144 : decode cX10_isGone 144 = .ok (.iload_n 1, 1) := by decide +kernel
theorem dX10_isGone_145 : decode cX10_isGone 145 = .ok (.imul, 1) := by decide +kernel
theorem dX10_isGone_146 : decode cX10_isGone 146 = .ok (.bipush 48, 2) := by decide +kernel
theorem dX10_isGone_148 : decode cX10_isGone 148 = .ok (.iadd, 1) := by decide +kernel
theorem dX10_isGone_149 : decode cX10_isGone 149 = .ok (.invokevirtual 134, 3) := by decide +kernel
theorem dX10_isGone_152 : decode cX10_isGone 152 = .ok (.iconst 1, 1) := by decide +kernel
theorem dX10_isGone_153 : decode cX10_isGone 153 = .ok (.ireturn, 1) := by decide +kernel
theorem yd_X10_isGone : yX10_isGone.cls ≠ "java/lang/invoke/MethodHandle" ∧ yX10_isGone.cls ≠ "java/lang/invoke/VarHandle" ∧ (parseMethodDescriptor yX10_isGone.desc).map (fun d => d.parameters.length) = some 3 := by decide +kernel
abbrev rm_X10_isGone : Room := { frames := 3, cells := 0, slots := 0, locals := 73 }
set_option maxHeartbeats 4000000 in
theorem w_X10_isGone_134 {p : Program} {l : Launch} {e : Env} {s : State} {m : MethodId} {args : Array Value} {below : List Frame} {meth : Method} {c : Code} {g : Gl} (X : FX g p m c s args meth cX10_isGone 5 RX10 (some .boolean) "isGone") {r : Int32 × Hp} {σ : Hp} {x0 : Nat} {x1 : Int32}  {H : Heap} {locs : List Loc} {ls : Array Slot} (h : F_X10_isGone_134 σ x0 x1 = some r) (hV : HV g σ H) (hF : FR g locs) (hl : lv_has ls 5 [(0, .ref x0), (1, .int x1)]) : W p l e rm_X10_isGone s m args below meth c H locs 0 0 (MQ below (Qi g r) args s 0 0 (frN g)) (F0 m 134 ls []) := by
  unfold F_X10_isGone_134 at h
  refine lv_aload_n X.1 X.2.1 dX10_isGone_134 rfl (lv_at hl 0 rfl) ?_
  refine lv_bipush (v := 48) X.1 X.2.1 dX10_isGone_135 (by decide) ?_
  refine lv_iload_n X.1 X.2.1 dX10_isGone_137 rfl (lv_at hl 1 rfl) ?_
  refine lv_imul X.1 X.2.1 dX10_isGone_138 ?_
  refine lv_bipush (v := 48) X.1 X.2.1 dX10_isGone_139 (by decide) ?_
  refine lv_iadd X.1 X.2.1 dX10_isGone_141 ?_
  refine lv_bipush (v := 48) X.1 X.2.1 dX10_isGone_142 (by decide) ?_
  refine lv_iload_n X.1 X.2.1 dX10_isGone_144 rfl (lv_at hl 1 rfl) ?_
  refine lv_imul X.1 X.2.1 dX10_isGone_145 ?_
  refine lv_bipush (v := 48) X.1 X.2.1 dX10_isGone_146 (by decide) ?_
  refine lv_iadd X.1 X.2.1 dX10_isGone_148 ?_
  obtain ⟨s1, hc, h⟩ := b1_inv h
  refine r_cv (va_runV (C := RX10) (As := [.int ((48 * x1) + 48), .int ((48 * x1) + 48)]) (rest := []) (cfX X) (c_X10_goDay l hc) (cwV 2 X.2.2.2.2.1 (lw_V q1173 q1175 qs27 q59 q1176) rfl rfl rfl ⟨rfl, yd_X10_goDay⟩ ⟨Nat.le_of_ble_eq_true rfl, Nat.le_of_ble_eq_true rfl⟩) (preV X hV (F_X10_goDay_g hc) rfl) rfl rfl hl.1 rfl (lv_room (Nat.le_of_ble_eq_true rfl)) dX10_isGone_149 ⟨(Nat.le_of_ble_eq_true rfl), (Nat.le_of_ble_eq_true rfl)⟩) hF (fun H locs hV hF => ?_)
  refine lv_iconst (v := 1) X.1 X.2.1 dX10_isGone_152 (by decide) ?_
  exact r_zret X hV hF h rfl dX10_isGone_153
set_option maxHeartbeats 4000000 in
theorem w_X10_isGone_115 {p : Program} {l : Launch} {e : Env} {s : State} {m : MethodId} {args : Array Value} {below : List Frame} {meth : Method} {c : Code} {g : Gl} (X : FX g p m c s args meth cX10_isGone 5 RX10 (some .boolean) "isGone") {r : Int32 × Hp} {σ : Hp} {x0 : Nat} {x1 : Int32} {x2 : Int32}  {H : Heap} {locs : List Loc} {ls : Array Slot} (h : F_X10_isGone_115 σ x0 x1 x2 = some r) (hV : HV g σ H) (hF : FR g locs) (hl : lv_has ls 5 [(0, .ref x0), (1, .int x1), (2, .int x2)]) : W p l e rm_X10_isGone s m args below meth c H locs 0 0 (MQ below (Qi g r) args s 0 0 (frN g)) (F0 m 115 ls []) := by
  unfold F_X10_isGone_115 at h
  refine lv_iload_n X.1 X.2.1 dX10_isGone_115 rfl (lv_at hl 2 rfl) ?_
  refine lv_bipush (v := 8) X.1 X.2.1 dX10_isGone_116 (by decide) ?_
  refine r_ge (tgt := 134) X.1 X.2.1 dX10_isGone_118 (by decide) h (fun h => ?_) (fun h => ?_)
  · exact w_X10_isGone_134 X  h hV hF (lv_sub hl [0, 1] rfl)
  · refine lv_aload_n X.1 X.2.1 dX10_isGone_121 rfl (lv_at hl 0 rfl) ?_
    refine lv_iload_n X.1 X.2.1 dX10_isGone_122 rfl (lv_at hl 2 rfl) ?_
    refine lv_bipush (v := 48) X.1 X.2.1 dX10_isGone_123 (by decide) ?_
    refine lv_iload_n X.1 X.2.1 dX10_isGone_125 rfl (lv_at hl 1 rfl) ?_
    refine lv_imul X.1 X.2.1 dX10_isGone_126 ?_
    refine lv_bipush (v := 48) X.1 X.2.1 dX10_isGone_127 (by decide) ?_
    refine lv_iadd X.1 X.2.1 dX10_isGone_129 ?_
    obtain ⟨v1, s1, hc, h⟩ := b2_inv h
    refine r_ci (va_runV (C := RX10) (As := [.int x2, .int ((48 * x1) + 48)]) (rest := []) (cfX X) (c_X10_goWalk l hc) (cwV 2 X.2.2.2.2.1 (lw_V q1185 q1187 qs29 q59 q1188) rfl rfl rfl ⟨rfl, yd_X10_goWalk⟩ ⟨Nat.le_of_ble_eq_true rfl, Nat.le_of_ble_eq_true rfl⟩) (preV X hV (F_X10_goWalk_g hc) rfl) rfl rfl hl.1 rfl (lv_room (Nat.le_of_ble_eq_true rfl)) dX10_isGone_130 ⟨(Nat.le_of_ble_eq_true rfl), (Nat.le_of_ble_eq_true rfl)⟩) hF (fun H locs hV hF => ?_)
    refine lv_pop X.1 X.2.1 dX10_isGone_133 rfl ?_
    exact w_X10_isGone_134 X  h hV hF (lv_sub hl [0, 1] rfl)
set_option maxHeartbeats 4000000 in
theorem w_X10_isGone_85 {p : Program} {l : Launch} {e : Env} {s : State} {m : MethodId} {args : Array Value} {below : List Frame} {meth : Method} {c : Code} {g : Gl} (X : FX g p m c s args meth cX10_isGone 5 RX10 (some .boolean) "isGone") {r : Int32 × Hp} {σ : Hp} {x0 : Nat} {x1 : Int32} {x2 : Int32} {x3 : Int32} {y0 : Int32}  {H : Heap} {locs : List Loc} {ls : Array Slot} (h : F_X10_isGone_85 σ x0 x1 x2 x3 y0 = some r) (hV : HV g σ H) (hF : FR g locs) (hl : lv_has ls 5 [(0, .ref x0), (1, .int x1), (2, .int x2), (3, .int x3)]) : W p l e rm_X10_isGone s m args below meth c H locs 0 0 (MQ below (Qi g r) args s 0 0 (frN g)) (F0 m 85 ls [.int y0]) := by
  unfold F_X10_isGone_85 at h
  refine lv_istore (lv' := [(4, .int y0), (0, .ref x0), (1, .int x1), (2, .int x2), (3, .int x3)]) X.1 X.2.1 dX10_isGone_85 hl (by decide) rfl (fun ls hl => ?_)
  refine lv_iload X.1 X.2.1 dX10_isGone_87 (lv_at hl 0 rfl) ?_
  refine lv_iconst (v := (-1)) X.1 X.2.1 dX10_isGone_89 (by decide) ?_
  refine r_eq (tgt := 113) X.1 X.2.1 dX10_isGone_90 (by decide) h (fun h => ?_) (fun h => ?_)
  · refine lv_iconst (v := 0) X.1 X.2.1 dX10_isGone_113 (by decide) ?_
    exact r_zret X hV hF h rfl dX10_isGone_114
  · refine lv_iload X.1 X.2.1 dX10_isGone_93 (lv_at hl 0 rfl) ?_
    refine lv_iload_n X.1 X.2.1 dX10_isGone_95 rfl (lv_at hl 4 rfl) ?_
    refine lv_bipush (v := 7) X.1 X.2.1 dX10_isGone_96 (by decide) ?_
    refine lv_iload_n X.1 X.2.1 dX10_isGone_98 rfl (lv_at hl 2 rfl) ?_
    refine lv_imul X.1 X.2.1 dX10_isGone_99 ?_
    refine lv_ishr X.1 X.2.1 dX10_isGone_100 ?_
    refine lv_bipush (v := 127) X.1 X.2.1 dX10_isGone_101 (by decide) ?_
    refine lv_iand X.1 X.2.1 dX10_isGone_103 ?_
    refine r_le (tgt := 115) X.1 X.2.1 dX10_isGone_104 (by decide) h (fun h => ?_) (fun h => ?_)
    · exact w_X10_isGone_115 X  h hV hF (lv_sub hl [1, 2, 3] rfl)
    · refine lv_iload_n X.1 X.2.1 dX10_isGone_107 rfl (lv_at hl 3 rfl) ?_
      refine lv_bipush (v := 8) X.1 X.2.1 dX10_isGone_108 (by decide) ?_
      refine r_ge (tgt := 115) X.1 X.2.1 dX10_isGone_110 (by decide) h (fun h => ?_) (fun h => ?_)
      · exact w_X10_isGone_115 X  h hV hF (lv_sub hl [1, 2, 3] rfl)
      · refine lv_iconst (v := 0) X.1 X.2.1 dX10_isGone_113 (by decide) ?_
        exact r_zret X hV hF h rfl dX10_isGone_114
set_option maxHeartbeats 4000000 in
theorem w_X10_isGone_70 {p : Program} {l : Launch} {e : Env} {s : State} {m : MethodId} {args : Array Value} {below : List Frame} {meth : Method} {c : Code} {g : Gl} (X : FX g p m c s args meth cX10_isGone 5 RX10 (some .boolean) "isGone") {r : Int32 × Hp} {σ : Hp} {x0 : Nat} {x1 : Int32} {x2 : Int32} {x3 : Int32}  {H : Heap} {locs : List Loc} {ls : Array Slot} (h : F_X10_isGone_70 σ x0 x1 x2 x3 = some r) (hV : HV g σ H) (hF : FR g locs) (hl : lv_has ls 5 [(0, .ref x0), (1, .int x1), (2, .int x2), (3, .int x3)]) : W p l e rm_X10_isGone s m args below meth c H locs 0 0 (MQ below (Qi g r) args s 0 0 (frN g)) (F0 m 70 ls []) := by
  unfold F_X10_isGone_70 at h
  refine lv_iload_n X.1 X.2.1 dX10_isGone_70 rfl (lv_at hl 2 rfl) ?_
  refine lv_bipush (v := 8) X.1 X.2.1 dX10_isGone_71 (by decide) ?_
  refine r_ne (tgt := 80) X.1 X.2.1 dX10_isGone_73 (by decide) h (fun h => ?_) (fun h => ?_)
  · refine lv_aload_n X.1 X.2.1 dX10_isGone_80 rfl (lv_at hl 0 rfl) ?_
    refine lv_iload_n X.1 X.2.1 dX10_isGone_81 rfl (lv_at hl 2 rfl) ?_
    obtain ⟨v1, s1, hc, h⟩ := b2_inv h
    refine r_ci (va_runV (C := RX10) (As := [.int x2]) (rest := []) (cfX X) (c_X10_costOf l hc) (cwV 1 X.2.2.2.2.1 (lw_V q1286 q1288 qs43 q59 q1289) rfl rfl rfl ⟨rfl, yd_X10_costOf⟩ ⟨Nat.le_of_ble_eq_true rfl, Nat.le_of_ble_eq_true rfl⟩) (preV X hV (F_X10_costOf_g hc) rfl) rfl rfl hl.1 rfl (lv_room (Nat.le_of_ble_eq_true rfl)) dX10_isGone_82 ⟨(Nat.le_of_ble_eq_true rfl), (Nat.le_of_ble_eq_true rfl)⟩) hF (fun H locs hV hF => ?_)
    exact w_X10_isGone_85 X  h hV hF (lv_sub hl [0, 1, 2, 3] rfl)
  · refine lv_iconst (v := 0) X.1 X.2.1 dX10_isGone_76 (by decide) ?_
    refine lv_goto (tgt := 85) X.1 X.2.1 dX10_isGone_77 (by decide) ?_
    exact w_X10_isGone_85 X  h hV hF (lv_sub hl [0, 1, 2, 3] rfl)
set_option maxHeartbeats 4000000 in
theorem w_X10_isGone_3_b {p : Program} {l : Launch} {e : Env} {s : State} {m : MethodId} {args : Array Value} {below : List Frame} {meth : Method} {c : Code} {g : Gl} (X : FX g p m c s args meth cX10_isGone 5 RX10 (some .boolean) "isGone") {r : Int32 × Hp} {rec3 : Hp × Int32 → Option (Int32 × Hp)} {x0 : Nat} {x1 : Int32} {x2 : Int32} {x3 : Int32} {σ : Hp} {x4 : Int32} (hr3 : ∀ (st : Hp × Int32), rec3 st = some r → ∀ (H : Heap) (locs : List Loc) (ls : Array Slot), HV g st.1 H → FR g locs → lv_has ls 5 [(0, .ref x0), (1, .int x1), (2, .int x2), (3, .int x3), (4, .int st.2)] → W p l e rm_X10_isGone s m args below meth c H locs 0 0 (MQ below (Qi g r) args s 0 0 (frN g)) (F0 m 3 ls [])) {H : Heap} {locs : List Loc} {ls : Array Slot} (h : B_X10_isGone_3 x0 x1 x2 x3 rec3 σ x4 = some r) (hV : HV g σ H) (hF : FR g locs) (hl : lv_has ls 5 [(0, .ref x0), (1, .int x1), (2, .int x2), (3, .int x3), (4, .int x4)]) : W p l e rm_X10_isGone s m args below meth c H locs 0 0 (MQ below (Qi g r) args s 0 0 (frN g)) (F0 m 3 ls []) := by
  unfold B_X10_isGone_3 at h
  refine lv_iload X.1 X.2.1 dX10_isGone_3 (lv_at hl 4 rfl) ?_
  refine lv_bipush (v := 48) X.1 X.2.1 dX10_isGone_5 (by decide) ?_
  refine r_ge (tgt := 70) X.1 X.2.1 dX10_isGone_7 (by decide) h (fun h => ?_) (fun h => ?_)
  · exact w_X10_isGone_70 X  h hV hF (lv_sub hl [0, 1, 2, 3] rfl)
  · refine lv_aload_n X.1 X.2.1 dX10_isGone_10 rfl (lv_at hl 0 rfl) ?_
    refine r_gR X hV fl_X10_50_10 (by decide) dX10_isGone_11 h (fun v1 h => ?_)
    refine lv_bipush (v := 48) X.1 X.2.1 dX10_isGone_14 (by decide) ?_
    refine lv_iload_n X.1 X.2.1 dX10_isGone_16 rfl (lv_at hl 1 rfl) ?_
    refine lv_imul X.1 X.2.1 dX10_isGone_17 ?_
    refine lv_bipush (v := 48) X.1 X.2.1 dX10_isGone_18 (by decide) ?_
    refine lv_iadd X.1 X.2.1 dX10_isGone_20 ?_
    refine lv_iload X.1 X.2.1 dX10_isGone_21 (lv_at hl 4 rfl) ?_
    refine lv_iadd X.1 X.2.1 dX10_isGone_23 ?_
    refine lv_aload_n X.1 X.2.1 dX10_isGone_24 rfl (lv_at hl 0 rfl) ?_
    refine r_gR X hV fl_X10_50_10 (by decide) dX10_isGone_25 h (fun v2 h => ?_)
    refine lv_bipush (v := 48) X.1 X.2.1 dX10_isGone_28 (by decide) ?_
    refine lv_iload_n X.1 X.2.1 dX10_isGone_30 rfl (lv_at hl 1 rfl) ?_
    refine lv_imul X.1 X.2.1 dX10_isGone_31 ?_
    refine lv_iload X.1 X.2.1 dX10_isGone_32 (lv_at hl 4 rfl) ?_
    refine lv_iadd X.1 X.2.1 dX10_isGone_34 ?_
    refine r_ia X hV dX10_isGone_35 h (fun v3 h => ?_)
    refine r_is X hV hF dX10_isGone_36 h (fun s1 H locs hV hF h => ?_)
    refine lv_aload_n X.1 X.2.1 dX10_isGone_37 rfl (lv_at hl 0 rfl) ?_
    refine r_gR X hV fl_X10_53_10 (by decide) dX10_isGone_38 h (fun v4 h => ?_)
    refine lv_bipush (v := 48) X.1 X.2.1 dX10_isGone_41 (by decide) ?_
    refine lv_iload_n X.1 X.2.1 dX10_isGone_43 rfl (lv_at hl 1 rfl) ?_
    refine lv_imul X.1 X.2.1 dX10_isGone_44 ?_
    refine lv_bipush (v := 48) X.1 X.2.1 dX10_isGone_45 (by decide) ?_
    refine lv_iadd X.1 X.2.1 dX10_isGone_47 ?_
    refine lv_iload X.1 X.2.1 dX10_isGone_48 (lv_at hl 4 rfl) ?_
    refine lv_iadd X.1 X.2.1 dX10_isGone_50 ?_
    refine lv_aload_n X.1 X.2.1 dX10_isGone_51 rfl (lv_at hl 0 rfl) ?_
    refine r_gR X hV fl_X10_53_10 (by decide) dX10_isGone_52 h (fun v5 h => ?_)
    refine lv_bipush (v := 48) X.1 X.2.1 dX10_isGone_55 (by decide) ?_
    refine lv_iload_n X.1 X.2.1 dX10_isGone_57 rfl (lv_at hl 1 rfl) ?_
    refine lv_imul X.1 X.2.1 dX10_isGone_58 ?_
    refine lv_iload X.1 X.2.1 dX10_isGone_59 (lv_at hl 4 rfl) ?_
    refine lv_iadd X.1 X.2.1 dX10_isGone_61 ?_
    refine r_ia X hV dX10_isGone_62 h (fun v6 h => ?_)
    refine r_is X hV hF dX10_isGone_63 h (fun s2 H locs hV hF h => ?_)
    refine lv_iinc (v := x4 + 1) (lv' := [(4, .int (x4 + 1)), (0, .ref x0), (1, .int x1), (2, .int x2), (3, .int x3)]) X.1 X.2.1 dX10_isGone_64 hl (k := 4) rfl rfl (by decide) rfl (fun ls hl => ?_)
    refine lv_goto (tgt := 3) X.1 X.2.1 dX10_isGone_67 (by decide) ?_
    exact hr3 (s2, x4 + 1) h _ _ _ hV hF (lv_sub hl [1, 2, 3, 4, 0] rfl)
set_option maxHeartbeats 4000000 in
theorem w_X10_isGone_3 {p : Program} {l : Launch} {e : Env} {s : State} {m : MethodId} {args : Array Value} {below : List Frame} {meth : Method} {c : Code} {g : Gl} (X : FX g p m c s args meth cX10_isGone 5 RX10 (some .boolean) "isGone") {r : Int32 × Hp} {x0 : Nat} {x1 : Int32} {x2 : Int32} {x3 : Int32}  : ∀ (n : Nat) (st : Hp × Int32), L_X10_isGone_3 x0 x1 x2 x3 n st = some r → ∀ (H : Heap) (locs : List Loc) (ls : Array Slot), HV g st.1 H → FR g locs → lv_has ls 5 [(0, .ref x0), (1, .int x1), (2, .int x2), (3, .int x3), (4, .int st.2)] → W p l e rm_X10_isGone s m args below meth c H locs 0 0 (MQ below (Qi g r) args s 0 0 (frN g)) (F0 m 3 ls []) := by
  intro n
  induction n with
  | zero =>
    intro st h
    rw [L_X10_isGone_3_0] at h
    cases h
  | succ n ih =>
    intro st h H locs ls hV hF hl
    rw [L_X10_isGone_3_s] at h
    exact w_X10_isGone_3_b X  ih h hV hF hl
set_option maxHeartbeats 4000000 in
theorem c_X10_isGone (l : Launch) {g : Gl} {σ : Hp} {x0 : Nat} {x1 : Int32} {x2 : Int32} {x3 : Int32} {r : Int32 × Hp} (h : F_X10_isGone σ x0 x1 x2 x3 = some r) : Met l yX10_isGone (ws_ yX10_isGone cX10_isGone 5 (some .boolean)) rm_X10_isGone (va_Pc [.ref x0, .int x1, .int x2, .int x3] (WV g σ)) (Qi g r) 0 0 (frN g) := by
  refine ct_of (by decide) (Nat.le_of_ble_eq_true rfl) ?_
  intro p e s m below meth c ls X hV hl
  have hF : FR g [] := FR_nil
  unfold F_X10_isGone at h
  have hl : lv_has ls 5 [(0, .ref x0), (1, .int x1), (2, .int x2), (3, .int x3)] := hl
  have X : FX g p m c s _ meth cX10_isGone 5 RX10 (some .boolean) "isGone" := X
  obtain ⟨-, h⟩ := gd_inv h
  refine lv_iconst (v := 0) X.1 X.2.1 dX10_isGone_0 (by decide) ?_
  refine lv_istore (lv' := [(4, .int 0), (0, .ref x0), (1, .int x1), (2, .int x2), (3, .int x3)]) X.1 X.2.1 dX10_isGone_1 hl (by decide) rfl (fun ls hl => ?_)
  exact w_X10_isGone_3 X  FU (σ, 0) h _ _ _ hV hF (lv_sub hl [1, 2, 3, 4, 0] rfl)
/-! PalaceOfRoomsModel.allAt -/
theorem dX10_allAt_0 : decode cX10_allAt 0 = .ok (.iconst 0, 1) := by decide +kernel
theorem dX10_allAt_1 : decode cX10_allAt 1 = .ok (.istore_n 2, 1) := by decide +kernel
theorem dX10_allAt_2 : decode cX10_allAt 2 = .ok (.iconst 0, 1) := by decide +kernel
theorem dX10_allAt_3 : decode cX10_allAt 3 = .ok (.istore_n 3, 1) := by decide +kernel
theorem dX10_allAt_4 : decode cX10_allAt 4 = .ok (.iload_n 3, 1) := by decide +kernel
theorem dX10_allAt_5 : decode cX10_allAt 5 = .ok (.bipush 48, 2) := by decide +kernel
theorem dX10_allAt_7 : decode cX10_allAt 7 = .ok (.if_icmp .ge 34, 3) := by decide +kernel
theorem dX10_allAt_10 : decode cX10_allAt 10 = .ok (.iload_n 2, 1) := by decide +kernel
theorem dX10_allAt_11 : decode cX10_allAt 11 = .ok (.aload_n 0, 1) := by decide +kernel
theorem dX10_allAt_12 : decode cX10_allAt 12 = .ok (.getfield 32, 3) := by decide +kernel
theorem dX10_allAt_15 : decode cX10_allAt 15 = .ok (.iload_n 3, 1) := by decide +kernel
theorem dX10_allAt_16 : decode cX10_allAt 16 = .ok (.iaload, 1) := by decide +kernel
theorem dX10_allAt_17 : decode cX10_allAt 17 = .ok (.iconst (-1), 1) := by decide +kernel
theorem dX10_allAt_18 : decode cX10_allAt 18 = .ok (.if_icmp .ne 7, 3) := by decide +kernel
theorem dX10_allAt_21 : decode cX10_allAt 21 = .ok (.iconst 0, 1) := by decide +kernel
theorem dX10_allAt_22 : decode cX10_allAt 22 = .ok (.goto 11, 3) := by decide +kernel
theorem dX10_allAt_25 : decode cX10_allAt 25 = .ok (.aload_n 0, 1) := by decide +kernel
theorem dX10_allAt_26 : decode cX10_allAt 26 = .ok (.getfield 50, 3) := by decide +kernel
theorem dX10_allAt_29 : decode cX10_allAt 29 = .ok (.iload_n 1, 1) := by decide +kernel
theorem dX10_allAt_30 : decode cX10_allAt 30 = .ok (.iload_n 3, 1) := by decide +kernel
theorem dX10_allAt_31 : decode cX10_allAt 31 = .ok (.iadd, 1) := by decide +kernel
theorem dX10_allAt_32 : decode cX10_allAt 32 = .ok (.iaload, 1) := by decide +kernel
theorem dX10_allAt_33 : decode cX10_allAt 33 = .ok (.iadd, 1) := by decide +kernel
theorem dX10_allAt_34 : decode cX10_allAt 34 = .ok (.istore_n 2, 1) := by decide +kernel
theorem dX10_allAt_35 : decode cX10_allAt 35 = .ok (.iinc 3 1, 3) := by decide +kernel
theorem dX10_allAt_38 : decode cX10_allAt 38 = .ok (.goto (-34), 3) := by decide +kernel
theorem dX10_allAt_41 : decode cX10_allAt 41 = .ok (.iload_n 2, 1) := by decide +kernel
theorem dX10_allAt_42 : decode cX10_allAt 42 = .ok (.ireturn, 1) := by decide +kernel
theorem yd_X10_allAt : yX10_allAt.cls ≠ "java/lang/invoke/MethodHandle" ∧ yX10_allAt.cls ≠ "java/lang/invoke/VarHandle" ∧ (parseMethodDescriptor yX10_allAt.desc).map (fun d => d.parameters.length) = some 1 := by decide +kernel
abbrev rm_X10_allAt : Room := { frames := 0, cells := 0, slots := 0, locals := 0 }
set_option maxHeartbeats 4000000 in
theorem w_X10_allAt_4_b {p : Program} {l : Launch} {e : Env} {s : State} {m : MethodId} {args : Array Value} {below : List Frame} {meth : Method} {c : Code} {g : Gl} (X : FX g p m c s args meth cX10_allAt 4 RX10 (some .int) "allAt") {r : Int32 × Hp} {rec4 : Int32 × Int32 → Option (Int32 × Hp)} {σ : Hp} {x0 : Nat} {x1 : Int32} {x2 : Int32} {x3 : Int32} (hr4 : ∀ (st : Int32 × Int32), rec4 st = some r → ∀ (H : Heap) (locs : List Loc) (ls : Array Slot), HV g σ H → FR g locs → lv_has ls 4 [(0, .ref x0), (1, .int x1), (2, .int st.1), (3, .int st.2)] → W p l e rm_X10_allAt s m args below meth c H locs 0 0 (MQ below (Qi g r) args s 0 0 (frN g)) (F0 m 4 ls [])) {H : Heap} {locs : List Loc} {ls : Array Slot} (h : B_X10_allAt_4 σ x0 x1 rec4 x2 x3 = some r) (hV : HV g σ H) (hF : FR g locs) (hl : lv_has ls 4 [(0, .ref x0), (1, .int x1), (2, .int x2), (3, .int x3)]) : W p l e rm_X10_allAt s m args below meth c H locs 0 0 (MQ below (Qi g r) args s 0 0 (frN g)) (F0 m 4 ls []) := by
  unfold B_X10_allAt_4 at h
  refine lv_iload_n X.1 X.2.1 dX10_allAt_4 rfl (lv_at hl 3 rfl) ?_
  refine lv_bipush (v := 48) X.1 X.2.1 dX10_allAt_5 (by decide) ?_
  refine r_ge (tgt := 41) X.1 X.2.1 dX10_allAt_7 (by decide) h (fun h => ?_) (fun h => ?_)
  · refine lv_iload_n X.1 X.2.1 dX10_allAt_41 rfl (lv_at hl 2 rfl) ?_
    exact r_iret X hV hF h dX10_allAt_42
  · refine lv_iload_n X.1 X.2.1 dX10_allAt_10 rfl (lv_at hl 2 rfl) ?_
    refine lv_aload_n X.1 X.2.1 dX10_allAt_11 rfl (lv_at hl 0 rfl) ?_
    refine r_gR X hV fl_X10_32_10 (by decide) dX10_allAt_12 h (fun v1 h => ?_)
    refine lv_iload_n X.1 X.2.1 dX10_allAt_15 rfl (lv_at hl 3 rfl) ?_
    refine r_ia X hV dX10_allAt_16 h (fun v2 h => ?_)
    refine lv_iconst (v := (-1)) X.1 X.2.1 dX10_allAt_17 (by decide) ?_
    refine r_ne (tgt := 25) X.1 X.2.1 dX10_allAt_18 (by decide) h (fun h => ?_) (fun h => ?_)
    · refine lv_aload_n X.1 X.2.1 dX10_allAt_25 rfl (lv_at hl 0 rfl) ?_
      refine r_gR X hV fl_X10_50_10 (by decide) dX10_allAt_26 h (fun v3 h => ?_)
      refine lv_iload_n X.1 X.2.1 dX10_allAt_29 rfl (lv_at hl 1 rfl) ?_
      refine lv_iload_n X.1 X.2.1 dX10_allAt_30 rfl (lv_at hl 3 rfl) ?_
      refine lv_iadd X.1 X.2.1 dX10_allAt_31 ?_
      refine r_ia X hV dX10_allAt_32 h (fun v4 h => ?_)
      refine lv_iadd X.1 X.2.1 dX10_allAt_33 ?_
      refine lv_istore_n (lv' := [(2, .int (x2 + v4)), (0, .ref x0), (1, .int x1), (3, .int x3)]) X.1 X.2.1 dX10_allAt_34 rfl hl (by decide) rfl (fun ls hl => ?_)
      refine lv_iinc (v := x3 + 1) (lv' := [(3, .int (x3 + 1)), (2, .int (x2 + v4)), (0, .ref x0), (1, .int x1)]) X.1 X.2.1 dX10_allAt_35 hl (k := 3) rfl rfl (by decide) rfl (fun ls hl => ?_)
      refine lv_goto (tgt := 4) X.1 X.2.1 dX10_allAt_38 (by decide) ?_
      exact hr4 (x2 + v4, x3 + 1) h _ _ _ hV hF (lv_sub hl [2, 3, 1, 0] rfl)
    · refine lv_iconst (v := 0) X.1 X.2.1 dX10_allAt_21 (by decide) ?_
      refine lv_goto (tgt := 33) X.1 X.2.1 dX10_allAt_22 (by decide) ?_
      refine lv_iadd X.1 X.2.1 dX10_allAt_33 ?_
      refine lv_istore_n (lv' := [(2, .int (x2 + 0)), (0, .ref x0), (1, .int x1), (3, .int x3)]) X.1 X.2.1 dX10_allAt_34 rfl hl (by decide) rfl (fun ls hl => ?_)
      refine lv_iinc (v := x3 + 1) (lv' := [(3, .int (x3 + 1)), (2, .int (x2 + 0)), (0, .ref x0), (1, .int x1)]) X.1 X.2.1 dX10_allAt_35 hl (k := 3) rfl rfl (by decide) rfl (fun ls hl => ?_)
      refine lv_goto (tgt := 4) X.1 X.2.1 dX10_allAt_38 (by decide) ?_
      exact hr4 (x2 + 0, x3 + 1) h _ _ _ hV hF (lv_sub hl [2, 3, 1, 0] rfl)
set_option maxHeartbeats 4000000 in
theorem w_X10_allAt_4 {p : Program} {l : Launch} {e : Env} {s : State} {m : MethodId} {args : Array Value} {below : List Frame} {meth : Method} {c : Code} {g : Gl} (X : FX g p m c s args meth cX10_allAt 4 RX10 (some .int) "allAt") {r : Int32 × Hp} {σ : Hp} {x0 : Nat} {x1 : Int32}  : ∀ (n : Nat) (st : Int32 × Int32), L_X10_allAt_4 σ x0 x1 n st = some r → ∀ (H : Heap) (locs : List Loc) (ls : Array Slot), HV g σ H → FR g locs → lv_has ls 4 [(0, .ref x0), (1, .int x1), (2, .int st.1), (3, .int st.2)] → W p l e rm_X10_allAt s m args below meth c H locs 0 0 (MQ below (Qi g r) args s 0 0 (frN g)) (F0 m 4 ls []) := by
  intro n
  induction n with
  | zero =>
    intro st h
    rw [L_X10_allAt_4_0] at h
    cases h
  | succ n ih =>
    intro st h H locs ls hV hF hl
    rw [L_X10_allAt_4_s] at h
    exact w_X10_allAt_4_b X  ih h hV hF hl
set_option maxHeartbeats 4000000 in
theorem c_X10_allAt (l : Launch) {g : Gl} {σ : Hp} {x0 : Nat} {x1 : Int32} {r : Int32 × Hp} (h : F_X10_allAt σ x0 x1 = some r) : Met l yX10_allAt (ws_ yX10_allAt cX10_allAt 4 (some .int)) rm_X10_allAt (va_Pc [.ref x0, .int x1] (WV g σ)) (Qi g r) 0 0 (frN g) := by
  refine ct_of (by decide) (Nat.le_of_ble_eq_true rfl) ?_
  intro p e s m below meth c ls X hV hl
  have hF : FR g [] := FR_nil
  unfold F_X10_allAt at h
  have hl : lv_has ls 4 [(0, .ref x0), (1, .int x1)] := hl
  have X : FX g p m c s _ meth cX10_allAt 4 RX10 (some .int) "allAt" := X
  obtain ⟨-, h⟩ := gd_inv h
  refine lv_iconst (v := 0) X.1 X.2.1 dX10_allAt_0 (by decide) ?_
  refine lv_istore_n (lv' := [(2, .int 0), (0, .ref x0), (1, .int x1)]) X.1 X.2.1 dX10_allAt_1 rfl hl (by decide) rfl (fun ls hl => ?_)
  refine lv_iconst (v := 0) X.1 X.2.1 dX10_allAt_2 (by decide) ?_
  refine lv_istore_n (lv' := [(3, .int 0), (2, .int 0), (0, .ref x0), (1, .int x1)]) X.1 X.2.1 dX10_allAt_3 rfl hl (by decide) rfl (fun ls hl => ?_)
  exact w_X10_allAt_4 X  FU (0, 0) h _ _ _ hV hF (lv_sub hl [2, 3, 1, 0] rfl)
