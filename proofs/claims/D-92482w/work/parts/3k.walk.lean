set_option maxRecDepth 100000
/-! PalaceOfRoomsModel.partsMost -/
theorem dX10_partsMost_0 : decode cX10_partsMost 0 = .ok (.iconst (-1), 1) := by decide +kernel
theorem dX10_partsMost_1 : decode cX10_partsMost 1 = .ok (.istore_n 2, 1) := by decide +kernel
theorem dX10_partsMost_2 : decode cX10_partsMost 2 = .ok (.sipush 1000, 3) := by decide +kernel
theorem dX10_partsMost_5 : decode cX10_partsMost 5 = .ok (.istore_n 3, 1) := by decide +kernel
theorem dX10_partsMost_6 : decode cX10_partsMost 6 = .ok (.iconst 0, 1) := by decide +kernel
theorem dX10_partsMost_7 : decode cX10_partsMost 7 = .ok (.istore 4, 2) := by decide +kernel
theorem dX10_partsMost_9 : decode cX10_partsMost 9 = .ok (.iconst 1, 1) := by decide +kernel
theorem dX10_partsMost_10 : decode cX10_partsMost 10 = .ok (.istore 5, 2) := by decide +kernel
theorem dX10_partsMost_12 : decode cX10_partsMost 12 = .ok (.iload 5, 2) := by decide +kernel
theorem dX10_partsMost_14 : decode cX10_partsMost 14 = .ok (.bipush 61, 2) := by decide +kernel
theorem dX10_partsMost_16 : decode cX10_partsMost 16 = .ok (.if_icmp .ge 136, 3) := by decide +kernel
theorem dX10_partsMost_19 : decode cX10_partsMost 19 = .ok (.iconst 0, 1) := by decide +kernel
theorem dX10_partsMost_20 : decode cX10_partsMost 20 = .ok (.istore 6, 2) := by decide +kernel
theorem dX10_partsMost_22 : decode cX10_partsMost 22 = .ok (.iconst 0, 1) := by decide +kernel
theorem dX10_partsMost_23 : decode cX10_partsMost 23 = .ok (.istore 7, 2) := by decide +kernel
theorem dX10_partsMost_25 : decode cX10_partsMost 25 = .ok (.iload 7, 2) := by decide +kernel
theorem dX10_partsMost_27 : decode cX10_partsMost 27 = .ok (.bipush 81, 2) := by decide +kernel
theorem dX10_partsMost_29 : decode cX10_partsMost 29 = .ok (.if_icmp .ge 76, 3) := by decide +kernel
theorem dX10_partsMost_32 : decode cX10_partsMost 32 = .ok (.aload_n 0, 1) := by decide +kernel
theorem dX10_partsMost_33 : decode cX10_partsMost 33 = .ok (.iload_n 1, 1) := by decide +kernel
theorem dX10_partsMost_34 : decode cX10_partsMost 34 = .ok (.iload 7, 2) := by decide +kernel
theorem dX10_partsMost_36 : decode cX10_partsMost 36 = .ok (.invokevirtual 260, 3) := by decide +kernel
theorem dX10_partsMost_39 : decode cX10_partsMost 39 = .ok (.aload_n 0, 1) := by decide +kernel
theorem dX10_partsMost_40 : decode cX10_partsMost 40 = .ok (.getfield 80, 3) := by decide +kernel
theorem dX10_partsMost_43 : decode cX10_partsMost 43 = .ok (.iload_n 1, 1) := by decide +kernel
theorem dX10_partsMost_44 : decode cX10_partsMost 44 = .ok (.iaload, 1) := by decide +kernel
theorem dX10_partsMost_45 : decode cX10_partsMost 45 = .ok (.if_icmp .ne 7, 3) := by decide +kernel
theorem dX10_partsMost_48 : decode cX10_partsMost 48 = .ok (.iconst 1, 1) := by decide +kernel
theorem dX10_partsMost_49 : decode cX10_partsMost 49 = .ok (.goto 4, 3) := by decide +kernel
theorem dX10_partsMost_52 : decode cX10_partsMost 52 = .ok (.iconst 0, 1) := by decide +kernel
theorem dX10_partsMost_53 : decode cX10_partsMost 53 = .ok (.istore 8, 2) := by decide +kernel
theorem dX10_partsMost_55 : decode cX10_partsMost 55 = .ok (.iload 4, 2) := by decide +kernel
theorem dX10_partsMost_57 : decode cX10_partsMost 57 = .ok (.iload 8, 2) := by decide +kernel
theorem dX10_partsMost_59 : decode cX10_partsMost 59 = .ok (.ifCond .eq 7, 3) := by decide +kernel
theorem dX10_partsMost_62 : decode cX10_partsMost 62 = .ok (.iconst 1, 1) := by decide +kernel
theorem dX10_partsMost_63 : decode cX10_partsMost 63 = .ok (.goto 4, 3) := by decide +kernel
theorem dX10_partsMost_66 : decode cX10_partsMost 66 = .ok (.iconst 0, 1) := by decide +kernel
theorem dX10_partsMost_67 : decode cX10_partsMost 67 = .ok (.iadd, 1) := by decide +kernel
theorem dX10_partsMost_68 : decode cX10_partsMost 68 = .ok (.istore 4, 2) := by decide +kernel
theorem dX10_partsMost_70 : decode cX10_partsMost 70 = .ok (.iload 6, 2) := by decide +kernel
theorem dX10_partsMost_72 : decode cX10_partsMost 72 = .ok (.iload 8, 2) := by decide +kernel
theorem dX10_partsMost_74 : decode cX10_partsMost 74 = .ok (.ifCond .eq 21, 3) := by decide +kernel
theorem dX10_partsMost_77 : decode cX10_partsMost 77 = .ok (.iload 7, 2) := by decide +kernel
theorem dX10_partsMost_79 : decode cX10_partsMost 79 = .ok (.iload 5, 2) := by decide +kernel
theorem dX10_partsMost_81 : decode cX10_partsMost 81 = .ok (.invokestatic 257, 3) := by decide +kernel
theorem dX10_partsMost_84 : decode cX10_partsMost 84 = .ok (.ifCond .eq 7, 3) := by decide +kernel
theorem dX10_partsMost_87 : decode cX10_partsMost 87 = .ok (.iconst 1, 1) := by decide +kernel
theorem dX10_partsMost_88 : decode cX10_partsMost 88 = .ok (.goto 8, 3) := by decide +kernel
theorem dX10_partsMost_91 : decode cX10_partsMost 91 = .ok (.iconst (-1), 1) := by decide +kernel
theorem dX10_partsMost_92 : decode cX10_partsMost 92 = .ok (.goto 4, 3) := by decide +kernel
theorem dX10_partsMost_95 : decode cX10_partsMost 95 = .ok (.iconst 0, 1) := by decide +kernel
theorem dX10_partsMost_96 : decode cX10_partsMost 96 = .ok (.iadd, 1) := by decide +kernel
theorem dX10_partsMost_97 : decode cX10_partsMost 97 = .ok (.istore 6, 2) := by decide +kernel
theorem dX10_partsMost_99 : decode cX10_partsMost 99 = .ok (.iinc 7 1, 3) := by decide +kernel
theorem dX10_partsMost_102 : decode cX10_partsMost 102 = .ok (.goto (-77), 3) := by decide +kernel
theorem dX10_partsMost_105 : decode cX10_partsMost 105 = .ok (.iload 6, 2) := by decide +kernel
theorem dX10_partsMost_107 : decode cX10_partsMost 107 = .ok (.ifCond .ge 9, 3) := by decide +kernel
theorem dX10_partsMost_110 : decode cX10_partsMost 110 = .ok (.iload 6, 2) := by decide +kernel
theorem dX10_partsMost_112 : decode cX10_partsMost 112 = .ok (.ineg, 1) := by decide +kernel
theorem dX10_partsMost_113 : decode cX10_partsMost 113 = .ok (.goto 5, 3) := by decide +kernel
theorem dX10_partsMost_116 : decode cX10_partsMost 116 = .ok (.iload 6, 2) := by decide +kernel
theorem dX10_partsMost_118 : decode cX10_partsMost 118 = .ok (.istore 6, 2) := by decide +kernel
theorem dX10_partsMost_120 : decode cX10_partsMost 120 = .ok (.iload 6, 2) := by decide +kernel
theorem dX10_partsMost_122 : decode cX10_partsMost 122 = .ok (.iload_n 3, 1) := by decide +kernel
theorem dX10_partsMost_123 : decode cX10_partsMost 123 = .ok (.if_icmp .ge 8, 3) := by decide +kernel
theorem dX10_partsMost_126 : decode cX10_partsMost 126 = .ok (.iload 5, 2) := by decide +kernel
theorem dX10_partsMost_128 : decode cX10_partsMost 128 = .ok (.goto 4, 3) := by decide +kernel
theorem dX10_partsMost_131 : decode cX10_partsMost 131 = .ok (.iload_n 2, 1) := by decide +kernel
theorem dX10_partsMost_132 : decode cX10_partsMost 132 = .ok (.istore_n 2, 1) := by decide +kernel
theorem dX10_partsMost_133 : decode cX10_partsMost 133 = .ok (.iload 6, 2) := by decide +kernel
theorem dX10_partsMost_135 : decode cX10_partsMost 135 = .ok (.iload_n 3, 1) := by decide +kernel
theorem dX10_partsMost_136 : decode cX10_partsMost 136 = .ok (.if_icmp .ge 8, 3) := by decide +kernel
theorem dX10_partsMost_139 : decode cX10_partsMost 139 = .ok (.iload 6, 2) := by decide +kernel
theorem dX10_partsMost_141 : decode cX10_partsMost 141 = .ok (.goto 4, 3) := by decide +kernel
theorem dX10_partsMost_144 : decode cX10_partsMost 144 = .ok (.iload_n 3, 1) := by decide +kernel
theorem dX10_partsMost_145 : decode cX10_partsMost 145 = .ok (.istore_n 3, 1) := by decide +kernel
theorem dX10_partsMost_146 : decode cX10_partsMost 146 = .ok (.iinc 5 1, 3) := by decide +kernel
theorem dX10_partsMost_149 : decode cX10_partsMost 149 = .ok (.goto (-137), 3) := by decide +kernel
theorem dX10_partsMost_152 : decode cX10_partsMost 152 = .ok (.iload 4, 2) := by decide +kernel
theorem dX10_partsMost_154 : decode cX10_partsMost 154 = .ok (.ifCond .ne 7, 3) := by decide +kernel
theorem dX10_partsMost_157 : decode cX10_partsMost 157 = .ok (.iconst (-1), 1) := by decide +kernel
theorem dX10_partsMost_158 : decode cX10_partsMost 158 = .ok (.goto 4, 3) := by decide +kernel
theorem dX10_partsMost_161 : decode cX10_partsMost 161 = .ok (.iload_n 2, 1) := by decide +kernel
theorem dX10_partsMost_162 : decode cX10_partsMost 162 = .ok (.ireturn, 1) := by decide +kernel
theorem yd_X10_partsMost : yX10_partsMost.cls ≠ "java/lang/invoke/MethodHandle" ∧ yX10_partsMost.cls ≠ "java/lang/invoke/VarHandle" ∧ (parseMethodDescriptor yX10_partsMost.desc).map (fun d => d.parameters.length) = some 1 := by decide +kernel
abbrev rm_X10_partsMost : Room := { frames := 2, cells := 0, slots := 0, locals := 45 }
set_option maxHeartbeats 4000000 in
theorem w_X10_partsMost_152 {p : Program} {l : Launch} {e : Env} {s : State} {m : MethodId} {args : Array Value} {below : List Frame} {meth : Method} {c : Code} {g : Gl} (X : FX g p m c s args meth cX10_partsMost 9 RX10 (some .int) "partsMost") {r : Int32 × Hp} {σ : Hp} {x2 : Int32} {x4 : Int32}  {H : Heap} {locs : List Loc} {ls : Array Slot} (h : F_X10_partsMost_152 σ x2 x4 = some r) (hV : HV g σ H) (hF : FR g locs) (hl : lv_has ls 9 [(2, .int x2), (4, .int x4)]) : W p l e rm_X10_partsMost s m args below meth c H locs 0 0 (MQ below (Qi g r) args s 0 0 (frN g)) (F0 m 152 ls []) := by
  unfold F_X10_partsMost_152 at h
  refine lv_iload X.1 X.2.1 dX10_partsMost_152 (lv_at hl 1 rfl) ?_
  refine r_ifne (tgt := 161) X.1 X.2.1 dX10_partsMost_154 (by decide) h (fun h => ?_) (fun h => ?_)
  · refine lv_iload_n X.1 X.2.1 dX10_partsMost_161 rfl (lv_at hl 0 rfl) ?_
    exact r_iret X hV hF h dX10_partsMost_162
  · refine lv_iconst (v := (-1)) X.1 X.2.1 dX10_partsMost_157 (by decide) ?_
    refine lv_goto (tgt := 162) X.1 X.2.1 dX10_partsMost_158 (by decide) ?_
    exact r_iret X hV hF h dX10_partsMost_162
set_option maxHeartbeats 4000000 in
theorem w_X10_partsMost_118 {p : Program} {l : Launch} {e : Env} {s : State} {m : MethodId} {args : Array Value} {below : List Frame} {meth : Method} {c : Code} {g : Gl} (X : FX g p m c s args meth cX10_partsMost 9 RX10 (some .int) "partsMost") {r : Int32 × Hp} {rec12 : Hp × Int32 × Int32 × Int32 × Int32 → Option (Int32 × Hp)} {σ : Hp} {x0 : Nat} {x1 : Int32} {x2 : Int32} {x3 : Int32} {x4 : Int32} {x5 : Int32} {y0 : Int32} (hr12 : ∀ (st : Hp × Int32 × Int32 × Int32 × Int32), rec12 st = some r → ∀ (H : Heap) (locs : List Loc) (ls : Array Slot), HV g st.1 H → FR g locs → lv_has ls 9 [(0, .ref x0), (1, .int x1), (2, .int st.2.1), (3, .int st.2.2.1), (4, .int st.2.2.2.1), (5, .int st.2.2.2.2)] → W p l e rm_X10_partsMost s m args below meth c H locs 0 0 (MQ below (Qi g r) args s 0 0 (frN g)) (F0 m 12 ls [])) {H : Heap} {locs : List Loc} {ls : Array Slot} (h : F_X10_partsMost_118 rec12 σ x0 x1 x2 x3 x4 x5 y0 = some r) (hV : HV g σ H) (hF : FR g locs) (hl : lv_has ls 9 [(0, .ref x0), (1, .int x1), (2, .int x2), (3, .int x3), (4, .int x4), (5, .int x5)]) : W p l e rm_X10_partsMost s m args below meth c H locs 0 0 (MQ below (Qi g r) args s 0 0 (frN g)) (F0 m 118 ls [.int y0]) := by
  unfold F_X10_partsMost_118 at h
  refine lv_istore (lv' := [(6, .int y0), (0, .ref x0), (1, .int x1), (2, .int x2), (3, .int x3), (4, .int x4), (5, .int x5)]) X.1 X.2.1 dX10_partsMost_118 hl (by decide) rfl (fun ls hl => ?_)
  refine lv_iload X.1 X.2.1 dX10_partsMost_120 (lv_at hl 0 rfl) ?_
  refine lv_iload_n X.1 X.2.1 dX10_partsMost_122 rfl (lv_at hl 4 rfl) ?_
  refine r_ge (tgt := 131) X.1 X.2.1 dX10_partsMost_123 (by decide) h (fun h => ?_) (fun h => ?_)
  · refine lv_iload_n X.1 X.2.1 dX10_partsMost_131 rfl (lv_at hl 3 rfl) ?_
    refine lv_istore_n (lv' := [(2, .int x2), (6, .int y0), (0, .ref x0), (1, .int x1), (3, .int x3), (4, .int x4), (5, .int x5)]) X.1 X.2.1 dX10_partsMost_132 rfl hl (by decide) rfl (fun ls hl => ?_)
    refine lv_iload X.1 X.2.1 dX10_partsMost_133 (lv_at hl 1 rfl) ?_
    refine lv_iload_n X.1 X.2.1 dX10_partsMost_135 rfl (lv_at hl 4 rfl) ?_
    refine r_ge (tgt := 144) X.1 X.2.1 dX10_partsMost_136 (by decide) h (fun h => ?_) (fun h => ?_)
    · refine lv_iload_n X.1 X.2.1 dX10_partsMost_144 rfl (lv_at hl 4 rfl) ?_
      refine lv_istore_n (lv' := [(3, .int x3), (2, .int x2), (6, .int y0), (0, .ref x0), (1, .int x1), (4, .int x4), (5, .int x5)]) X.1 X.2.1 dX10_partsMost_145 rfl hl (by decide) rfl (fun ls hl => ?_)
      refine lv_iinc (v := x5 + 1) (lv' := [(5, .int (x5 + 1)), (3, .int x3), (2, .int x2), (6, .int y0), (0, .ref x0), (1, .int x1), (4, .int x4)]) X.1 X.2.1 dX10_partsMost_146 hl (k := 6) rfl rfl (by decide) rfl (fun ls hl => ?_)
      refine lv_goto (tgt := 12) X.1 X.2.1 dX10_partsMost_149 (by decide) ?_
      exact hr12 (σ, x2, x3, x4, x5 + 1) h _ _ _ hV hF (lv_sub hl [4, 5, 2, 1, 6, 0] rfl)
    · refine lv_iload X.1 X.2.1 dX10_partsMost_139 (lv_at hl 1 rfl) ?_
      refine lv_goto (tgt := 145) X.1 X.2.1 dX10_partsMost_141 (by decide) ?_
      refine lv_istore_n (lv' := [(3, .int y0), (2, .int x2), (6, .int y0), (0, .ref x0), (1, .int x1), (4, .int x4), (5, .int x5)]) X.1 X.2.1 dX10_partsMost_145 rfl hl (by decide) rfl (fun ls hl => ?_)
      refine lv_iinc (v := x5 + 1) (lv' := [(5, .int (x5 + 1)), (3, .int y0), (2, .int x2), (6, .int y0), (0, .ref x0), (1, .int x1), (4, .int x4)]) X.1 X.2.1 dX10_partsMost_146 hl (k := 6) rfl rfl (by decide) rfl (fun ls hl => ?_)
      refine lv_goto (tgt := 12) X.1 X.2.1 dX10_partsMost_149 (by decide) ?_
      exact hr12 (σ, x2, y0, x4, x5 + 1) h _ _ _ hV hF (lv_sub hl [4, 5, 2, 1, 6, 0] rfl)
  · refine lv_iload X.1 X.2.1 dX10_partsMost_126 (lv_at hl 6 rfl) ?_
    refine lv_goto (tgt := 132) X.1 X.2.1 dX10_partsMost_128 (by decide) ?_
    refine lv_istore_n (lv' := [(2, .int x5), (6, .int y0), (0, .ref x0), (1, .int x1), (3, .int x3), (4, .int x4), (5, .int x5)]) X.1 X.2.1 dX10_partsMost_132 rfl hl (by decide) rfl (fun ls hl => ?_)
    refine lv_iload X.1 X.2.1 dX10_partsMost_133 (lv_at hl 1 rfl) ?_
    refine lv_iload_n X.1 X.2.1 dX10_partsMost_135 rfl (lv_at hl 4 rfl) ?_
    refine r_ge (tgt := 144) X.1 X.2.1 dX10_partsMost_136 (by decide) h (fun h => ?_) (fun h => ?_)
    · refine lv_iload_n X.1 X.2.1 dX10_partsMost_144 rfl (lv_at hl 4 rfl) ?_
      refine lv_istore_n (lv' := [(3, .int x3), (2, .int x5), (6, .int y0), (0, .ref x0), (1, .int x1), (4, .int x4), (5, .int x5)]) X.1 X.2.1 dX10_partsMost_145 rfl hl (by decide) rfl (fun ls hl => ?_)
      refine lv_iinc (v := x5 + 1) (lv' := [(5, .int (x5 + 1)), (3, .int x3), (2, .int x5), (6, .int y0), (0, .ref x0), (1, .int x1), (4, .int x4)]) X.1 X.2.1 dX10_partsMost_146 hl (k := 6) rfl rfl (by decide) rfl (fun ls hl => ?_)
      refine lv_goto (tgt := 12) X.1 X.2.1 dX10_partsMost_149 (by decide) ?_
      exact hr12 (σ, x5, x3, x4, x5 + 1) h _ _ _ hV hF (lv_sub hl [4, 5, 2, 1, 6, 0] rfl)
    · refine lv_iload X.1 X.2.1 dX10_partsMost_139 (lv_at hl 1 rfl) ?_
      refine lv_goto (tgt := 145) X.1 X.2.1 dX10_partsMost_141 (by decide) ?_
      refine lv_istore_n (lv' := [(3, .int y0), (2, .int x5), (6, .int y0), (0, .ref x0), (1, .int x1), (4, .int x4), (5, .int x5)]) X.1 X.2.1 dX10_partsMost_145 rfl hl (by decide) rfl (fun ls hl => ?_)
      refine lv_iinc (v := x5 + 1) (lv' := [(5, .int (x5 + 1)), (3, .int y0), (2, .int x5), (6, .int y0), (0, .ref x0), (1, .int x1), (4, .int x4)]) X.1 X.2.1 dX10_partsMost_146 hl (k := 6) rfl rfl (by decide) rfl (fun ls hl => ?_)
      refine lv_goto (tgt := 12) X.1 X.2.1 dX10_partsMost_149 (by decide) ?_
      exact hr12 (σ, x5, y0, x4, x5 + 1) h _ _ _ hV hF (lv_sub hl [4, 5, 2, 1, 6, 0] rfl)
set_option maxHeartbeats 4000000 in
theorem w_X10_partsMost_105 {p : Program} {l : Launch} {e : Env} {s : State} {m : MethodId} {args : Array Value} {below : List Frame} {meth : Method} {c : Code} {g : Gl} (X : FX g p m c s args meth cX10_partsMost 9 RX10 (some .int) "partsMost") {r : Int32 × Hp} {rec12 : Hp × Int32 × Int32 × Int32 × Int32 → Option (Int32 × Hp)} {σ : Hp} {x0 : Nat} {x1 : Int32} {x2 : Int32} {x3 : Int32} {x4 : Int32} {x5 : Int32} {x6 : Int32} (hr12 : ∀ (st : Hp × Int32 × Int32 × Int32 × Int32), rec12 st = some r → ∀ (H : Heap) (locs : List Loc) (ls : Array Slot), HV g st.1 H → FR g locs → lv_has ls 9 [(0, .ref x0), (1, .int x1), (2, .int st.2.1), (3, .int st.2.2.1), (4, .int st.2.2.2.1), (5, .int st.2.2.2.2)] → W p l e rm_X10_partsMost s m args below meth c H locs 0 0 (MQ below (Qi g r) args s 0 0 (frN g)) (F0 m 12 ls [])) {H : Heap} {locs : List Loc} {ls : Array Slot} (h : F_X10_partsMost_105 rec12 σ x0 x1 x2 x3 x4 x5 x6 = some r) (hV : HV g σ H) (hF : FR g locs) (hl : lv_has ls 9 [(0, .ref x0), (1, .int x1), (2, .int x2), (3, .int x3), (4, .int x4), (5, .int x5), (6, .int x6)]) : W p l e rm_X10_partsMost s m args below meth c H locs 0 0 (MQ below (Qi g r) args s 0 0 (frN g)) (F0 m 105 ls []) := by
  unfold F_X10_partsMost_105 at h
  refine lv_iload X.1 X.2.1 dX10_partsMost_105 (lv_at hl 6 rfl) ?_
  refine r_ifge (tgt := 116) X.1 X.2.1 dX10_partsMost_107 (by decide) h (fun h => ?_) (fun h => ?_)
  · refine lv_iload X.1 X.2.1 dX10_partsMost_116 (lv_at hl 6 rfl) ?_
    exact w_X10_partsMost_118 X hr12 h hV hF (lv_sub hl [0, 1, 2, 3, 4, 5] rfl)
  · refine lv_iload X.1 X.2.1 dX10_partsMost_110 (lv_at hl 6 rfl) ?_
    refine lv_ineg X.1 X.2.1 dX10_partsMost_112 ?_
    refine lv_goto (tgt := 118) X.1 X.2.1 dX10_partsMost_113 (by decide) ?_
    exact w_X10_partsMost_118 X hr12 h hV hF (lv_sub hl [0, 1, 2, 3, 4, 5] rfl)
set_option maxHeartbeats 4000000 in
theorem w_X10_partsMost_67 {p : Program} {l : Launch} {e : Env} {s : State} {m : MethodId} {args : Array Value} {below : List Frame} {meth : Method} {c : Code} {g : Gl} (X : FX g p m c s args meth cX10_partsMost 9 RX10 (some .int) "partsMost") {r : Int32 × Hp} {rec12 : Hp × Int32 × Int32 × Int32 × Int32 → Option (Int32 × Hp)} {rec25 : Hp × Int32 × Int32 × Int32 → Option (Int32 × Hp)} {σ : Hp} {x0 : Nat} {x1 : Int32} {x2 : Int32} {x3 : Int32} {x5 : Int32} {x6 : Int32} {x7 : Int32} {x8 : Int32} {y0 : Int32} {y1 : Int32} (hr12 : ∀ (st : Hp × Int32 × Int32 × Int32 × Int32), rec12 st = some r → ∀ (H : Heap) (locs : List Loc) (ls : Array Slot), HV g st.1 H → FR g locs → lv_has ls 9 [(0, .ref x0), (1, .int x1), (2, .int st.2.1), (3, .int st.2.2.1), (4, .int st.2.2.2.1), (5, .int st.2.2.2.2)] → W p l e rm_X10_partsMost s m args below meth c H locs 0 0 (MQ below (Qi g r) args s 0 0 (frN g)) (F0 m 12 ls [])) (hr25 : ∀ (st : Hp × Int32 × Int32 × Int32), rec25 st = some r → ∀ (H : Heap) (locs : List Loc) (ls : Array Slot), HV g st.1 H → FR g locs → lv_has ls 9 [(0, .ref x0), (1, .int x1), (2, .int x2), (3, .int x3), (4, .int st.2.1), (5, .int x5), (6, .int st.2.2.1), (7, .int st.2.2.2)] → W p l e rm_X10_partsMost s m args below meth c H locs 0 0 (MQ below (Qi g r) args s 0 0 (frN g)) (F0 m 25 ls [])) {H : Heap} {locs : List Loc} {ls : Array Slot} (h : F_X10_partsMost_67 rec12 rec25 σ x0 x1 x2 x3 x5 x6 x7 x8 y0 y1 = some r) (hV : HV g σ H) (hF : FR g locs) (hl : lv_has ls 9 [(0, .ref x0), (1, .int x1), (2, .int x2), (3, .int x3), (5, .int x5), (6, .int x6), (7, .int x7), (8, .int x8)]) : W p l e rm_X10_partsMost s m args below meth c H locs 0 0 (MQ below (Qi g r) args s 0 0 (frN g)) (F0 m 67 ls [.int y0, .int y1]) := by
  unfold F_X10_partsMost_67 at h
  refine lv_iadd X.1 X.2.1 dX10_partsMost_67 ?_
  refine lv_istore (lv' := [(4, .int (y1 + y0)), (0, .ref x0), (1, .int x1), (2, .int x2), (3, .int x3), (5, .int x5), (6, .int x6), (7, .int x7), (8, .int x8)]) X.1 X.2.1 dX10_partsMost_68 hl (by decide) rfl (fun ls hl => ?_)
  refine lv_iload X.1 X.2.1 dX10_partsMost_70 (lv_at hl 6 rfl) ?_
  refine lv_iload X.1 X.2.1 dX10_partsMost_72 (lv_at hl 8 rfl) ?_
  refine r_ifeq (tgt := 95) X.1 X.2.1 dX10_partsMost_74 (by decide) h (fun h => ?_) (fun h => ?_)
  · refine lv_iconst (v := 0) X.1 X.2.1 dX10_partsMost_95 (by decide) ?_
    refine lv_iadd X.1 X.2.1 dX10_partsMost_96 ?_
    refine lv_istore (lv' := [(6, .int (x6 + 0)), (4, .int (y1 + y0)), (0, .ref x0), (1, .int x1), (2, .int x2), (3, .int x3), (5, .int x5), (7, .int x7), (8, .int x8)]) X.1 X.2.1 dX10_partsMost_97 hl (by decide) rfl (fun ls hl => ?_)
    refine lv_iinc (v := x7 + 1) (lv' := [(7, .int (x7 + 1)), (6, .int (x6 + 0)), (4, .int (y1 + y0)), (0, .ref x0), (1, .int x1), (2, .int x2), (3, .int x3), (5, .int x5), (8, .int x8)]) X.1 X.2.1 dX10_partsMost_99 hl (k := 7) rfl rfl (by decide) rfl (fun ls hl => ?_)
    refine lv_goto (tgt := 25) X.1 X.2.1 dX10_partsMost_102 (by decide) ?_
    exact hr25 (σ, y1 + y0, x6 + 0, x7 + 1) h _ _ _ hV hF (lv_sub hl [3, 4, 5, 6, 2, 7, 1, 0] rfl)
  · refine lv_iload X.1 X.2.1 dX10_partsMost_77 (lv_at hl 7 rfl) ?_
    refine lv_iload X.1 X.2.1 dX10_partsMost_79 (lv_at hl 5 rfl) ?_
    obtain ⟨v1, s1, hc, h⟩ := b2_inv h
    refine r_ci (va_runS (As := [.int x7, .int x5]) (rest := [.int x6]) (cfX X) (c_X10_isRight l hc) (va_cwS 2 X.2.2.2.2.1 (lw_S q1340 q1341 q59 q1342) rfl rfl rfl yd_X10_isRight ⟨Nat.le_of_ble_eq_true rfl, Nat.le_of_ble_eq_true rfl⟩) (preS X hV) rfl rfl hl.1 rfl (lv_room (Nat.le_of_ble_eq_true rfl)) dX10_partsMost_81 ⟨(Nat.le_of_ble_eq_true rfl), (Nat.le_of_ble_eq_true rfl)⟩) hF (fun H locs hV hF => ?_)
    refine r_ifeq (tgt := 91) X.1 X.2.1 dX10_partsMost_84 (by decide) h (fun h => ?_) (fun h => ?_)
    · refine lv_iconst (v := (-1)) X.1 X.2.1 dX10_partsMost_91 (by decide) ?_
      refine lv_goto (tgt := 96) X.1 X.2.1 dX10_partsMost_92 (by decide) ?_
      refine lv_iadd X.1 X.2.1 dX10_partsMost_96 ?_
      refine lv_istore (lv' := [(6, .int (x6 + (-1))), (4, .int (y1 + y0)), (0, .ref x0), (1, .int x1), (2, .int x2), (3, .int x3), (5, .int x5), (7, .int x7), (8, .int x8)]) X.1 X.2.1 dX10_partsMost_97 hl (by decide) rfl (fun ls hl => ?_)
      refine lv_iinc (v := x7 + 1) (lv' := [(7, .int (x7 + 1)), (6, .int (x6 + (-1))), (4, .int (y1 + y0)), (0, .ref x0), (1, .int x1), (2, .int x2), (3, .int x3), (5, .int x5), (8, .int x8)]) X.1 X.2.1 dX10_partsMost_99 hl (k := 7) rfl rfl (by decide) rfl (fun ls hl => ?_)
      refine lv_goto (tgt := 25) X.1 X.2.1 dX10_partsMost_102 (by decide) ?_
      exact hr25 (s1, y1 + y0, x6 + (-1), x7 + 1) h _ _ _ hV hF (lv_sub hl [3, 4, 5, 6, 2, 7, 1, 0] rfl)
    · refine lv_iconst (v := 1) X.1 X.2.1 dX10_partsMost_87 (by decide) ?_
      refine lv_goto (tgt := 96) X.1 X.2.1 dX10_partsMost_88 (by decide) ?_
      refine lv_iadd X.1 X.2.1 dX10_partsMost_96 ?_
      refine lv_istore (lv' := [(6, .int (x6 + 1)), (4, .int (y1 + y0)), (0, .ref x0), (1, .int x1), (2, .int x2), (3, .int x3), (5, .int x5), (7, .int x7), (8, .int x8)]) X.1 X.2.1 dX10_partsMost_97 hl (by decide) rfl (fun ls hl => ?_)
      refine lv_iinc (v := x7 + 1) (lv' := [(7, .int (x7 + 1)), (6, .int (x6 + 1)), (4, .int (y1 + y0)), (0, .ref x0), (1, .int x1), (2, .int x2), (3, .int x3), (5, .int x5), (8, .int x8)]) X.1 X.2.1 dX10_partsMost_99 hl (k := 7) rfl rfl (by decide) rfl (fun ls hl => ?_)
      refine lv_goto (tgt := 25) X.1 X.2.1 dX10_partsMost_102 (by decide) ?_
      exact hr25 (s1, y1 + y0, x6 + 1, x7 + 1) h _ _ _ hV hF (lv_sub hl [3, 4, 5, 6, 2, 7, 1, 0] rfl)
set_option maxHeartbeats 4000000 in
theorem w_X10_partsMost_53 {p : Program} {l : Launch} {e : Env} {s : State} {m : MethodId} {args : Array Value} {below : List Frame} {meth : Method} {c : Code} {g : Gl} (X : FX g p m c s args meth cX10_partsMost 9 RX10 (some .int) "partsMost") {r : Int32 × Hp} {rec12 : Hp × Int32 × Int32 × Int32 × Int32 → Option (Int32 × Hp)} {rec25 : Hp × Int32 × Int32 × Int32 → Option (Int32 × Hp)} {σ : Hp} {x0 : Nat} {x1 : Int32} {x2 : Int32} {x3 : Int32} {x4 : Int32} {x5 : Int32} {x6 : Int32} {x7 : Int32} {y0 : Int32} (hr12 : ∀ (st : Hp × Int32 × Int32 × Int32 × Int32), rec12 st = some r → ∀ (H : Heap) (locs : List Loc) (ls : Array Slot), HV g st.1 H → FR g locs → lv_has ls 9 [(0, .ref x0), (1, .int x1), (2, .int st.2.1), (3, .int st.2.2.1), (4, .int st.2.2.2.1), (5, .int st.2.2.2.2)] → W p l e rm_X10_partsMost s m args below meth c H locs 0 0 (MQ below (Qi g r) args s 0 0 (frN g)) (F0 m 12 ls [])) (hr25 : ∀ (st : Hp × Int32 × Int32 × Int32), rec25 st = some r → ∀ (H : Heap) (locs : List Loc) (ls : Array Slot), HV g st.1 H → FR g locs → lv_has ls 9 [(0, .ref x0), (1, .int x1), (2, .int x2), (3, .int x3), (4, .int st.2.1), (5, .int x5), (6, .int st.2.2.1), (7, .int st.2.2.2)] → W p l e rm_X10_partsMost s m args below meth c H locs 0 0 (MQ below (Qi g r) args s 0 0 (frN g)) (F0 m 25 ls [])) {H : Heap} {locs : List Loc} {ls : Array Slot} (h : F_X10_partsMost_53 rec12 rec25 σ x0 x1 x2 x3 x4 x5 x6 x7 y0 = some r) (hV : HV g σ H) (hF : FR g locs) (hl : lv_has ls 9 [(0, .ref x0), (1, .int x1), (2, .int x2), (3, .int x3), (4, .int x4), (5, .int x5), (6, .int x6), (7, .int x7)]) : W p l e rm_X10_partsMost s m args below meth c H locs 0 0 (MQ below (Qi g r) args s 0 0 (frN g)) (F0 m 53 ls [.int y0]) := by
  unfold F_X10_partsMost_53 at h
  refine lv_istore (lv' := [(8, .int y0), (0, .ref x0), (1, .int x1), (2, .int x2), (3, .int x3), (4, .int x4), (5, .int x5), (6, .int x6), (7, .int x7)]) X.1 X.2.1 dX10_partsMost_53 hl (by decide) rfl (fun ls hl => ?_)
  refine lv_iload X.1 X.2.1 dX10_partsMost_55 (lv_at hl 5 rfl) ?_
  refine lv_iload X.1 X.2.1 dX10_partsMost_57 (lv_at hl 0 rfl) ?_
  refine r_ifeq (tgt := 66) X.1 X.2.1 dX10_partsMost_59 (by decide) h (fun h => ?_) (fun h => ?_)
  · refine lv_iconst (v := 0) X.1 X.2.1 dX10_partsMost_66 (by decide) ?_
    exact w_X10_partsMost_67 X hr12 hr25 h hV hF (lv_sub hl [1, 2, 3, 4, 6, 7, 8, 0] rfl)
  · refine lv_iconst (v := 1) X.1 X.2.1 dX10_partsMost_62 (by decide) ?_
    refine lv_goto (tgt := 67) X.1 X.2.1 dX10_partsMost_63 (by decide) ?_
    exact w_X10_partsMost_67 X hr12 hr25 h hV hF (lv_sub hl [1, 2, 3, 4, 6, 7, 8, 0] rfl)
set_option maxHeartbeats 4000000 in
theorem w_X10_partsMost_25_b {p : Program} {l : Launch} {e : Env} {s : State} {m : MethodId} {args : Array Value} {below : List Frame} {meth : Method} {c : Code} {g : Gl} (X : FX g p m c s args meth cX10_partsMost 9 RX10 (some .int) "partsMost") {r : Int32 × Hp} {rec12 : Hp × Int32 × Int32 × Int32 × Int32 → Option (Int32 × Hp)} {rec25 : Hp × Int32 × Int32 × Int32 → Option (Int32 × Hp)} {x0 : Nat} {x1 : Int32} {x2 : Int32} {x3 : Int32} {x5 : Int32} {σ : Hp} {x4 : Int32} {x6 : Int32} {x7 : Int32} (hr12 : ∀ (st : Hp × Int32 × Int32 × Int32 × Int32), rec12 st = some r → ∀ (H : Heap) (locs : List Loc) (ls : Array Slot), HV g st.1 H → FR g locs → lv_has ls 9 [(0, .ref x0), (1, .int x1), (2, .int st.2.1), (3, .int st.2.2.1), (4, .int st.2.2.2.1), (5, .int st.2.2.2.2)] → W p l e rm_X10_partsMost s m args below meth c H locs 0 0 (MQ below (Qi g r) args s 0 0 (frN g)) (F0 m 12 ls [])) (hr25 : ∀ (st : Hp × Int32 × Int32 × Int32), rec25 st = some r → ∀ (H : Heap) (locs : List Loc) (ls : Array Slot), HV g st.1 H → FR g locs → lv_has ls 9 [(0, .ref x0), (1, .int x1), (2, .int x2), (3, .int x3), (4, .int st.2.1), (5, .int x5), (6, .int st.2.2.1), (7, .int st.2.2.2)] → W p l e rm_X10_partsMost s m args below meth c H locs 0 0 (MQ below (Qi g r) args s 0 0 (frN g)) (F0 m 25 ls [])) {H : Heap} {locs : List Loc} {ls : Array Slot} (h : B_X10_partsMost_25 rec12 x0 x1 x2 x3 x5 rec25 σ x4 x6 x7 = some r) (hV : HV g σ H) (hF : FR g locs) (hl : lv_has ls 9 [(0, .ref x0), (1, .int x1), (2, .int x2), (3, .int x3), (4, .int x4), (5, .int x5), (6, .int x6), (7, .int x7)]) : W p l e rm_X10_partsMost s m args below meth c H locs 0 0 (MQ below (Qi g r) args s 0 0 (frN g)) (F0 m 25 ls []) := by
  unfold B_X10_partsMost_25 at h
  refine lv_iload X.1 X.2.1 dX10_partsMost_25 (lv_at hl 7 rfl) ?_
  refine lv_bipush (v := 81) X.1 X.2.1 dX10_partsMost_27 (by decide) ?_
  refine r_ge (tgt := 105) X.1 X.2.1 dX10_partsMost_29 (by decide) h (fun h => ?_) (fun h => ?_)
  · exact w_X10_partsMost_105 X hr12 h hV hF (lv_sub hl [0, 1, 2, 3, 4, 5, 6] rfl)
  · refine lv_aload_n X.1 X.2.1 dX10_partsMost_32 rfl (lv_at hl 0 rfl) ?_
    refine lv_iload_n X.1 X.2.1 dX10_partsMost_33 rfl (lv_at hl 1 rfl) ?_
    refine lv_iload X.1 X.2.1 dX10_partsMost_34 (lv_at hl 7 rfl) ?_
    obtain ⟨v1, s1, hc, h⟩ := b2_inv h
    refine r_ci (va_runV (C := RX10) (As := [.int x1, .int x7]) (rest := []) (cfX X) (c_X10_agrees l hc) (cwV 2 X.2.2.2.2.1 (lw_V q1336 q1338 qs46 q59 q1339) rfl rfl rfl ⟨rfl, yd_X10_agrees⟩ ⟨Nat.le_of_ble_eq_true rfl, Nat.le_of_ble_eq_true rfl⟩) (preV X hV (F_X10_agrees_g hc) rfl) rfl rfl hl.1 rfl (lv_room (Nat.le_of_ble_eq_true rfl)) dX10_partsMost_36 ⟨(Nat.le_of_ble_eq_true rfl), (Nat.le_of_ble_eq_true rfl)⟩) hF (fun H locs hV hF => ?_)
    refine lv_aload_n X.1 X.2.1 dX10_partsMost_39 rfl (lv_at hl 0 rfl) ?_
    refine r_gR X hV fl_X10_80_10 (by decide) dX10_partsMost_40 h (fun v2 h => ?_)
    refine lv_iload_n X.1 X.2.1 dX10_partsMost_43 rfl (lv_at hl 1 rfl) ?_
    refine r_ia X hV dX10_partsMost_44 h (fun v3 h => ?_)
    refine r_ne (tgt := 52) X.1 X.2.1 dX10_partsMost_45 (by decide) h (fun h => ?_) (fun h => ?_)
    · refine lv_iconst (v := 0) X.1 X.2.1 dX10_partsMost_52 (by decide) ?_
      exact w_X10_partsMost_53 X hr12 hr25 h hV hF (lv_sub hl [0, 1, 2, 3, 4, 5, 6, 7] rfl)
    · refine lv_iconst (v := 1) X.1 X.2.1 dX10_partsMost_48 (by decide) ?_
      refine lv_goto (tgt := 53) X.1 X.2.1 dX10_partsMost_49 (by decide) ?_
      exact w_X10_partsMost_53 X hr12 hr25 h hV hF (lv_sub hl [0, 1, 2, 3, 4, 5, 6, 7] rfl)
set_option maxHeartbeats 4000000 in
theorem w_X10_partsMost_25 {p : Program} {l : Launch} {e : Env} {s : State} {m : MethodId} {args : Array Value} {below : List Frame} {meth : Method} {c : Code} {g : Gl} (X : FX g p m c s args meth cX10_partsMost 9 RX10 (some .int) "partsMost") {r : Int32 × Hp} {rec12 : Hp × Int32 × Int32 × Int32 × Int32 → Option (Int32 × Hp)} {x0 : Nat} {x1 : Int32} {x2 : Int32} {x3 : Int32} {x5 : Int32} (hr12 : ∀ (st : Hp × Int32 × Int32 × Int32 × Int32), rec12 st = some r → ∀ (H : Heap) (locs : List Loc) (ls : Array Slot), HV g st.1 H → FR g locs → lv_has ls 9 [(0, .ref x0), (1, .int x1), (2, .int st.2.1), (3, .int st.2.2.1), (4, .int st.2.2.2.1), (5, .int st.2.2.2.2)] → W p l e rm_X10_partsMost s m args below meth c H locs 0 0 (MQ below (Qi g r) args s 0 0 (frN g)) (F0 m 12 ls [])) : ∀ (n : Nat) (st : Hp × Int32 × Int32 × Int32), L_X10_partsMost_25 rec12 x0 x1 x2 x3 x5 n st = some r → ∀ (H : Heap) (locs : List Loc) (ls : Array Slot), HV g st.1 H → FR g locs → lv_has ls 9 [(0, .ref x0), (1, .int x1), (2, .int x2), (3, .int x3), (4, .int st.2.1), (5, .int x5), (6, .int st.2.2.1), (7, .int st.2.2.2)] → W p l e rm_X10_partsMost s m args below meth c H locs 0 0 (MQ below (Qi g r) args s 0 0 (frN g)) (F0 m 25 ls []) := by
  intro n
  induction n with
  | zero =>
    intro st h
    rw [L_X10_partsMost_25_0] at h
    cases h
  | succ n ih =>
    intro st h H locs ls hV hF hl
    rw [L_X10_partsMost_25_s] at h
    exact w_X10_partsMost_25_b X hr12 ih h hV hF hl
set_option maxHeartbeats 4000000 in
theorem w_X10_partsMost_12_b {p : Program} {l : Launch} {e : Env} {s : State} {m : MethodId} {args : Array Value} {below : List Frame} {meth : Method} {c : Code} {g : Gl} (X : FX g p m c s args meth cX10_partsMost 9 RX10 (some .int) "partsMost") {r : Int32 × Hp} {rec12 : Hp × Int32 × Int32 × Int32 × Int32 → Option (Int32 × Hp)} {x0 : Nat} {x1 : Int32} {σ : Hp} {x2 : Int32} {x3 : Int32} {x4 : Int32} {x5 : Int32} (hr12 : ∀ (st : Hp × Int32 × Int32 × Int32 × Int32), rec12 st = some r → ∀ (H : Heap) (locs : List Loc) (ls : Array Slot), HV g st.1 H → FR g locs → lv_has ls 9 [(0, .ref x0), (1, .int x1), (2, .int st.2.1), (3, .int st.2.2.1), (4, .int st.2.2.2.1), (5, .int st.2.2.2.2)] → W p l e rm_X10_partsMost s m args below meth c H locs 0 0 (MQ below (Qi g r) args s 0 0 (frN g)) (F0 m 12 ls [])) {H : Heap} {locs : List Loc} {ls : Array Slot} (h : B_X10_partsMost_12 x0 x1 rec12 σ x2 x3 x4 x5 = some r) (hV : HV g σ H) (hF : FR g locs) (hl : lv_has ls 9 [(0, .ref x0), (1, .int x1), (2, .int x2), (3, .int x3), (4, .int x4), (5, .int x5)]) : W p l e rm_X10_partsMost s m args below meth c H locs 0 0 (MQ below (Qi g r) args s 0 0 (frN g)) (F0 m 12 ls []) := by
  unfold B_X10_partsMost_12 at h
  refine lv_iload X.1 X.2.1 dX10_partsMost_12 (lv_at hl 5 rfl) ?_
  refine lv_bipush (v := 61) X.1 X.2.1 dX10_partsMost_14 (by decide) ?_
  refine r_ge (tgt := 152) X.1 X.2.1 dX10_partsMost_16 (by decide) h (fun h => ?_) (fun h => ?_)
  · exact w_X10_partsMost_152 X  h hV hF (lv_sub hl [2, 4] rfl)
  · refine lv_iconst (v := 0) X.1 X.2.1 dX10_partsMost_19 (by decide) ?_
    refine lv_istore (lv' := [(6, .int 0), (0, .ref x0), (1, .int x1), (2, .int x2), (3, .int x3), (4, .int x4), (5, .int x5)]) X.1 X.2.1 dX10_partsMost_20 hl (by decide) rfl (fun ls hl => ?_)
    refine lv_iconst (v := 0) X.1 X.2.1 dX10_partsMost_22 (by decide) ?_
    refine lv_istore (lv' := [(7, .int 0), (6, .int 0), (0, .ref x0), (1, .int x1), (2, .int x2), (3, .int x3), (4, .int x4), (5, .int x5)]) X.1 X.2.1 dX10_partsMost_23 hl (by decide) rfl (fun ls hl => ?_)
    exact w_X10_partsMost_25 X hr12 FU (σ, x4, 0, 0) h _ _ _ hV hF (lv_sub hl [2, 3, 4, 5, 6, 7, 1, 0] rfl)
set_option maxHeartbeats 4000000 in
theorem w_X10_partsMost_12 {p : Program} {l : Launch} {e : Env} {s : State} {m : MethodId} {args : Array Value} {below : List Frame} {meth : Method} {c : Code} {g : Gl} (X : FX g p m c s args meth cX10_partsMost 9 RX10 (some .int) "partsMost") {r : Int32 × Hp} {x0 : Nat} {x1 : Int32}  : ∀ (n : Nat) (st : Hp × Int32 × Int32 × Int32 × Int32), L_X10_partsMost_12 x0 x1 n st = some r → ∀ (H : Heap) (locs : List Loc) (ls : Array Slot), HV g st.1 H → FR g locs → lv_has ls 9 [(0, .ref x0), (1, .int x1), (2, .int st.2.1), (3, .int st.2.2.1), (4, .int st.2.2.2.1), (5, .int st.2.2.2.2)] → W p l e rm_X10_partsMost s m args below meth c H locs 0 0 (MQ below (Qi g r) args s 0 0 (frN g)) (F0 m 12 ls []) := by
  intro n
  induction n with
  | zero =>
    intro st h
    rw [L_X10_partsMost_12_0] at h
    cases h
  | succ n ih =>
    intro st h H locs ls hV hF hl
    rw [L_X10_partsMost_12_s] at h
    exact w_X10_partsMost_12_b X  ih h hV hF hl
set_option maxHeartbeats 4000000 in
theorem c_X10_partsMost (l : Launch) {g : Gl} {σ : Hp} {x0 : Nat} {x1 : Int32} {r : Int32 × Hp} (h : F_X10_partsMost σ x0 x1 = some r) : Met l yX10_partsMost (ws_ yX10_partsMost cX10_partsMost 9 (some .int)) rm_X10_partsMost (va_Pc [.ref x0, .int x1] (WV g σ)) (Qi g r) 0 0 (frN g) := by
  refine ct_of (by decide) (Nat.le_of_ble_eq_true rfl) ?_
  intro p e s m below meth c ls X hV hl
  have hF : FR g [] := FR_nil
  unfold F_X10_partsMost at h
  have hl : lv_has ls 9 [(0, .ref x0), (1, .int x1)] := hl
  have X : FX g p m c s _ meth cX10_partsMost 9 RX10 (some .int) "partsMost" := X
  obtain ⟨-, h⟩ := gd_inv h
  refine lv_iconst (v := (-1)) X.1 X.2.1 dX10_partsMost_0 (by decide) ?_
  refine lv_istore_n (lv' := [(2, .int (-1)), (0, .ref x0), (1, .int x1)]) X.1 X.2.1 dX10_partsMost_1 rfl hl (by decide) rfl (fun ls hl => ?_)
  refine lv_sipush (v := 1000) X.1 X.2.1 dX10_partsMost_2 (by decide) ?_
  refine lv_istore_n (lv' := [(3, .int 1000), (2, .int (-1)), (0, .ref x0), (1, .int x1)]) X.1 X.2.1 dX10_partsMost_5 rfl hl (by decide) rfl (fun ls hl => ?_)
  refine lv_iconst (v := 0) X.1 X.2.1 dX10_partsMost_6 (by decide) ?_
  refine lv_istore (lv' := [(4, .int 0), (3, .int 1000), (2, .int (-1)), (0, .ref x0), (1, .int x1)]) X.1 X.2.1 dX10_partsMost_7 hl (by decide) rfl (fun ls hl => ?_)
  refine lv_iconst (v := 1) X.1 X.2.1 dX10_partsMost_9 (by decide) ?_
  refine lv_istore (lv' := [(5, .int 1), (4, .int 0), (3, .int 1000), (2, .int (-1)), (0, .ref x0), (1, .int x1)]) X.1 X.2.1 dX10_partsMost_10 hl (by decide) rfl (fun ls hl => ?_)
  exact w_X10_partsMost_12 X  FU (σ, (-1), 1000, 0, 1) h _ _ _ hV hF (lv_sub hl [4, 5, 3, 2, 1, 0] rfl)
/-! PalaceOfRoomsModel.pupil -/
theorem dX10_pupil_0 : decode cX10_pupil 0 = .ok (.iload_n 1, 1) := by decide +kernel
theorem dX10_pupil_1 : decode cX10_pupil 1 = .ok (.invokestatic 254, 3) := by decide +kernel
theorem dX10_pupil_4 : decode cX10_pupil 4 = .ok (.ifCond .ne 6, 3) := by decide +kernel
theorem dX10_pupil_7 : decode cX10_pupil 7 = .ok (.bipush (-2), 2) := by decide +kernel
theorem dX10_pupil_9 : decode cX10_pupil 9 = .ok (.ireturn, 1) := by decide +kernel
theorem dX10_pupil_10 : decode cX10_pupil 10 = .ok (.iload_n 2, 1) := by decide +kernel
theorem dX10_pupil_11 : decode cX10_pupil 11 = .ok (.iconst 0, 1) := by decide +kernel
theorem dX10_pupil_12 : decode cX10_pupil 12 = .ok (.iconst 3, 1) := by decide +kernel
theorem dX10_pupil_13 : decode cX10_pupil 13 = .ok (.invokestatic 93, 3) := by decide +kernel
theorem dX10_pupil_16 : decode cX10_pupil 16 = .ok (.ifCond .ne 6, 3) := by decide +kernel
theorem dX10_pupil_19 : decode cX10_pupil 19 = .ok (.bipush (-3), 2) := by decide +kernel
theorem dX10_pupil_21 : decode cX10_pupil 21 = .ok (.ireturn, 1) := by decide +kernel
theorem dX10_pupil_22 : decode cX10_pupil 22 = .ok (.iconst 0, 1) := by decide +kernel
theorem dX10_pupil_23 : decode cX10_pupil 23 = .ok (.istore_n 3, 1) := by decide +kernel
theorem dX10_pupil_24 : decode cX10_pupil 24 = .ok (.iconst 0, 1) := by decide +kernel
theorem dX10_pupil_25 : decode cX10_pupil 25 = .ok (.istore 4, 2) := by decide +kernel
theorem dX10_pupil_27 : decode cX10_pupil 27 = .ok (.iconst (-1), 1) := by decide +kernel
theorem dX10_pupil_28 : decode cX10_pupil 28 = .ok (.istore 5, 2) := by decide +kernel
theorem dX10_pupil_30 : decode cX10_pupil 30 = .ok (.iconst 0, 1) := by decide +kernel
theorem dX10_pupil_31 : decode cX10_pupil 31 = .ok (.istore 6, 2) := by decide +kernel
theorem dX10_pupil_33 : decode cX10_pupil 33 = .ok (.iload 6, 2) := by decide +kernel
theorem dX10_pupil_35 : decode cX10_pupil 35 = .ok (.bipush 81, 2) := by decide +kernel
theorem dX10_pupil_37 : decode cX10_pupil 37 = .ok (.if_icmp .ge 69, 3) := by decide +kernel
theorem dX10_pupil_40 : decode cX10_pupil 40 = .ok (.aload_n 0, 1) := by decide +kernel
theorem dX10_pupil_41 : decode cX10_pupil 41 = .ok (.iload_n 1, 1) := by decide +kernel
theorem dX10_pupil_42 : decode cX10_pupil 42 = .ok (.iload 6, 2) := by decide +kernel
theorem dX10_pupil_44 : decode cX10_pupil 44 = .ok (.invokevirtual 260, 3) := by decide +kernel
theorem dX10_pupil_47 : decode cX10_pupil 47 = .ok (.istore 7, 2) := by decide +kernel
theorem dX10_pupil_49 : decode cX10_pupil 49 = .ok (.iload_n 3, 1) := by decide +kernel
theorem dX10_pupil_50 : decode cX10_pupil 50 = .ok (.iload 7, 2) := by decide +kernel
theorem dX10_pupil_52 : decode cX10_pupil 52 = .ok (.aload_n 0, 1) := by decide +kernel
theorem dX10_pupil_53 : decode cX10_pupil 53 = .ok (.getfield 80, 3) := by decide +kernel
theorem dX10_pupil_56 : decode cX10_pupil 56 = .ok (.iload_n 1, 1) := by decide +kernel
theorem dX10_pupil_57 : decode cX10_pupil 57 = .ok (.iaload, 1) := by decide +kernel
theorem dX10_pupil_58 : decode cX10_pupil 58 = .ok (.if_icmp .ne 7, 3) := by decide +kernel
theorem dX10_pupil_61 : decode cX10_pupil 61 = .ok (.iconst 1, 1) := by decide +kernel
theorem dX10_pupil_62 : decode cX10_pupil 62 = .ok (.goto 4, 3) := by decide +kernel
theorem dX10_pupil_65 : decode cX10_pupil 65 = .ok (.iconst 0, 1) := by decide +kernel
theorem dX10_pupil_66 : decode cX10_pupil 66 = .ok (.iadd, 1) := by decide +kernel
theorem dX10_pupil_67 : decode cX10_pupil 67 = .ok (.istore_n 3, 1) := by decide +kernel
theorem dX10_pupil_68 : decode cX10_pupil 68 = .ok (.iload 7, 2) := by decide +kernel
theorem dX10_pupil_70 : decode cX10_pupil 70 = .ok (.iload 5, 2) := by decide +kernel
theorem dX10_pupil_72 : decode cX10_pupil 72 = .ok (.if_icmp .le 8, 3) := by decide +kernel
theorem dX10_pupil_75 : decode cX10_pupil 75 = .ok (.iload 6, 2) := by decide +kernel
theorem dX10_pupil_77 : decode cX10_pupil 77 = .ok (.goto 5, 3) := by decide +kernel
theorem dX10_pupil_80 : decode cX10_pupil 80 = .ok (.iload 4, 2) := by decide +kernel
theorem dX10_pupil_82 : decode cX10_pupil 82 = .ok (.istore 4, 2) := by decide +kernel
theorem dX10_pupil_84 : decode cX10_pupil 84 = .ok (.iload 7, 2) := by decide +kernel
theorem dX10_pupil_86 : decode cX10_pupil 86 = .ok (.iload 5, 2) := by decide +kernel
theorem dX10_pupil_88 : decode cX10_pupil 88 = .ok (.if_icmp .le 8, 3) := by decide +kernel
theorem dX10_pupil_91 : decode cX10_pupil 91 = .ok (.iload 7, 2) := by decide +kernel
theorem dX10_pupil_93 : decode cX10_pupil 93 = .ok (.goto 5, 3) := by decide +kernel
theorem dX10_pupil_96 : decode cX10_pupil 96 = .ok (.iload 5, 2) := by decide +kernel
theorem dX10_pupil_98 : decode cX10_pupil 98 = .ok (.istore 5, 2) := by decide +kernel
theorem dX10_pupil_100 : decode cX10_pupil 100 = .ok (.iinc 6 1, 3) := by decide +kernel
theorem dX10_pupil_103 : decode cX10_pupil 103 = .ok (.goto (-70), 3) := by decide +kernel
theorem dX10_pupil_106 : decode cX10_pupil 106 = .ok (.iload_n 2, 1) := by decide +kernel
theorem dX10_pupil_107 : decode cX10_pupil 107 = .ok (.ifCond .ne 7, 3) := by decide +kernel
theorem dX10_pupil_110 : decode cX10_pupil 110 = .ok (.iload_n 3, 1) := by decide +kernel
theorem dX10_pupil_111 : decode cX10_pupil 111 = .ok (.goto 47, 3) := by decide +kernel
theorem dX10_pupil_114 : decode cX10_pupil 114 = .ok (.iload_n 2, 1) := by decide +kernel
theorem dX10_pupil_115 : decode cX10_pupil 115 = .ok (.iconst 1, 1) := by decide +kernel
theorem dX10_pupil_116 : decode cX10_pupil 116 = .ok (.if_icmp .ne 27, 3) := by decide +kernel
theorem dX10_pupil_119 : decode cX10_pupil 119 = .ok (.bipush 100, 2) := by decide +kernel
theorem dX10_pupil_121 : decode cX10_pupil 121 = .ok (.iload 4, 2) := by decide +kernel
theorem dX10_pupil_123 : decode cX10_pupil 123 = .ok (.bipush 9, 2) := by decide +kernel
theorem dX10_pupil_125 : decode cX10_pupil 125 = .ok (.idiv, 1) := by decide +kernel
theorem dX10_pupil_126 : decode cX10_pupil 126 = .ok (.iconst 1, 1) := by decide +kernel
theorem dX10_pupil_127 : decode cX10_pupil 127 = .ok (.iadd, 1) := by decide +kernel
theorem dX10_pupil_128 : decode cX10_pupil 128 = .ok (.imul, 1) := by decide +kernel
theorem dX10_pupil_129 : decode cX10_pupil 129 = .ok (.bipush 10, 2) := by decide +kernel
theorem dX10_pupil_131 : decode cX10_pupil 131 = .ok (.iload 4, 2) := by decide +kernel
theorem dX10_pupil_133 : decode cX10_pupil 133 = .ok (.bipush 9, 2) := by decide +kernel
theorem dX10_pupil_135 : decode cX10_pupil 135 = .ok (.irem, 1) := by decide +kernel
theorem dX10_pupil_136 : decode cX10_pupil 136 = .ok (.iconst 1, 1) := by decide +kernel
theorem dX10_pupil_137 : decode cX10_pupil 137 = .ok (.iadd, 1) := by decide +kernel
theorem dX10_pupil_138 : decode cX10_pupil 138 = .ok (.imul, 1) := by decide +kernel
theorem dX10_pupil_139 : decode cX10_pupil 139 = .ok (.iadd, 1) := by decide +kernel
theorem dX10_pupil_140 : decode cX10_pupil 140 = .ok (.goto 18, 3) := by decide +kernel
theorem dX10_pupil_143 : decode cX10_pupil 143 = .ok (.iload_n 2, 1) := by decide +kernel
theorem dX10_pupil_144 : decode cX10_pupil 144 = .ok (.iconst 2, 1) := by decide +kernel
theorem dX10_pupil_145 : decode cX10_pupil 145 = .ok (.if_icmp .ne 8, 3) := by decide +kernel
theorem dX10_pupil_148 : decode cX10_pupil 148 = .ok (.iload 5, 2) := by decide +kernel
theorem dX10_pupil_150 : decode cX10_pupil 150 = .ok (.goto 8, 3) := by decide +kernel
theorem dX10_pupil_153 : decode cX10_pupil 153 = .ok (.aload_n 0, 1) := by decide +kernel
theorem dX10_pupil_154 : decode cX10_pupil 154 = .ok (.iload_n 1, 1) := by decide +kernel
theorem dX10_pupil_155 : decode cX10_pupil 155 = .ok (.invokevirtual 263, 3) := by decide +kernel
theorem dX10_pupil_158 : decode cX10_pupil 158 = .ok (.ireturn, 1) := by decide +kernel
theorem yd_X10_pupil : yX10_pupil.cls ≠ "java/lang/invoke/MethodHandle" ∧ yX10_pupil.cls ≠ "java/lang/invoke/VarHandle" ∧ (parseMethodDescriptor yX10_pupil.desc).map (fun d => d.parameters.length) = some 2 := by decide +kernel
abbrev rm_X10_pupil : Room := { frames := 3, cells := 0, slots := 0, locals := 73 }
set_option maxHeartbeats 4000000 in
theorem w_X10_pupil_106 {p : Program} {l : Launch} {e : Env} {s : State} {m : MethodId} {args : Array Value} {below : List Frame} {meth : Method} {c : Code} {g : Gl} (X : FX g p m c s args meth cX10_pupil 8 RX10 (some .int) "pupil") {r : Int32 × Hp} {σ : Hp} {x0 : Nat} {x1 : Int32} {x2 : Int32} {x3 : Int32} {x4 : Int32} {x5 : Int32}  {H : Heap} {locs : List Loc} {ls : Array Slot} (h : F_X10_pupil_106 σ x0 x1 x2 x3 x4 x5 = some r) (hV : HV g σ H) (hF : FR g locs) (hl : lv_has ls 8 [(0, .ref x0), (1, .int x1), (2, .int x2), (3, .int x3), (4, .int x4), (5, .int x5)]) : W p l e rm_X10_pupil s m args below meth c H locs 0 0 (MQ below (Qi g r) args s 0 0 (frN g)) (F0 m 106 ls []) := by
  unfold F_X10_pupil_106 at h
  refine lv_iload_n X.1 X.2.1 dX10_pupil_106 rfl (lv_at hl 2 rfl) ?_
  refine r_ifne (tgt := 114) X.1 X.2.1 dX10_pupil_107 (by decide) h (fun h => ?_) (fun h => ?_)
  · refine lv_iload_n X.1 X.2.1 dX10_pupil_114 rfl (lv_at hl 2 rfl) ?_
    refine lv_iconst (v := 1) X.1 X.2.1 dX10_pupil_115 (by decide) ?_
    refine r_ne (tgt := 143) X.1 X.2.1 dX10_pupil_116 (by decide) h (fun h => ?_) (fun h => ?_)
    · refine lv_iload_n X.1 X.2.1 dX10_pupil_143 rfl (lv_at hl 2 rfl) ?_
      refine lv_iconst (v := 2) X.1 X.2.1 dX10_pupil_144 (by decide) ?_
      refine r_ne (tgt := 153) X.1 X.2.1 dX10_pupil_145 (by decide) h (fun h => ?_) (fun h => ?_)
      · refine lv_aload_n X.1 X.2.1 dX10_pupil_153 rfl (lv_at hl 0 rfl) ?_
        refine lv_iload_n X.1 X.2.1 dX10_pupil_154 rfl (lv_at hl 1 rfl) ?_
        obtain ⟨v1, s1, hc, h⟩ := b2_inv h
        refine r_ci (va_runV (C := RX10) (As := [.int x1]) (rest := []) (cfX X) (c_X10_partsMost l hc) (cwV 1 X.2.2.2.2.1 (lw_V q1343 q1345 qs47 q59 q1346) rfl rfl rfl ⟨rfl, yd_X10_partsMost⟩ ⟨Nat.le_of_ble_eq_true rfl, Nat.le_of_ble_eq_true rfl⟩) (preV X hV (F_X10_partsMost_g hc) rfl) rfl rfl hl.1 rfl (lv_room (Nat.le_of_ble_eq_true rfl)) dX10_pupil_155 ⟨(Nat.le_of_ble_eq_true rfl), (Nat.le_of_ble_eq_true rfl)⟩) hF (fun H locs hV hF => ?_)
        exact r_iret X hV hF h dX10_pupil_158
      · refine lv_iload X.1 X.2.1 dX10_pupil_148 (lv_at hl 5 rfl) ?_
        refine lv_goto (tgt := 158) X.1 X.2.1 dX10_pupil_150 (by decide) ?_
        exact r_iret X hV hF h dX10_pupil_158
    · refine lv_bipush (v := 100) X.1 X.2.1 dX10_pupil_119 (by decide) ?_
      refine lv_iload X.1 X.2.1 dX10_pupil_121 (lv_at hl 4 rfl) ?_
      refine lv_bipush (v := 9) X.1 X.2.1 dX10_pupil_123 (by decide) ?_
      refine lv_idiv X.1 X.2.1 dX10_pupil_125 (by decide) ?_
      refine lv_iconst (v := 1) X.1 X.2.1 dX10_pupil_126 (by decide) ?_
      refine lv_iadd X.1 X.2.1 dX10_pupil_127 ?_
      refine lv_imul X.1 X.2.1 dX10_pupil_128 ?_
      refine lv_bipush (v := 10) X.1 X.2.1 dX10_pupil_129 (by decide) ?_
      refine lv_iload X.1 X.2.1 dX10_pupil_131 (lv_at hl 4 rfl) ?_
      refine lv_bipush (v := 9) X.1 X.2.1 dX10_pupil_133 (by decide) ?_
      refine lv_irem X.1 X.2.1 dX10_pupil_135 (by decide) ?_
      refine lv_iconst (v := 1) X.1 X.2.1 dX10_pupil_136 (by decide) ?_
      refine lv_iadd X.1 X.2.1 dX10_pupil_137 ?_
      refine lv_imul X.1 X.2.1 dX10_pupil_138 ?_
      refine lv_iadd X.1 X.2.1 dX10_pupil_139 ?_
      refine lv_goto (tgt := 158) X.1 X.2.1 dX10_pupil_140 (by decide) ?_
      exact r_iret X hV hF h dX10_pupil_158
  · refine lv_iload_n X.1 X.2.1 dX10_pupil_110 rfl (lv_at hl 3 rfl) ?_
    refine lv_goto (tgt := 158) X.1 X.2.1 dX10_pupil_111 (by decide) ?_
    exact r_iret X hV hF h dX10_pupil_158
set_option maxHeartbeats 4000000 in
theorem w_X10_pupil_66 {p : Program} {l : Launch} {e : Env} {s : State} {m : MethodId} {args : Array Value} {below : List Frame} {meth : Method} {c : Code} {g : Gl} (X : FX g p m c s args meth cX10_pupil 8 RX10 (some .int) "pupil") {r : Int32 × Hp} {rec33 : Hp × Int32 × Int32 × Int32 × Int32 → Option (Int32 × Hp)} {σ : Hp} {x0 : Nat} {x1 : Int32} {x2 : Int32} {x4 : Int32} {x5 : Int32} {x6 : Int32} {x7 : Int32} {y0 : Int32} {y1 : Int32} (hr33 : ∀ (st : Hp × Int32 × Int32 × Int32 × Int32), rec33 st = some r → ∀ (H : Heap) (locs : List Loc) (ls : Array Slot), HV g st.1 H → FR g locs → lv_has ls 8 [(0, .ref x0), (1, .int x1), (2, .int x2), (3, .int st.2.1), (4, .int st.2.2.1), (5, .int st.2.2.2.1), (6, .int st.2.2.2.2)] → W p l e rm_X10_pupil s m args below meth c H locs 0 0 (MQ below (Qi g r) args s 0 0 (frN g)) (F0 m 33 ls [])) {H : Heap} {locs : List Loc} {ls : Array Slot} (h : F_X10_pupil_66 rec33 σ x0 x1 x2 x4 x5 x6 x7 y0 y1 = some r) (hV : HV g σ H) (hF : FR g locs) (hl : lv_has ls 8 [(0, .ref x0), (1, .int x1), (2, .int x2), (4, .int x4), (5, .int x5), (6, .int x6), (7, .int x7)]) : W p l e rm_X10_pupil s m args below meth c H locs 0 0 (MQ below (Qi g r) args s 0 0 (frN g)) (F0 m 66 ls [.int y0, .int y1]) := by
  unfold F_X10_pupil_66 at h
  refine lv_iadd X.1 X.2.1 dX10_pupil_66 ?_
  refine lv_istore_n (lv' := [(3, .int (y1 + y0)), (0, .ref x0), (1, .int x1), (2, .int x2), (4, .int x4), (5, .int x5), (6, .int x6), (7, .int x7)]) X.1 X.2.1 dX10_pupil_67 rfl hl (by decide) rfl (fun ls hl => ?_)
  refine lv_iload X.1 X.2.1 dX10_pupil_68 (lv_at hl 7 rfl) ?_
  refine lv_iload X.1 X.2.1 dX10_pupil_70 (lv_at hl 5 rfl) ?_
  refine r_le (tgt := 80) X.1 X.2.1 dX10_pupil_72 (by decide) h (fun h => ?_) (fun h => ?_)
  · refine lv_iload X.1 X.2.1 dX10_pupil_80 (lv_at hl 4 rfl) ?_
    refine lv_istore (lv' := [(4, .int x4), (3, .int (y1 + y0)), (0, .ref x0), (1, .int x1), (2, .int x2), (5, .int x5), (6, .int x6), (7, .int x7)]) X.1 X.2.1 dX10_pupil_82 hl (by decide) rfl (fun ls hl => ?_)
    refine lv_iload X.1 X.2.1 dX10_pupil_84 (lv_at hl 7 rfl) ?_
    refine lv_iload X.1 X.2.1 dX10_pupil_86 (lv_at hl 5 rfl) ?_
    refine r_le (tgt := 96) X.1 X.2.1 dX10_pupil_88 (by decide) h (fun h => ?_) (fun h => ?_)
    · refine lv_iload X.1 X.2.1 dX10_pupil_96 (lv_at hl 5 rfl) ?_
      refine lv_istore (lv' := [(5, .int x5), (4, .int x4), (3, .int (y1 + y0)), (0, .ref x0), (1, .int x1), (2, .int x2), (6, .int x6), (7, .int x7)]) X.1 X.2.1 dX10_pupil_98 hl (by decide) rfl (fun ls hl => ?_)
      refine lv_iinc (v := x6 + 1) (lv' := [(6, .int (x6 + 1)), (5, .int x5), (4, .int x4), (3, .int (y1 + y0)), (0, .ref x0), (1, .int x1), (2, .int x2), (7, .int x7)]) X.1 X.2.1 dX10_pupil_100 hl (k := 6) rfl rfl (by decide) rfl (fun ls hl => ?_)
      refine lv_goto (tgt := 33) X.1 X.2.1 dX10_pupil_103 (by decide) ?_
      exact hr33 (σ, y1 + y0, x4, x5, x6 + 1) h _ _ _ hV hF (lv_sub hl [4, 5, 6, 3, 2, 1, 0] rfl)
    · refine lv_iload X.1 X.2.1 dX10_pupil_91 (lv_at hl 7 rfl) ?_
      refine lv_goto (tgt := 98) X.1 X.2.1 dX10_pupil_93 (by decide) ?_
      refine lv_istore (lv' := [(5, .int x7), (4, .int x4), (3, .int (y1 + y0)), (0, .ref x0), (1, .int x1), (2, .int x2), (6, .int x6), (7, .int x7)]) X.1 X.2.1 dX10_pupil_98 hl (by decide) rfl (fun ls hl => ?_)
      refine lv_iinc (v := x6 + 1) (lv' := [(6, .int (x6 + 1)), (5, .int x7), (4, .int x4), (3, .int (y1 + y0)), (0, .ref x0), (1, .int x1), (2, .int x2), (7, .int x7)]) X.1 X.2.1 dX10_pupil_100 hl (k := 6) rfl rfl (by decide) rfl (fun ls hl => ?_)
      refine lv_goto (tgt := 33) X.1 X.2.1 dX10_pupil_103 (by decide) ?_
      exact hr33 (σ, y1 + y0, x4, x7, x6 + 1) h _ _ _ hV hF (lv_sub hl [4, 5, 6, 3, 2, 1, 0] rfl)
  · refine lv_iload X.1 X.2.1 dX10_pupil_75 (lv_at hl 6 rfl) ?_
    refine lv_goto (tgt := 82) X.1 X.2.1 dX10_pupil_77 (by decide) ?_
    refine lv_istore (lv' := [(4, .int x6), (3, .int (y1 + y0)), (0, .ref x0), (1, .int x1), (2, .int x2), (5, .int x5), (6, .int x6), (7, .int x7)]) X.1 X.2.1 dX10_pupil_82 hl (by decide) rfl (fun ls hl => ?_)
    refine lv_iload X.1 X.2.1 dX10_pupil_84 (lv_at hl 7 rfl) ?_
    refine lv_iload X.1 X.2.1 dX10_pupil_86 (lv_at hl 5 rfl) ?_
    refine r_le (tgt := 96) X.1 X.2.1 dX10_pupil_88 (by decide) h (fun h => ?_) (fun h => ?_)
    · refine lv_iload X.1 X.2.1 dX10_pupil_96 (lv_at hl 5 rfl) ?_
      refine lv_istore (lv' := [(5, .int x5), (4, .int x6), (3, .int (y1 + y0)), (0, .ref x0), (1, .int x1), (2, .int x2), (6, .int x6), (7, .int x7)]) X.1 X.2.1 dX10_pupil_98 hl (by decide) rfl (fun ls hl => ?_)
      refine lv_iinc (v := x6 + 1) (lv' := [(6, .int (x6 + 1)), (5, .int x5), (4, .int x6), (3, .int (y1 + y0)), (0, .ref x0), (1, .int x1), (2, .int x2), (7, .int x7)]) X.1 X.2.1 dX10_pupil_100 hl (k := 6) rfl rfl (by decide) rfl (fun ls hl => ?_)
      refine lv_goto (tgt := 33) X.1 X.2.1 dX10_pupil_103 (by decide) ?_
      exact hr33 (σ, y1 + y0, x6, x5, x6 + 1) h _ _ _ hV hF (lv_sub hl [4, 5, 6, 3, 2, 1, 0] rfl)
    · refine lv_iload X.1 X.2.1 dX10_pupil_91 (lv_at hl 7 rfl) ?_
      refine lv_goto (tgt := 98) X.1 X.2.1 dX10_pupil_93 (by decide) ?_
      refine lv_istore (lv' := [(5, .int x7), (4, .int x6), (3, .int (y1 + y0)), (0, .ref x0), (1, .int x1), (2, .int x2), (6, .int x6), (7, .int x7)]) X.1 X.2.1 dX10_pupil_98 hl (by decide) rfl (fun ls hl => ?_)
      refine lv_iinc (v := x6 + 1) (lv' := [(6, .int (x6 + 1)), (5, .int x7), (4, .int x6), (3, .int (y1 + y0)), (0, .ref x0), (1, .int x1), (2, .int x2), (7, .int x7)]) X.1 X.2.1 dX10_pupil_100 hl (k := 6) rfl rfl (by decide) rfl (fun ls hl => ?_)
      refine lv_goto (tgt := 33) X.1 X.2.1 dX10_pupil_103 (by decide) ?_
      exact hr33 (σ, y1 + y0, x6, x7, x6 + 1) h _ _ _ hV hF (lv_sub hl [4, 5, 6, 3, 2, 1, 0] rfl)
set_option maxHeartbeats 4000000 in
theorem w_X10_pupil_33_b {p : Program} {l : Launch} {e : Env} {s : State} {m : MethodId} {args : Array Value} {below : List Frame} {meth : Method} {c : Code} {g : Gl} (X : FX g p m c s args meth cX10_pupil 8 RX10 (some .int) "pupil") {r : Int32 × Hp} {rec33 : Hp × Int32 × Int32 × Int32 × Int32 → Option (Int32 × Hp)} {x0 : Nat} {x1 : Int32} {x2 : Int32} {σ : Hp} {x3 : Int32} {x4 : Int32} {x5 : Int32} {x6 : Int32} (hr33 : ∀ (st : Hp × Int32 × Int32 × Int32 × Int32), rec33 st = some r → ∀ (H : Heap) (locs : List Loc) (ls : Array Slot), HV g st.1 H → FR g locs → lv_has ls 8 [(0, .ref x0), (1, .int x1), (2, .int x2), (3, .int st.2.1), (4, .int st.2.2.1), (5, .int st.2.2.2.1), (6, .int st.2.2.2.2)] → W p l e rm_X10_pupil s m args below meth c H locs 0 0 (MQ below (Qi g r) args s 0 0 (frN g)) (F0 m 33 ls [])) {H : Heap} {locs : List Loc} {ls : Array Slot} (h : B_X10_pupil_33 x0 x1 x2 rec33 σ x3 x4 x5 x6 = some r) (hV : HV g σ H) (hF : FR g locs) (hl : lv_has ls 8 [(0, .ref x0), (1, .int x1), (2, .int x2), (3, .int x3), (4, .int x4), (5, .int x5), (6, .int x6)]) : W p l e rm_X10_pupil s m args below meth c H locs 0 0 (MQ below (Qi g r) args s 0 0 (frN g)) (F0 m 33 ls []) := by
  unfold B_X10_pupil_33 at h
  refine lv_iload X.1 X.2.1 dX10_pupil_33 (lv_at hl 6 rfl) ?_
  refine lv_bipush (v := 81) X.1 X.2.1 dX10_pupil_35 (by decide) ?_
  refine r_ge (tgt := 106) X.1 X.2.1 dX10_pupil_37 (by decide) h (fun h => ?_) (fun h => ?_)
  · exact w_X10_pupil_106 X  h hV hF (lv_sub hl [0, 1, 2, 3, 4, 5] rfl)
  · refine lv_aload_n X.1 X.2.1 dX10_pupil_40 rfl (lv_at hl 0 rfl) ?_
    refine lv_iload_n X.1 X.2.1 dX10_pupil_41 rfl (lv_at hl 1 rfl) ?_
    refine lv_iload X.1 X.2.1 dX10_pupil_42 (lv_at hl 6 rfl) ?_
    obtain ⟨v1, s1, hc, h⟩ := b2_inv h
    refine r_ci (va_runV (C := RX10) (As := [.int x1, .int x6]) (rest := []) (cfX X) (c_X10_agrees l hc) (cwV 2 X.2.2.2.2.1 (lw_V q1336 q1338 qs46 q59 q1339) rfl rfl rfl ⟨rfl, yd_X10_agrees⟩ ⟨Nat.le_of_ble_eq_true rfl, Nat.le_of_ble_eq_true rfl⟩) (preV X hV (F_X10_agrees_g hc) rfl) rfl rfl hl.1 rfl (lv_room (Nat.le_of_ble_eq_true rfl)) dX10_pupil_44 ⟨(Nat.le_of_ble_eq_true rfl), (Nat.le_of_ble_eq_true rfl)⟩) hF (fun H locs hV hF => ?_)
    refine lv_istore (lv' := [(7, .int v1), (0, .ref x0), (1, .int x1), (2, .int x2), (3, .int x3), (4, .int x4), (5, .int x5), (6, .int x6)]) X.1 X.2.1 dX10_pupil_47 hl (by decide) rfl (fun ls hl => ?_)
    refine lv_iload_n X.1 X.2.1 dX10_pupil_49 rfl (lv_at hl 4 rfl) ?_
    refine lv_iload X.1 X.2.1 dX10_pupil_50 (lv_at hl 0 rfl) ?_
    refine lv_aload_n X.1 X.2.1 dX10_pupil_52 rfl (lv_at hl 1 rfl) ?_
    refine r_gR X hV fl_X10_80_10 (by decide) dX10_pupil_53 h (fun v2 h => ?_)
    refine lv_iload_n X.1 X.2.1 dX10_pupil_56 rfl (lv_at hl 2 rfl) ?_
    refine r_ia X hV dX10_pupil_57 h (fun v3 h => ?_)
    refine r_ne (tgt := 65) X.1 X.2.1 dX10_pupil_58 (by decide) h (fun h => ?_) (fun h => ?_)
    · refine lv_iconst (v := 0) X.1 X.2.1 dX10_pupil_65 (by decide) ?_
      exact w_X10_pupil_66 X hr33 h hV hF (lv_sub hl [1, 2, 3, 5, 6, 7, 0] rfl)
    · refine lv_iconst (v := 1) X.1 X.2.1 dX10_pupil_61 (by decide) ?_
      refine lv_goto (tgt := 66) X.1 X.2.1 dX10_pupil_62 (by decide) ?_
      exact w_X10_pupil_66 X hr33 h hV hF (lv_sub hl [1, 2, 3, 5, 6, 7, 0] rfl)
set_option maxHeartbeats 4000000 in
theorem w_X10_pupil_33 {p : Program} {l : Launch} {e : Env} {s : State} {m : MethodId} {args : Array Value} {below : List Frame} {meth : Method} {c : Code} {g : Gl} (X : FX g p m c s args meth cX10_pupil 8 RX10 (some .int) "pupil") {r : Int32 × Hp} {x0 : Nat} {x1 : Int32} {x2 : Int32}  : ∀ (n : Nat) (st : Hp × Int32 × Int32 × Int32 × Int32), L_X10_pupil_33 x0 x1 x2 n st = some r → ∀ (H : Heap) (locs : List Loc) (ls : Array Slot), HV g st.1 H → FR g locs → lv_has ls 8 [(0, .ref x0), (1, .int x1), (2, .int x2), (3, .int st.2.1), (4, .int st.2.2.1), (5, .int st.2.2.2.1), (6, .int st.2.2.2.2)] → W p l e rm_X10_pupil s m args below meth c H locs 0 0 (MQ below (Qi g r) args s 0 0 (frN g)) (F0 m 33 ls []) := by
  intro n
  induction n with
  | zero =>
    intro st h
    rw [L_X10_pupil_33_0] at h
    cases h
  | succ n ih =>
    intro st h H locs ls hV hF hl
    rw [L_X10_pupil_33_s] at h
    exact w_X10_pupil_33_b X  ih h hV hF hl
set_option maxHeartbeats 4000000 in
theorem c_X10_pupil (l : Launch) {g : Gl} {σ : Hp} {x0 : Nat} {x1 : Int32} {x2 : Int32} {r : Int32 × Hp} (h : F_X10_pupil σ x0 x1 x2 = some r) : Met l yX10_pupil (ws_ yX10_pupil cX10_pupil 8 (some .int)) rm_X10_pupil (va_Pc [.ref x0, .int x1, .int x2] (WV g σ)) (Qi g r) 0 0 (frN g) := by
  refine ct_of (by decide) (Nat.le_of_ble_eq_true rfl) ?_
  intro p e s m below meth c ls X hV hl
  have hF : FR g [] := FR_nil
  unfold F_X10_pupil at h
  have hl : lv_has ls 8 [(0, .ref x0), (1, .int x1), (2, .int x2)] := hl
  have X : FX g p m c s _ meth cX10_pupil 8 RX10 (some .int) "pupil" := X
  obtain ⟨-, h⟩ := gd_inv h
  refine lv_iload_n X.1 X.2.1 dX10_pupil_0 rfl (lv_at hl 1 rfl) ?_
  obtain ⟨v1, s1, hc, h⟩ := b2_inv h
  refine r_ci (va_runS (As := [.int x1]) (rest := []) (cfX X) (c_X10_isPupil l hc) (va_cwS 1 X.2.2.2.2.1 (lw_S q1329 q1330 q59 q1331) rfl rfl rfl yd_X10_isPupil ⟨Nat.le_of_ble_eq_true rfl, Nat.le_of_ble_eq_true rfl⟩) (preS X hV) rfl rfl hl.1 rfl (lv_room (Nat.le_of_ble_eq_true rfl)) dX10_pupil_1 ⟨(Nat.le_of_ble_eq_true rfl), (Nat.le_of_ble_eq_true rfl)⟩) hF (fun H locs hV hF => ?_)
  refine r_ifne (tgt := 10) X.1 X.2.1 dX10_pupil_4 (by decide) h (fun h => ?_) (fun h => ?_)
  · refine lv_iload_n X.1 X.2.1 dX10_pupil_10 rfl (lv_at hl 2 rfl) ?_
    refine lv_iconst (v := 0) X.1 X.2.1 dX10_pupil_11 (by decide) ?_
    refine lv_iconst (v := 3) X.1 X.2.1 dX10_pupil_12 (by decide) ?_
    obtain ⟨v2, s2, hc, h⟩ := b2_inv h
    refine r_ci (va_runS (As := [.int x2, .int 0, .int 3]) (rest := []) (cfX X) (c_X10_in l hc) (va_cwS 3 X.2.2.2.2.1 (lw_S q1104 q1105 q59 q1106) rfl rfl rfl yd_X10_in ⟨Nat.le_of_ble_eq_true rfl, Nat.le_of_ble_eq_true rfl⟩) (preS X hV) rfl rfl hl.1 rfl (lv_room (Nat.le_of_ble_eq_true rfl)) dX10_pupil_13 ⟨(Nat.le_of_ble_eq_true rfl), (Nat.le_of_ble_eq_true rfl)⟩) hF (fun H locs hV hF => ?_)
    refine r_ifne (tgt := 22) X.1 X.2.1 dX10_pupil_16 (by decide) h (fun h => ?_) (fun h => ?_)
    · refine lv_iconst (v := 0) X.1 X.2.1 dX10_pupil_22 (by decide) ?_
      refine lv_istore_n (lv' := [(3, .int 0), (0, .ref x0), (1, .int x1), (2, .int x2)]) X.1 X.2.1 dX10_pupil_23 rfl hl (by decide) rfl (fun ls hl => ?_)
      refine lv_iconst (v := 0) X.1 X.2.1 dX10_pupil_24 (by decide) ?_
      refine lv_istore (lv' := [(4, .int 0), (3, .int 0), (0, .ref x0), (1, .int x1), (2, .int x2)]) X.1 X.2.1 dX10_pupil_25 hl (by decide) rfl (fun ls hl => ?_)
      refine lv_iconst (v := (-1)) X.1 X.2.1 dX10_pupil_27 (by decide) ?_
      refine lv_istore (lv' := [(5, .int (-1)), (4, .int 0), (3, .int 0), (0, .ref x0), (1, .int x1), (2, .int x2)]) X.1 X.2.1 dX10_pupil_28 hl (by decide) rfl (fun ls hl => ?_)
      refine lv_iconst (v := 0) X.1 X.2.1 dX10_pupil_30 (by decide) ?_
      refine lv_istore (lv' := [(6, .int 0), (5, .int (-1)), (4, .int 0), (3, .int 0), (0, .ref x0), (1, .int x1), (2, .int x2)]) X.1 X.2.1 dX10_pupil_31 hl (by decide) rfl (fun ls hl => ?_)
      exact w_X10_pupil_33 X  FU (s2, 0, 0, (-1), 0) h _ _ _ hV hF (lv_sub hl [4, 5, 6, 3, 2, 1, 0] rfl)
    · refine lv_bipush (v := (-3)) X.1 X.2.1 dX10_pupil_19 (by decide) ?_
      exact r_iret X hV hF h dX10_pupil_21
  · refine lv_bipush (v := (-2)) X.1 X.2.1 dX10_pupil_7 (by decide) ?_
    exact r_iret X hV hF h dX10_pupil_9
/-! PalaceOfRoomsModel.figures -/
theorem dX10_figures_0 : decode cX10_figures 0 = .ok (.iload_n 1, 1) := by decide +kernel
theorem dX10_figures_1 : decode cX10_figures 1 = .ok (.iconst 0, 1) := by decide +kernel
theorem dX10_figures_2 : decode cX10_figures 2 = .ok (.bipush 9, 2) := by decide +kernel
theorem dX10_figures_4 : decode cX10_figures 4 = .ok (.invokestatic 93, 3) := by decide +kernel
theorem dX10_figures_7 : decode cX10_figures 7 = .ok (.ifCond .eq 18, 3) := by decide +kernel
theorem dX10_figures_10 : decode cX10_figures 10 = .ok (.iload_n 2, 1) := by decide +kernel
theorem dX10_figures_11 : decode cX10_figures 11 = .ok (.iconst 0, 1) := by decide +kernel
theorem dX10_figures_12 : decode cX10_figures 12 = .ok (.bipush 9, 2) := by decide +kernel
theorem dX10_figures_14 : decode cX10_figures 14 = .ok (.invokestatic 93, 3) := by decide +kernel
theorem dX10_figures_17 : decode cX10_figures 17 = .ok (.ifCond .eq 8, 3) := by decide +kernel
theorem dX10_figures_20 : decode cX10_figures 20 = .ok (.iload_n 1, 1) := by decide +kernel
theorem dX10_figures_21 : decode cX10_figures 21 = .ok (.iload_n 2, 1) := by decide +kernel
theorem dX10_figures_22 : decode cX10_figures 22 = .ok (.if_icmp .ne 6, 3) := by decide +kernel
theorem dX10_figures_25 : decode cX10_figures 25 = .ok (.bipush (-2), 2) := by decide +kernel
theorem dX10_figures_27 : decode cX10_figures 27 = .ok (.ireturn, 1) := by decide +kernel
theorem dX10_figures_28 : decode cX10_figures 28 = .ok (.iload_n 3, 1) := by decide +kernel
theorem dX10_figures_29 : decode cX10_figures 29 = .ok (.iconst 0, 1) := by decide +kernel
theorem dX10_figures_30 : decode cX10_figures 30 = .ok (.bipush 9, 2) := by decide +kernel
theorem dX10_figures_32 : decode cX10_figures 32 = .ok (.invokestatic 93, 3) := by decide +kernel
theorem dX10_figures_35 : decode cX10_figures 35 = .ok (.ifCond .ne 6, 3) := by decide +kernel
theorem dX10_figures_38 : decode cX10_figures 38 = .ok (.bipush (-3), 2) := by decide +kernel
theorem dX10_figures_40 : decode cX10_figures 40 = .ok (.ireturn, 1) := by decide +kernel
theorem dX10_figures_41 : decode cX10_figures 41 = .ok (.aload_n 0, 1) := by decide +kernel
theorem dX10_figures_42 : decode cX10_figures 42 = .ok (.getfield 90, 3) := by decide +kernel
theorem dX10_figures_45 : decode cX10_figures 45 = .ok (.bipush 10, 2) := by decide +kernel
theorem dX10_figures_47 : decode cX10_figures 47 = .ok (.iload_n 1, 1) := by decide +kernel
theorem dX10_figures_48 : decode cX10_figures 48 = .ok (.imul, 1) := by decide +kernel
theorem dX10_figures_49 : decode cX10_figures 49 = .ok (.iload_n 2, 1) := by decide +kernel
theorem dX10_figures_50 : decode cX10_figures 50 = .ok (.iadd, 1) := by decide +kernel
theorem dX10_figures_51 : decode cX10_figures 51 = .ok (.iaload, 1) := by decide +kernel
theorem dX10_figures_52 : decode cX10_figures 52 = .ok (.istore 4, 2) := by decide +kernel
theorem dX10_figures_54 : decode cX10_figures 54 = .ok (.aload_n 0, 1) := by decide +kernel
theorem dX10_figures_55 : decode cX10_figures 55 = .ok (.getfield 90, 3) := by decide +kernel
theorem dX10_figures_58 : decode cX10_figures 58 = .ok (.bipush 10, 2) := by decide +kernel
theorem dX10_figures_60 : decode cX10_figures 60 = .ok (.iload_n 1, 1) := by decide +kernel
theorem dX10_figures_61 : decode cX10_figures 61 = .ok (.imul, 1) := by decide +kernel
theorem dX10_figures_62 : decode cX10_figures 62 = .ok (.iload_n 2, 1) := by decide +kernel
theorem dX10_figures_63 : decode cX10_figures 63 = .ok (.iadd, 1) := by decide +kernel
theorem dX10_figures_64 : decode cX10_figures 64 = .ok (.iload_n 3, 1) := by decide +kernel
theorem dX10_figures_65 : decode cX10_figures 65 = .ok (.iastore, 1) := by decide +kernel
theorem dX10_figures_66 : decode cX10_figures 66 = .ok (.aload_n 0, 1) := by decide +kernel
theorem dX10_figures_67 : decode cX10_figures 67 = .ok (.getfield 90, 3) := by decide +kernel
theorem dX10_figures_70 : decode cX10_figures 70 = .ok (.bipush 10, 2) := by decide +kernel
theorem dX10_figures_72 : decode cX10_figures 72 = .ok (.iload_n 2, 1) := by decide +kernel
theorem dX10_figures_73 : decode cX10_figures 73 = .ok (.imul, 1) := by decide +kernel
theorem dX10_figures_74 : decode cX10_figures 74 = .ok (.iload_n 1, 1) := by decide +kernel
theorem dX10_figures_75 : decode cX10_figures 75 = .ok (.iadd, 1) := by decide +kernel
theorem dX10_figures_76 : decode cX10_figures 76 = .ok (.iload_n 3, 1) := by decide +kernel
theorem dX10_figures_77 : decode cX10_figures 77 = .ok (.iastore, 1) := by decide +kernel
theorem dX10_figures_78 : decode cX10_figures 78 = .ok (.iload 4, 2) := by decide +kernel
theorem dX10_figures_80 : decode cX10_figures 80 = .ok (.ireturn, 1) := by decide +kernel
theorem yd_X10_figures : yX10_figures.cls ≠ "java/lang/invoke/MethodHandle" ∧ yX10_figures.cls ≠ "java/lang/invoke/VarHandle" ∧ (parseMethodDescriptor yX10_figures.desc).map (fun d => d.parameters.length) = some 3 := by decide +kernel
abbrev rm_X10_figures : Room := { frames := 1, cells := 0, slots := 0, locals := 22 }
set_option maxHeartbeats 4000000 in
theorem c_X10_figures (l : Launch) {g : Gl} {σ : Hp} {x0 : Nat} {x1 : Int32} {x2 : Int32} {x3 : Int32} {r : Int32 × Hp} (h : F_X10_figures σ x0 x1 x2 x3 = some r) : Met l yX10_figures (ws_ yX10_figures cX10_figures 5 (some .int)) rm_X10_figures (va_Pc [.ref x0, .int x1, .int x2, .int x3] (WV g σ)) (Qi g r) 0 0 (frN g) := by
  refine ct_of (by decide) (Nat.le_of_ble_eq_true rfl) ?_
  intro p e s m below meth c ls X hV hl
  have hF : FR g [] := FR_nil
  unfold F_X10_figures at h
  have hl : lv_has ls 5 [(0, .ref x0), (1, .int x1), (2, .int x2), (3, .int x3)] := hl
  have X : FX g p m c s _ meth cX10_figures 5 RX10 (some .int) "figures" := X
  obtain ⟨-, h⟩ := gd_inv h
  refine lv_iload_n X.1 X.2.1 dX10_figures_0 rfl (lv_at hl 1 rfl) ?_
  refine lv_iconst (v := 0) X.1 X.2.1 dX10_figures_1 (by decide) ?_
  refine lv_bipush (v := 9) X.1 X.2.1 dX10_figures_2 (by decide) ?_
  obtain ⟨v1, s1, hc, h⟩ := b2_inv h
  refine r_ci (va_runS (As := [.int x1, .int 0, .int 9]) (rest := []) (cfX X) (c_X10_in l hc) (va_cwS 3 X.2.2.2.2.1 (lw_S q1104 q1105 q59 q1106) rfl rfl rfl yd_X10_in ⟨Nat.le_of_ble_eq_true rfl, Nat.le_of_ble_eq_true rfl⟩) (preS X hV) rfl rfl hl.1 rfl (lv_room (Nat.le_of_ble_eq_true rfl)) dX10_figures_4 ⟨(Nat.le_of_ble_eq_true rfl), (Nat.le_of_ble_eq_true rfl)⟩) hF (fun H locs hV hF => ?_)
  refine r_ifeq (tgt := 25) X.1 X.2.1 dX10_figures_7 (by decide) h (fun h => ?_) (fun h => ?_)
  · refine lv_bipush (v := (-2)) X.1 X.2.1 dX10_figures_25 (by decide) ?_
    exact r_iret X hV hF h dX10_figures_27
  · refine lv_iload_n X.1 X.2.1 dX10_figures_10 rfl (lv_at hl 2 rfl) ?_
    refine lv_iconst (v := 0) X.1 X.2.1 dX10_figures_11 (by decide) ?_
    refine lv_bipush (v := 9) X.1 X.2.1 dX10_figures_12 (by decide) ?_
    obtain ⟨v2, s2, hc, h⟩ := b2_inv h
    refine r_ci (va_runS (As := [.int x2, .int 0, .int 9]) (rest := []) (cfX X) (c_X10_in l hc) (va_cwS 3 X.2.2.2.2.1 (lw_S q1104 q1105 q59 q1106) rfl rfl rfl yd_X10_in ⟨Nat.le_of_ble_eq_true rfl, Nat.le_of_ble_eq_true rfl⟩) (preS X hV) rfl rfl hl.1 rfl (lv_room (Nat.le_of_ble_eq_true rfl)) dX10_figures_14 ⟨(Nat.le_of_ble_eq_true rfl), (Nat.le_of_ble_eq_true rfl)⟩) hF (fun H locs hV hF => ?_)
    refine r_ifeq (tgt := 25) X.1 X.2.1 dX10_figures_17 (by decide) h (fun h => ?_) (fun h => ?_)
    · refine lv_bipush (v := (-2)) X.1 X.2.1 dX10_figures_25 (by decide) ?_
      exact r_iret X hV hF h dX10_figures_27
    · refine lv_iload_n X.1 X.2.1 dX10_figures_20 rfl (lv_at hl 1 rfl) ?_
      refine lv_iload_n X.1 X.2.1 dX10_figures_21 rfl (lv_at hl 2 rfl) ?_
      refine r_ne (tgt := 28) X.1 X.2.1 dX10_figures_22 (by decide) h (fun h => ?_) (fun h => ?_)
      · refine lv_iload_n X.1 X.2.1 dX10_figures_28 rfl (lv_at hl 3 rfl) ?_
        refine lv_iconst (v := 0) X.1 X.2.1 dX10_figures_29 (by decide) ?_
        refine lv_bipush (v := 9) X.1 X.2.1 dX10_figures_30 (by decide) ?_
        obtain ⟨v3, s3, hc, h⟩ := b2_inv h
        refine r_ci (va_runS (As := [.int x3, .int 0, .int 9]) (rest := []) (cfX X) (c_X10_in l hc) (va_cwS 3 X.2.2.2.2.1 (lw_S q1104 q1105 q59 q1106) rfl rfl rfl yd_X10_in ⟨Nat.le_of_ble_eq_true rfl, Nat.le_of_ble_eq_true rfl⟩) (preS X hV) rfl rfl hl.1 rfl (lv_room (Nat.le_of_ble_eq_true rfl)) dX10_figures_32 ⟨(Nat.le_of_ble_eq_true rfl), (Nat.le_of_ble_eq_true rfl)⟩) hF (fun H locs hV hF => ?_)
        refine r_ifne (tgt := 41) X.1 X.2.1 dX10_figures_35 (by decide) h (fun h => ?_) (fun h => ?_)
        · refine lv_aload_n X.1 X.2.1 dX10_figures_41 rfl (lv_at hl 0 rfl) ?_
          refine r_gR X hV fl_X10_90_10 (by decide) dX10_figures_42 h (fun v4 h => ?_)
          refine lv_bipush (v := 10) X.1 X.2.1 dX10_figures_45 (by decide) ?_
          refine lv_iload_n X.1 X.2.1 dX10_figures_47 rfl (lv_at hl 1 rfl) ?_
          refine lv_imul X.1 X.2.1 dX10_figures_48 ?_
          refine lv_iload_n X.1 X.2.1 dX10_figures_49 rfl (lv_at hl 2 rfl) ?_
          refine lv_iadd X.1 X.2.1 dX10_figures_50 ?_
          refine r_ia X hV dX10_figures_51 h (fun v5 h => ?_)
          refine lv_istore (lv' := [(4, .int v5), (0, .ref x0), (1, .int x1), (2, .int x2), (3, .int x3)]) X.1 X.2.1 dX10_figures_52 hl (by decide) rfl (fun ls hl => ?_)
          refine lv_aload_n X.1 X.2.1 dX10_figures_54 rfl (lv_at hl 1 rfl) ?_
          refine r_gR X hV fl_X10_90_10 (by decide) dX10_figures_55 h (fun v6 h => ?_)
          refine lv_bipush (v := 10) X.1 X.2.1 dX10_figures_58 (by decide) ?_
          refine lv_iload_n X.1 X.2.1 dX10_figures_60 rfl (lv_at hl 2 rfl) ?_
          refine lv_imul X.1 X.2.1 dX10_figures_61 ?_
          refine lv_iload_n X.1 X.2.1 dX10_figures_62 rfl (lv_at hl 3 rfl) ?_
          refine lv_iadd X.1 X.2.1 dX10_figures_63 ?_
          refine lv_iload_n X.1 X.2.1 dX10_figures_64 rfl (lv_at hl 4 rfl) ?_
          refine r_is X hV hF dX10_figures_65 h (fun s4 H locs hV hF h => ?_)
          refine lv_aload_n X.1 X.2.1 dX10_figures_66 rfl (lv_at hl 1 rfl) ?_
          refine r_gR X hV fl_X10_90_10 (by decide) dX10_figures_67 h (fun v7 h => ?_)
          refine lv_bipush (v := 10) X.1 X.2.1 dX10_figures_70 (by decide) ?_
          refine lv_iload_n X.1 X.2.1 dX10_figures_72 rfl (lv_at hl 3 rfl) ?_
          refine lv_imul X.1 X.2.1 dX10_figures_73 ?_
          refine lv_iload_n X.1 X.2.1 dX10_figures_74 rfl (lv_at hl 2 rfl) ?_
          refine lv_iadd X.1 X.2.1 dX10_figures_75 ?_
          refine lv_iload_n X.1 X.2.1 dX10_figures_76 rfl (lv_at hl 4 rfl) ?_
          refine r_is X hV hF dX10_figures_77 h (fun s5 H locs hV hF h => ?_)
          refine lv_iload X.1 X.2.1 dX10_figures_78 (lv_at hl 0 rfl) ?_
          exact r_iret X hV hF h dX10_figures_80
        · refine lv_bipush (v := (-3)) X.1 X.2.1 dX10_figures_38 (by decide) ?_
          exact r_iret X hV hF h dX10_figures_40
      · refine lv_bipush (v := (-2)) X.1 X.2.1 dX10_figures_25 (by decide) ?_
        exact r_iret X hV hF h dX10_figures_27
/-! PalaceOfRoomsModel.code -/
theorem dX10_code_0 : decode cX10_code 0 = .ok (.iload_n 3, 1) := by decide +kernel
theorem dX10_code_1 : decode cX10_code 1 = .ok (.iconst 2, 1) := by decide +kernel
theorem dX10_code_2 : decode cX10_code 2 = .ok (.bipush 6, 2) := by decide +kernel
theorem dX10_code_4 : decode cX10_code 4 = .ok (.invokestatic 93, 3) := by decide +kernel
theorem dX10_code_7 : decode cX10_code 7 = .ok (.ifCond .ne 6, 3) := by decide +kernel
theorem dX10_code_10 : decode cX10_code 10 = .ok (.bipush (-3), 2) := by decide +kernel
theorem dX10_code_12 : decode cX10_code 12 = .ok (.ireturn, 1) := by decide +kernel
theorem dX10_code_13 : decode cX10_code 13 = .ok (.aload_n 0, 1) := by decide +kernel
theorem dX10_code_14 : decode cX10_code 14 = .ok (.lload_n 1, 1) := by decide +kernel
theorem dX10_code_15 : decode cX10_code 15 = .ok (.iload_n 3, 1) := by decide +kernel
theorem dX10_code_16 : decode cX10_code 16 = .ok (.invokevirtual 234, 3) := by decide +kernel
theorem dX10_code_19 : decode cX10_code 19 = .ok (.istore 5, 2) := by decide +kernel
theorem dX10_code_21 : decode cX10_code 21 = .ok (.iload 5, 2) := by decide +kernel
theorem dX10_code_23 : decode cX10_code 23 = .ok (.iconst 1, 1) := by decide +kernel
theorem dX10_code_24 : decode cX10_code 24 = .ok (.if_icmp .eq 6, 3) := by decide +kernel
theorem dX10_code_27 : decode cX10_code 27 = .ok (.iload 5, 2) := by decide +kernel
theorem dX10_code_29 : decode cX10_code 29 = .ok (.ireturn, 1) := by decide +kernel
theorem dX10_code_30 : decode cX10_code 30 = .ok (.iload 4, 2) := by decide +kernel
theorem dX10_code_32 : decode cX10_code 32 = .ok (.iconst (-1), 1) := by decide +kernel
theorem dX10_code_33 : decode cX10_code 33 = .ok (.if_icmp .ge 6, 3) := by decide +kernel
theorem dX10_code_36 : decode cX10_code 36 = .ok (.bipush (-3), 2) := by decide +kernel
theorem dX10_code_38 : decode cX10_code 38 = .ok (.ireturn, 1) := by decide +kernel
theorem dX10_code_39 : decode cX10_code 39 = .ok (.aload_n 0, 1) := by decide +kernel
theorem dX10_code_40 : decode cX10_code 40 = .ok (.iload_n 3, 1) := by decide +kernel
theorem dX10_code_41 : decode cX10_code 41 = .ok (.iconst 0, 1) := by decide +kernel
theorem dX10_code_42 : decode cX10_code 42 = .ok (.invokevirtual 238, 3) := by decide +kernel
theorem dX10_code_45 : decode cX10_code 45 = .ok (.iload 4, 2) := by decide +kernel
theorem dX10_code_47 : decode cX10_code 47 = .ok (.iconst (-1), 1) := by decide +kernel
theorem dX10_code_48 : decode cX10_code 48 = .ok (.if_icmp .ne 10, 3) := by decide +kernel
theorem dX10_code_51 : decode cX10_code 51 = .ok (.aload_n 0, 1) := by decide +kernel
theorem dX10_code_52 : decode cX10_code 52 = .ok (.getfield 225, 3) := by decide +kernel
theorem dX10_code_55 : decode cX10_code 55 = .ok (.goto 20, 3) := by decide +kernel
theorem dX10_code_58 : decode cX10_code 58 = .ok (.iload 4, 2) := by decide +kernel
theorem dX10_code_60 : decode cX10_code 60 = .ok (.iload_n 3, 1) := by decide +kernel
theorem dX10_code_61 : decode cX10_code 61 = .ok (.if_icmp .ge 13, 3) := by decide +kernel
theorem dX10_code_64 : decode cX10_code 64 = .ok (.aload_n 0, 1) := by decide +kernel
theorem dX10_code_65 : decode cX10_code 65 = .ok (.getfield 77, 3) := by decide +kernel
theorem dX10_code_68 : decode cX10_code 68 = .ok (.iload 4, 2) := by decide +kernel
theorem dX10_code_70 : decode cX10_code 70 = .ok (.iaload, 1) := by decide +kernel
theorem dX10_code_71 : decode cX10_code 71 = .ok (.goto 4, 3) := by decide +kernel
theorem dX10_code_74 : decode cX10_code 74 = .ok (.iconst (-1), 1) := by decide +kernel
theorem dX10_code_75 : decode cX10_code 75 = .ok (.ireturn, 1) := by decide +kernel
theorem yd_X10_code : yX10_code.cls ≠ "java/lang/invoke/MethodHandle" ∧ yX10_code.cls ≠ "java/lang/invoke/VarHandle" ∧ (parseMethodDescriptor yX10_code.desc).map (fun d => d.parameters.length) = some 3 := by decide +kernel
abbrev rm_X10_code : Room := { frames := 3, cells := 0, slots := 0, locals := 75 }
set_option maxHeartbeats 4000000 in
theorem c_X10_code (l : Launch) {g : Gl} {σ : Hp} {x0 : Nat} {x1 : Int64} {x3 : Int32} {x4 : Int32} {r : Int32 × Hp} (h : F_X10_code σ x0 x1 x3 x4 = some r) : Met l yX10_code (ws_ yX10_code cX10_code 6 (some .int)) rm_X10_code (va_Pc [.ref x0, .long x1, .int x3, .int x4] (WV g σ)) (Qi g r) 0 0 (frN g) := by
  refine ct_of (by decide) (Nat.le_of_ble_eq_true rfl) ?_
  intro p e s m below meth c ls X hV hl
  have hF : FR g [] := FR_nil
  unfold F_X10_code at h
  have hl : lv_has ls 6 [(0, .ref x0), (1, .long x1), (3, .int x3), (4, .int x4)] := hl
  have X : FX g p m c s _ meth cX10_code 6 RX10 (some .int) "code" := X
  obtain ⟨-, h⟩ := gd_inv h
  refine lv_iload_n X.1 X.2.1 dX10_code_0 rfl (lv_at hl 2 rfl) ?_
  refine lv_iconst (v := 2) X.1 X.2.1 dX10_code_1 (by decide) ?_
  refine lv_bipush (v := 6) X.1 X.2.1 dX10_code_2 (by decide) ?_
  obtain ⟨v1, s1, hc, h⟩ := b2_inv h
  refine r_ci (va_runS (As := [.int x3, .int 2, .int 6]) (rest := []) (cfX X) (c_X10_in l hc) (va_cwS 3 X.2.2.2.2.1 (lw_S q1104 q1105 q59 q1106) rfl rfl rfl yd_X10_in ⟨Nat.le_of_ble_eq_true rfl, Nat.le_of_ble_eq_true rfl⟩) (preS X hV) rfl rfl hl.1 rfl (lv_room (Nat.le_of_ble_eq_true rfl)) dX10_code_4 ⟨(Nat.le_of_ble_eq_true rfl), (Nat.le_of_ble_eq_true rfl)⟩) hF (fun H locs hV hF => ?_)
  refine r_ifne (tgt := 13) X.1 X.2.1 dX10_code_7 (by decide) h (fun h => ?_) (fun h => ?_)
  · refine lv_aload_n X.1 X.2.1 dX10_code_13 rfl (lv_at hl 0 rfl) ?_
    refine lv_lload_n X.1 X.2.1 dX10_code_14 rfl (lv_at hl 1 rfl) ?_
    refine lv_iload_n X.1 X.2.1 dX10_code_15 rfl (lv_at hl 2 rfl) ?_
    obtain ⟨v2, s2, hc, h⟩ := b2_inv h
    refine r_ci (va_runV (C := RX10) (As := [.long x1, .int x3]) (rest := []) (cfX X) (c_X10_take l hc) (cwV 2 X.2.2.2.2.1 (lw_V q1265 q1267 qs39 q59 q1268) rfl rfl rfl ⟨rfl, yd_X10_take⟩ ⟨Nat.le_of_ble_eq_true rfl, Nat.le_of_ble_eq_true rfl⟩) (preV X hV (F_X10_take_g hc) rfl) rfl rfl hl.1 rfl (lv_room (Nat.le_of_ble_eq_true rfl)) dX10_code_16 ⟨(Nat.le_of_ble_eq_true rfl), (Nat.le_of_ble_eq_true rfl)⟩) hF (fun H locs hV hF => ?_)
    refine lv_istore (lv' := [(5, .int v2), (0, .ref x0), (1, .long x1), (3, .int x3), (4, .int x4)]) X.1 X.2.1 dX10_code_19 hl (by decide) rfl (fun ls hl => ?_)
    refine lv_iload X.1 X.2.1 dX10_code_21 (lv_at hl 0 rfl) ?_
    refine lv_iconst (v := 1) X.1 X.2.1 dX10_code_23 (by decide) ?_
    refine r_eq (tgt := 30) X.1 X.2.1 dX10_code_24 (by decide) h (fun h => ?_) (fun h => ?_)
    · refine lv_iload X.1 X.2.1 dX10_code_30 (lv_at hl 4 rfl) ?_
      refine lv_iconst (v := (-1)) X.1 X.2.1 dX10_code_32 (by decide) ?_
      refine r_ge (tgt := 39) X.1 X.2.1 dX10_code_33 (by decide) h (fun h => ?_) (fun h => ?_)
      · refine lv_aload_n X.1 X.2.1 dX10_code_39 rfl (lv_at hl 1 rfl) ?_
        refine lv_iload_n X.1 X.2.1 dX10_code_40 rfl (lv_at hl 3 rfl) ?_
        refine lv_iconst (v := 0) X.1 X.2.1 dX10_code_41 (by decide) ?_
        obtain ⟨s3, hc, h⟩ := b1_inv h
        refine r_cv (va_runV (C := RX10) (As := [.int x3, .int 0]) (rest := []) (cfX X) (c_X10_findOrder l hc) (cwV 2 X.2.2.2.2.1 (lw_V q1270 q1272 qs40 q59 q1273) rfl rfl rfl ⟨rfl, yd_X10_findOrder⟩ ⟨Nat.le_of_ble_eq_true rfl, Nat.le_of_ble_eq_true rfl⟩) (preV X hV (F_X10_findOrder_g hc) rfl) rfl rfl hl.1 rfl (lv_room (Nat.le_of_ble_eq_true rfl)) dX10_code_42 ⟨(Nat.le_of_ble_eq_true rfl), (Nat.le_of_ble_eq_true rfl)⟩) hF (fun H locs hV hF => ?_)
        refine lv_iload X.1 X.2.1 dX10_code_45 (lv_at hl 4 rfl) ?_
        refine lv_iconst (v := (-1)) X.1 X.2.1 dX10_code_47 (by decide) ?_
        refine r_ne (tgt := 58) X.1 X.2.1 dX10_code_48 (by decide) h (fun h => ?_) (fun h => ?_)
        · refine lv_iload X.1 X.2.1 dX10_code_58 (lv_at hl 4 rfl) ?_
          refine lv_iload_n X.1 X.2.1 dX10_code_60 rfl (lv_at hl 3 rfl) ?_
          refine r_ge (tgt := 74) X.1 X.2.1 dX10_code_61 (by decide) h (fun h => ?_) (fun h => ?_)
          · refine lv_iconst (v := (-1)) X.1 X.2.1 dX10_code_74 (by decide) ?_
            exact r_iret X hV hF h dX10_code_75
          · refine lv_aload_n X.1 X.2.1 dX10_code_64 rfl (lv_at hl 1 rfl) ?_
            refine r_gR X hV fl_X10_77_10 (by decide) dX10_code_65 h (fun v4 h => ?_)
            refine lv_iload X.1 X.2.1 dX10_code_68 (lv_at hl 4 rfl) ?_
            refine r_ia X hV dX10_code_70 h (fun v5 h => ?_)
            refine lv_goto (tgt := 75) X.1 X.2.1 dX10_code_71 (by decide) ?_
            exact r_iret X hV hF h dX10_code_75
        · refine lv_aload_n X.1 X.2.1 dX10_code_51 rfl (lv_at hl 1 rfl) ?_
          refine r_gI X hV fl_X10_225_10 dX10_code_52 h (fun v6 h => ?_)
          refine lv_goto (tgt := 75) X.1 X.2.1 dX10_code_55 (by decide) ?_
          exact r_iret X hV hF h dX10_code_75
      · refine lv_bipush (v := (-3)) X.1 X.2.1 dX10_code_36 (by decide) ?_
        exact r_iret X hV hF h dX10_code_38
    · refine lv_iload X.1 X.2.1 dX10_code_27 (lv_at hl 0 rfl) ?_
      exact r_iret X hV hF h dX10_code_29
  · refine lv_bipush (v := (-3)) X.1 X.2.1 dX10_code_10 (by decide) ?_
    exact r_iret X hV hF h dX10_code_12
