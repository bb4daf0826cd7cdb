set_option maxRecDepth 100000
/-! PalaceOfRoomsModel.doorsTo -/
theorem dX10_doorsTo_0 : decode cX10_doorsTo 0 = .ok (.iconst 0, 1) := by decide +kernel
theorem dX10_doorsTo_1 : decode cX10_doorsTo 1 = .ok (.istore_n 3, 1) := by decide +kernel
theorem dX10_doorsTo_2 : decode cX10_doorsTo 2 = .ok (.iload_n 3, 1) := by decide +kernel
theorem dX10_doorsTo_3 : decode cX10_doorsTo 3 = .ok (.bipush 8, 2) := by decide +kernel
theorem dX10_doorsTo_5 : decode cX10_doorsTo 5 = .ok (.if_icmp .ge 26, 3) := by decide +kernel
theorem dX10_doorsTo_8 : decode cX10_doorsTo 8 = .ok (.aload_n 0, 1) := by decide +kernel
theorem dX10_doorsTo_9 : decode cX10_doorsTo 9 = .ok (.getfield 16, 3) := by decide +kernel
theorem dX10_doorsTo_12 : decode cX10_doorsTo 12 = .ok (.iload_n 3, 1) := by decide +kernel
theorem dX10_doorsTo_13 : decode cX10_doorsTo 13 = .ok (.iload_n 3, 1) := by decide +kernel
theorem dX10_doorsTo_14 : decode cX10_doorsTo 14 = .ok (.iload_n 1, 1) := by decide +kernel
theorem dX10_doorsTo_15 : decode cX10_doorsTo 15 = .ok (.if_icmp .ne 7, 3) := by decide +kernel
theorem dX10_doorsTo_18 : decode cX10_doorsTo 18 = .ok (.iconst 0, 1) := by decide +kernel
theorem dX10_doorsTo_19 : decode cX10_doorsTo 19 = .ok (.goto 5, 3) := by decide +kernel
theorem dX10_doorsTo_22 : decode cX10_doorsTo 22 = .ok (.bipush 100, 2) := by decide +kernel
theorem dX10_doorsTo_24 : decode cX10_doorsTo 24 = .ok (.iastore, 1) := by decide +kernel
theorem dX10_doorsTo_25 : decode cX10_doorsTo 25 = .ok (.iinc 3 1, 3) := by decide +kernel
theorem dX10_doorsTo_28 : decode cX10_doorsTo 28 = .ok (.goto (-26), 3) := by decide +kernel
theorem dX10_doorsTo_31 : decode cX10_doorsTo 31 = .ok (.iconst 0, 1) := by decide +kernel
theorem dX10_doorsTo_32 : decode cX10_doorsTo 32 = .ok (.istore_n 3, 1) := by decide +kernel
theorem dX10_doorsTo_33 : decode cX10_doorsTo 33 = .ok (.iload_n 3, 1) := by decide +kernel
theorem dX10_doorsTo_34 : decode cX10_doorsTo 34 = .ok (.bipush 8, 2) := by decide +kernel
theorem dX10_doorsTo_36 : decode cX10_doorsTo 36 = .ok (.if_icmp .ge 135, 3) := by decide +kernel
theorem dX10_doorsTo_39 : decode cX10_doorsTo 39 = .ok (.iconst 0, 1) := by decide +kernel
theorem dX10_doorsTo_40 : decode cX10_doorsTo 40 = .ok (.istore 4, 2) := by decide +kernel
theorem dX10_doorsTo_42 : decode cX10_doorsTo 42 = .ok (.iload 4, 2) := by decide +kernel
theorem dX10_doorsTo_44 : decode cX10_doorsTo 44 = .ok (.aload_n 0, 1) := by decide +kernel
theorem dX10_doorsTo_45 : decode cX10_doorsTo 45 = .ok (.getfield 97, 3) := by decide +kernel
theorem dX10_doorsTo_48 : decode cX10_doorsTo 48 = .ok (.if_icmp .ge 117, 3) := by decide +kernel
theorem dX10_doorsTo_51 : decode cX10_doorsTo 51 = .ok (.aload_n 0, 1) := by decide +kernel
theorem dX10_doorsTo_52 : decode cX10_doorsTo 52 = .ok (.getfield 7, 3) := by decide +kernel
theorem dX10_doorsTo_55 : decode cX10_doorsTo 55 = .ok (.iload 4, 2) := by decide +kernel
theorem dX10_doorsTo_57 : decode cX10_doorsTo 57 = .ok (.iaload, 1) := by decide +kernel
theorem dX10_doorsTo_58 : decode cX10_doorsTo 58 = .ok (.istore 5, 2) := by decide +kernel
theorem dX10_doorsTo_60 : decode cX10_doorsTo 60 = .ok (.aload_n 0, 1) := by decide +kernel
theorem dX10_doorsTo_61 : decode cX10_doorsTo 61 = .ok (.getfield 13, 3) := by decide +kernel
theorem dX10_doorsTo_64 : decode cX10_doorsTo 64 = .ok (.iload 4, 2) := by decide +kernel
theorem dX10_doorsTo_66 : decode cX10_doorsTo 66 = .ok (.iaload, 1) := by decide +kernel
theorem dX10_doorsTo_67 : decode cX10_doorsTo 67 = .ok (.istore 6, 2) := by decide +kernel
theorem dX10_doorsTo_69 : decode cX10_doorsTo 69 = .ok (.aload_n 0, 1) := by decide +kernel
theorem dX10_doorsTo_70 : decode cX10_doorsTo 70 = .ok (.getfield 16, 3) := by decide +kernel
theorem dX10_doorsTo_73 : decode cX10_doorsTo 73 = .ok (.iload 5, 2) := by decide +kernel
theorem dX10_doorsTo_75 : decode cX10_doorsTo 75 = .ok (.aload_n 0, 1) := by decide +kernel
theorem dX10_doorsTo_76 : decode cX10_doorsTo 76 = .ok (.getfield 16, 3) := by decide +kernel
theorem dX10_doorsTo_79 : decode cX10_doorsTo 79 = .ok (.iload 6, 2) := by decide +kernel
theorem dX10_doorsTo_81 : decode cX10_doorsTo 81 = .ok (.iaload, 1) := by decide +kernel
theorem dX10_doorsTo_82 : decode cX10_doorsTo 82 = .ok (.iconst 1, 1) := by decide +kernel
theorem dX10_doorsTo_83 : decode cX10_doorsTo 83 = .ok (.iadd, 1) := by decide +kernel
theorem dX10_doorsTo_84 : decode cX10_doorsTo 84 = .ok (.aload_n 0, 1) := by decide +kernel
theorem dX10_doorsTo_85 : decode cX10_doorsTo 85 = .ok (.getfield 16, 3) := by decide +kernel
theorem dX10_doorsTo_88 : decode cX10_doorsTo 88 = .ok (.iload 5, 2) := by decide +kernel
theorem dX10_doorsTo_90 : decode cX10_doorsTo 90 = .ok (.iaload, 1) := by decide +kernel
theorem dX10_doorsTo_91 : decode cX10_doorsTo 91 = .ok (.if_icmp .ge 15, 3) := by decide +kernel
theorem dX10_doorsTo_94 : decode cX10_doorsTo 94 = .ok (.aload_n 0, 1) := by decide +kernel
theorem dX10_doorsTo_95 : decode cX10_doorsTo 95 = .ok (.getfield 16, 3) := by decide +kernel
theorem dX10_doorsTo_98 : decode cX10_doorsTo 98 = .ok (.iload 6, 2) := by decide +kernel
theorem dX10_doorsTo_100 : decode cX10_doorsTo 100 = .ok (.iaload, 1) := by decide +kernel
theorem dX10_doorsTo_101 : decode cX10_doorsTo 101 = .ok (.iconst 1, 1) := by decide +kernel
theorem dX10_doorsTo_102 : decode cX10_doorsTo 102 = .ok (.iadd, 1) := by decide +kernel
theorem dX10_doorsTo_103 : decode cX10_doorsTo 103 = .ok (.goto 10, 3) := by decide +kernel
theorem dX10_doorsTo_106 : decode cX10_doorsTo 106 = .ok (.aload_n 0, 1) := by decide +kernel
theorem dX10_doorsTo_107 : decode cX10_doorsTo 107 = .ok (.getfield 16, 3) := by decide +kernel
theorem dX10_doorsTo_110 : decode cX10_doorsTo 110 = .ok (.iload 5, 2) := by decide +kernel
theorem dX10_doorsTo_112 : decode cX10_doorsTo 112 = .ok (.iaload, 1) := by decide +kernel
theorem dX10_doorsTo_113 : decode cX10_doorsTo 113 = .ok (.iastore, 1) := by decide +kernel
theorem dX10_doorsTo_114 : decode cX10_doorsTo 114 = .ok (.aload_n 0, 1) := by decide +kernel
theorem dX10_doorsTo_115 : decode cX10_doorsTo 115 = .ok (.getfield 16, 3) := by decide +kernel
theorem dX10_doorsTo_118 : decode cX10_doorsTo 118 = .ok (.iload 6, 2) := by decide +kernel
theorem dX10_doorsTo_120 : decode cX10_doorsTo 120 = .ok (.aload_n 0, 1) := by decide +kernel
theorem dX10_doorsTo_121 : decode cX10_doorsTo 121 = .ok (.getfield 16, 3) := by decide +kernel
theorem dX10_doorsTo_124 : decode cX10_doorsTo 124 = .ok (.iload 5, 2) := by decide +kernel
theorem dX10_doorsTo_126 : decode cX10_doorsTo 126 = .ok (.iaload, 1) := by decide +kernel
theorem dX10_doorsTo_127 : decode cX10_doorsTo 127 = .ok (.iconst 1, 1) := by decide +kernel
theorem dX10_doorsTo_128 : decode cX10_doorsTo 128 = .ok (.iadd, 1) := by decide +kernel
theorem dX10_doorsTo_129 : decode cX10_doorsTo 129 = .ok (.aload_n 0, 1) := by decide +kernel
theorem dX10_doorsTo_130 : decode cX10_doorsTo 130 = .ok (.getfield 16, 3) := by decide +kernel
theorem dX10_doorsTo_133 : decode cX10_doorsTo 133 = .ok (.iload 6, 2) := by decide +kernel
theorem dX10_doorsTo_135 : decode cX10_doorsTo 135 = .ok (.iaload, 1) := by decide +kernel
theorem dX10_doorsTo_136 : decode cX10_doorsTo 136 = .ok (.if_icmp .ge 15, 3) := by decide +kernel
theorem dX10_doorsTo_139 : decode cX10_doorsTo 139 = .ok (.aload_n 0, 1) := by decide +kernel
theorem dX10_doorsTo_140 : decode cX10_doorsTo 140 = .ok (.getfield 16, 3) := by decide +kernel
theorem dX10_doorsTo_143 : decode cX10_doorsTo 143 = .ok (.iload 5, 2) := by decide +kernel
theorem dX10_doorsTo_145 : decode cX10_doorsTo 145 = .ok (.iaload, 1) := by decide +kernel
theorem dX10_doorsTo_146 : decode cX10_doorsTo 146 = .ok (.iconst 1, 1) := by decide +kernel
theorem dX10_doorsTo_147 : decode cX10_doorsTo 147 = .ok (.iadd, 1) := by decide +kernel
theorem dX10_doorsTo_148 : decode cX10_doorsTo 148 = .ok (.goto 10, 3) := by decide +kernel
theorem dX10_doorsTo_151 : decode cX10_doorsTo 151 = .ok (.aload_n 0, 1) := by decide +kernel
theorem dX10_doorsTo_152 : decode cX10_doorsTo 152 = .ok (.getfield 16, 3) := by decide +kernel
theorem dX10_doorsTo_155 : decode cX10_doorsTo 155 = .ok (.iload 6, 2) := by decide +kernel
theorem dX10_doorsTo_157 : decode cX10_doorsTo 157 = .ok (.iaload, 1) := by decide +kernel
theorem dX10_doorsTo_158 : decode cX10_doorsTo 158 = .ok (.iastore, 1) := by decide +kernel
theorem dX10_doorsTo_159 : decode cX10_doorsTo 159 = .ok (.iinc 4 1, 3) := by decide +kernel
theorem dX10_doorsTo_162 : decode cX10_doorsTo 162 = .ok (.goto (-120), 3) := by decide +kernel
theorem dX10_doorsTo_165 : decode cX10_doorsTo 165 = .ok (.iinc 3 1, 3) := by decide +kernel
theorem dX10_doorsTo_168 : decode cX10_doorsTo 168 = .ok (.goto (-135), 3) := by decide +kernel
theorem dX10_doorsTo_171 : decode cX10_doorsTo 171 = .ok (.aload_n 0, 1) := by decide +kernel
theorem dX10_doorsTo_172 : decode cX10_doorsTo 172 = .ok (.getfield 16, 3) := by decide +kernel
theorem dX10_doorsTo_175 : decode cX10_doorsTo 175 = .ok (.iload_n 2, 1) := by decide +kernel
theorem dX10_doorsTo_176 : decode cX10_doorsTo 176 = .ok (.iaload, 1) := by decide +kernel
theorem dX10_doorsTo_177 : decode cX10_doorsTo 177 = .ok (.bipush 100, 2) := by decide +kernel
theorem dX10_doorsTo_179 : decode cX10_doorsTo 179 = .ok (.if_icmp .lt 7, 3) := by decide +kernel
theorem dX10_doorsTo_182 : decode cX10_doorsTo 182 = .ok (.iconst (-1), 1) := by decide +kernel
theorem dX10_doorsTo_183 : decode cX10_doorsTo 183 = .ok (.goto 9, 3) := by decide +kernel
theorem dX10_doorsTo_186 : decode cX10_doorsTo 186 = .ok (.aload_n 0, 1) := by decide +kernel
theorem dX10_doorsTo_187 : decode cX10_doorsTo 187 = .ok (.getfield 16, 3) := by decide +kernel
theorem dX10_doorsTo_190 : decode cX10_doorsTo 190 = .ok (.iload_n 2, 1) := by decide +kernel
theorem dX10_doorsTo_191 : decode cX10_doorsTo 191 = .ok (.iaload, 1) := by decide +kernel
theorem dX10_doorsTo_192 : decode cX10_doorsTo 192 = .ok (.ireturn, 1) := by decide +kernel
theorem yd_X10_doorsTo : yX10_doorsTo.cls ≠ "java/lang/invoke/MethodHandle" ∧ yX10_doorsTo.cls ≠ "java/lang/invoke/VarHandle" ∧ (parseMethodDescriptor yX10_doorsTo.desc).map (fun d => d.parameters.length) = some 2 := by decide +kernel
theorem fl_X10_16_10 : FLk RX10 16 10 4 "[I" := ⟨RX10, TX10, 39, "PalaceOfRoomsModel", rfl, by decide, (fun q => by have h1 := q.1; have h2 := q.2; omega), rfl, in_X10, Or.inl q983, Or.inl rfl⟩
abbrev rm_X10_doorsTo : Room := { frames := 0, cells := 0, slots := 0, locals := 0 }
set_option maxHeartbeats 4000000 in
theorem w_X10_doorsTo_171 {p : Program} {l : Launch} {e : Env} {s : State} {m : MethodId} {args : Array Value} {below : List Frame} {meth : Method} {c : Code} {g : Gl} (X : FX g p m c s args meth cX10_doorsTo 7 RX10 (some .int) "doorsTo") {r : Int32 × Hp} {σ : Hp} {x0 : Nat} {x2 : Int32}  {H : Heap} {locs : List Loc} {ls : Array Slot} (h : F_X10_doorsTo_171 σ x0 x2 = some r) (hV : HV g σ H) (hF : FR g locs) (hl : lv_has ls 7 [(0, .ref x0), (2, .int x2)]) : W p l e rm_X10_doorsTo s m args below meth c H locs 0 0 (MQ below (Qi g r) args s 0 0 (frN g)) (F0 m 171 ls []) := by
  unfold F_X10_doorsTo_171 at h
  refine lv_aload_n X.1 X.2.1 dX10_doorsTo_171 rfl (lv_at hl 0 rfl) ?_
  refine r_gR X hV fl_X10_16_10 (by decide) dX10_doorsTo_172 h (fun v1 h => ?_)
  refine lv_iload_n X.1 X.2.1 dX10_doorsTo_175 rfl (lv_at hl 1 rfl) ?_
  refine r_ia X hV dX10_doorsTo_176 h (fun v2 h => ?_)
  refine lv_bipush (v := 100) X.1 X.2.1 dX10_doorsTo_177 (by decide) ?_
  refine r_lt (tgt := 186) X.1 X.2.1 dX10_doorsTo_179 (by decide) h (fun h => ?_) (fun h => ?_)
  · refine lv_aload_n X.1 X.2.1 dX10_doorsTo_186 rfl (lv_at hl 0 rfl) ?_
    refine r_gR X hV fl_X10_16_10 (by decide) dX10_doorsTo_187 h (fun v3 h => ?_)
    refine lv_iload_n X.1 X.2.1 dX10_doorsTo_190 rfl (lv_at hl 1 rfl) ?_
    refine r_ia X hV dX10_doorsTo_191 h (fun v4 h => ?_)
    exact r_iret X hV hF h dX10_doorsTo_192
  · refine lv_iconst (v := (-1)) X.1 X.2.1 dX10_doorsTo_182 (by decide) ?_
    refine lv_goto (tgt := 192) X.1 X.2.1 dX10_doorsTo_183 (by decide) ?_
    exact r_iret X hV hF h dX10_doorsTo_192
set_option maxHeartbeats 4000000 in
theorem w_X10_doorsTo_113 {p : Program} {l : Launch} {e : Env} {s : State} {m : MethodId} {args : Array Value} {below : List Frame} {meth : Method} {c : Code} {g : Gl} (X : FX g p m c s args meth cX10_doorsTo 7 RX10 (some .int) "doorsTo") {r : Int32 × Hp} {rec33 : Hp × Int32 → Option (Int32 × Hp)} {rec42 : Hp × Int32 → Option (Int32 × Hp)} {σ : Hp} {x0 : Nat} {x2 : Int32} {x3 : Int32} {x4 : Int32} {x5 : Int32} {x6 : Int32} {y0 : Int32} {y1 : Int32} {y2 : Nat} (hr33 : ∀ (st : Hp × Int32), rec33 st = some r → ∀ (H : Heap) (locs : List Loc) (ls : Array Slot), HV g st.1 H → FR g locs → lv_has ls 7 [(0, .ref x0), (2, .int x2), (3, .int st.2)] → W p l e rm_X10_doorsTo s m args below meth c H locs 0 0 (MQ below (Qi g r) args s 0 0 (frN g)) (F0 m 33 ls [])) (hr42 : ∀ (st : Hp × Int32), rec42 st = some r → ∀ (H : Heap) (locs : List Loc) (ls : Array Slot), HV g st.1 H → FR g locs → lv_has ls 7 [(0, .ref x0), (2, .int x2), (3, .int x3), (4, .int st.2)] → W p l e rm_X10_doorsTo s m args below meth c H locs 0 0 (MQ below (Qi g r) args s 0 0 (frN g)) (F0 m 42 ls [])) {H : Heap} {locs : List Loc} {ls : Array Slot} (h : F_X10_doorsTo_113 rec33 rec42 σ x0 x2 x3 x4 x5 x6 y0 y1 y2 = some r) (hV : HV g σ H) (hF : FR g locs) (hl : lv_has ls 7 [(0, .ref x0), (2, .int x2), (3, .int x3), (4, .int x4), (5, .int x5), (6, .int x6)]) : W p l e rm_X10_doorsTo s m args below meth c H locs 0 0 (MQ below (Qi g r) args s 0 0 (frN g)) (F0 m 113 ls [.int y0, .int y1, .ref y2]) := by
  unfold F_X10_doorsTo_113 at h
  refine r_is X hV hF dX10_doorsTo_113 h (fun s1 H locs hV hF h => ?_)
  refine lv_aload_n X.1 X.2.1 dX10_doorsTo_114 rfl (lv_at hl 0 rfl) ?_
  refine r_gR X hV fl_X10_16_10 (by decide) dX10_doorsTo_115 h (fun v1 h => ?_)
  refine lv_iload X.1 X.2.1 dX10_doorsTo_118 (lv_at hl 5 rfl) ?_
  refine lv_aload_n X.1 X.2.1 dX10_doorsTo_120 rfl (lv_at hl 0 rfl) ?_
  refine r_gR X hV fl_X10_16_10 (by decide) dX10_doorsTo_121 h (fun v2 h => ?_)
  refine lv_iload X.1 X.2.1 dX10_doorsTo_124 (lv_at hl 4 rfl) ?_
  refine r_ia X hV dX10_doorsTo_126 h (fun v3 h => ?_)
  refine lv_iconst (v := 1) X.1 X.2.1 dX10_doorsTo_127 (by decide) ?_
  refine lv_iadd X.1 X.2.1 dX10_doorsTo_128 ?_
  refine lv_aload_n X.1 X.2.1 dX10_doorsTo_129 rfl (lv_at hl 0 rfl) ?_
  refine r_gR X hV fl_X10_16_10 (by decide) dX10_doorsTo_130 h (fun v4 h => ?_)
  refine lv_iload X.1 X.2.1 dX10_doorsTo_133 (lv_at hl 5 rfl) ?_
  refine r_ia X hV dX10_doorsTo_135 h (fun v5 h => ?_)
  refine r_ge (tgt := 151) X.1 X.2.1 dX10_doorsTo_136 (by decide) h (fun h => ?_) (fun h => ?_)
  · refine lv_aload_n X.1 X.2.1 dX10_doorsTo_151 rfl (lv_at hl 0 rfl) ?_
    refine r_gR X hV fl_X10_16_10 (by decide) dX10_doorsTo_152 h (fun v6 h => ?_)
    refine lv_iload X.1 X.2.1 dX10_doorsTo_155 (lv_at hl 5 rfl) ?_
    refine r_ia X hV dX10_doorsTo_157 h (fun v7 h => ?_)
    refine r_is X hV hF dX10_doorsTo_158 h (fun s2 H locs hV hF h => ?_)
    refine lv_iinc (v := x4 + 1) (lv' := [(4, .int (x4 + 1)), (0, .ref x0), (2, .int x2), (3, .int x3), (5, .int x5), (6, .int x6)]) X.1 X.2.1 dX10_doorsTo_159 hl (k := 3) rfl rfl (by decide) rfl (fun ls hl => ?_)
    refine lv_goto (tgt := 42) X.1 X.2.1 dX10_doorsTo_162 (by decide) ?_
    exact hr42 (s2, x4 + 1) h _ _ _ hV hF (lv_sub hl [1, 2, 3, 0] rfl)
  · refine lv_aload_n X.1 X.2.1 dX10_doorsTo_139 rfl (lv_at hl 0 rfl) ?_
    refine r_gR X hV fl_X10_16_10 (by decide) dX10_doorsTo_140 h (fun v8 h => ?_)
    refine lv_iload X.1 X.2.1 dX10_doorsTo_143 (lv_at hl 4 rfl) ?_
    refine r_ia X hV dX10_doorsTo_145 h (fun v9 h => ?_)
    refine lv_iconst (v := 1) X.1 X.2.1 dX10_doorsTo_146 (by decide) ?_
    refine lv_iadd X.1 X.2.1 dX10_doorsTo_147 ?_
    refine lv_goto (tgt := 158) X.1 X.2.1 dX10_doorsTo_148 (by decide) ?_
    refine r_is X hV hF dX10_doorsTo_158 h (fun s3 H locs hV hF h => ?_)
    refine lv_iinc (v := x4 + 1) (lv' := [(4, .int (x4 + 1)), (0, .ref x0), (2, .int x2), (3, .int x3), (5, .int x5), (6, .int x6)]) X.1 X.2.1 dX10_doorsTo_159 hl (k := 3) rfl rfl (by decide) rfl (fun ls hl => ?_)
    refine lv_goto (tgt := 42) X.1 X.2.1 dX10_doorsTo_162 (by decide) ?_
    exact hr42 (s3, x4 + 1) h _ _ _ hV hF (lv_sub hl [1, 2, 3, 0] rfl)
set_option maxHeartbeats 4000000 in
theorem w_X10_doorsTo_42_b {p : Program} {l : Launch} {e : Env} {s : State} {m : MethodId} {args : Array Value} {below : List Frame} {meth : Method} {c : Code} {g : Gl} (X : FX g p m c s args meth cX10_doorsTo 7 RX10 (some .int) "doorsTo") {r : Int32 × Hp} {rec33 : Hp × Int32 → Option (Int32 × Hp)} {rec42 : Hp × Int32 → Option (Int32 × Hp)} {x0 : Nat} {x2 : Int32} {x3 : Int32} {σ : Hp} {x4 : Int32} (hr33 : ∀ (st : Hp × Int32), rec33 st = some r → ∀ (H : Heap) (locs : List Loc) (ls : Array Slot), HV g st.1 H → FR g locs → lv_has ls 7 [(0, .ref x0), (2, .int x2), (3, .int st.2)] → W p l e rm_X10_doorsTo s m args below meth c H locs 0 0 (MQ below (Qi g r) args s 0 0 (frN g)) (F0 m 33 ls [])) (hr42 : ∀ (st : Hp × Int32), rec42 st = some r → ∀ (H : Heap) (locs : List Loc) (ls : Array Slot), HV g st.1 H → FR g locs → lv_has ls 7 [(0, .ref x0), (2, .int x2), (3, .int x3), (4, .int st.2)] → W p l e rm_X10_doorsTo s m args below meth c H locs 0 0 (MQ below (Qi g r) args s 0 0 (frN g)) (F0 m 42 ls [])) {H : Heap} {locs : List Loc} {ls : Array Slot} (h : B_X10_doorsTo_42 rec33 x0 x2 x3 rec42 σ x4 = some r) (hV : HV g σ H) (hF : FR g locs) (hl : lv_has ls 7 [(0, .ref x0), (2, .int x2), (3, .int x3), (4, .int x4)]) : W p l e rm_X10_doorsTo s m args below meth c H locs 0 0 (MQ below (Qi g r) args s 0 0 (frN g)) (F0 m 42 ls []) := by
  unfold B_X10_doorsTo_42 at h
  refine lv_iload X.1 X.2.1 dX10_doorsTo_42 (lv_at hl 3 rfl) ?_
  refine lv_aload_n X.1 X.2.1 dX10_doorsTo_44 rfl (lv_at hl 0 rfl) ?_
  refine r_gI X hV fl_X10_97_10 dX10_doorsTo_45 h (fun v1 h => ?_)
  refine r_ge (tgt := 165) X.1 X.2.1 dX10_doorsTo_48 (by decide) h (fun h => ?_) (fun h => ?_)
  · refine lv_iinc (v := x3 + 1) (lv' := [(3, .int (x3 + 1)), (0, .ref x0), (2, .int x2), (4, .int x4)]) X.1 X.2.1 dX10_doorsTo_165 hl (k := 2) rfl rfl (by decide) rfl (fun ls hl => ?_)
    refine lv_goto (tgt := 33) X.1 X.2.1 dX10_doorsTo_168 (by decide) ?_
    exact hr33 (σ, x3 + 1) h _ _ _ hV hF (lv_sub hl [1, 2, 0] rfl)
  · refine lv_aload_n X.1 X.2.1 dX10_doorsTo_51 rfl (lv_at hl 0 rfl) ?_
    refine r_gR X hV fl_X10_7_10 (by decide) dX10_doorsTo_52 h (fun v2 h => ?_)
    refine lv_iload X.1 X.2.1 dX10_doorsTo_55 (lv_at hl 3 rfl) ?_
    refine r_ia X hV dX10_doorsTo_57 h (fun v3 h => ?_)
    refine lv_istore (lv' := [(5, .int v3), (0, .ref x0), (2, .int x2), (3, .int x3), (4, .int x4)]) X.1 X.2.1 dX10_doorsTo_58 hl (by decide) rfl (fun ls hl => ?_)
    refine lv_aload_n X.1 X.2.1 dX10_doorsTo_60 rfl (lv_at hl 1 rfl) ?_
    refine r_gR X hV fl_X10_13_10 (by decide) dX10_doorsTo_61 h (fun v4 h => ?_)
    refine lv_iload X.1 X.2.1 dX10_doorsTo_64 (lv_at hl 4 rfl) ?_
    refine r_ia X hV dX10_doorsTo_66 h (fun v5 h => ?_)
    refine lv_istore (lv' := [(6, .int v5), (5, .int v3), (0, .ref x0), (2, .int x2), (3, .int x3), (4, .int x4)]) X.1 X.2.1 dX10_doorsTo_67 hl (by decide) rfl (fun ls hl => ?_)
    refine lv_aload_n X.1 X.2.1 dX10_doorsTo_69 rfl (lv_at hl 2 rfl) ?_
    refine r_gR X hV fl_X10_16_10 (by decide) dX10_doorsTo_70 h (fun v6 h => ?_)
    refine lv_iload X.1 X.2.1 dX10_doorsTo_73 (lv_at hl 1 rfl) ?_
    refine lv_aload_n X.1 X.2.1 dX10_doorsTo_75 rfl (lv_at hl 2 rfl) ?_
    refine r_gR X hV fl_X10_16_10 (by decide) dX10_doorsTo_76 h (fun v7 h => ?_)
    refine lv_iload X.1 X.2.1 dX10_doorsTo_79 (lv_at hl 0 rfl) ?_
    refine r_ia X hV dX10_doorsTo_81 h (fun v8 h => ?_)
    refine lv_iconst (v := 1) X.1 X.2.1 dX10_doorsTo_82 (by decide) ?_
    refine lv_iadd X.1 X.2.1 dX10_doorsTo_83 ?_
    refine lv_aload_n X.1 X.2.1 dX10_doorsTo_84 rfl (lv_at hl 2 rfl) ?_
    refine r_gR X hV fl_X10_16_10 (by decide) dX10_doorsTo_85 h (fun v9 h => ?_)
    refine lv_iload X.1 X.2.1 dX10_doorsTo_88 (lv_at hl 1 rfl) ?_
    refine r_ia X hV dX10_doorsTo_90 h (fun v10 h => ?_)
    refine r_ge (tgt := 106) X.1 X.2.1 dX10_doorsTo_91 (by decide) h (fun h => ?_) (fun h => ?_)
    · refine lv_aload_n X.1 X.2.1 dX10_doorsTo_106 rfl (lv_at hl 2 rfl) ?_
      refine r_gR X hV fl_X10_16_10 (by decide) dX10_doorsTo_107 h (fun v11 h => ?_)
      refine lv_iload X.1 X.2.1 dX10_doorsTo_110 (lv_at hl 1 rfl) ?_
      refine r_ia X hV dX10_doorsTo_112 h (fun v12 h => ?_)
      exact w_X10_doorsTo_113 X hr33 hr42 h hV hF (lv_sub hl [2, 3, 4, 5, 1, 0] rfl)
    · refine lv_aload_n X.1 X.2.1 dX10_doorsTo_94 rfl (lv_at hl 2 rfl) ?_
      refine r_gR X hV fl_X10_16_10 (by decide) dX10_doorsTo_95 h (fun v13 h => ?_)
      refine lv_iload X.1 X.2.1 dX10_doorsTo_98 (lv_at hl 0 rfl) ?_
      refine r_ia X hV dX10_doorsTo_100 h (fun v14 h => ?_)
      refine lv_iconst (v := 1) X.1 X.2.1 dX10_doorsTo_101 (by decide) ?_
      refine lv_iadd X.1 X.2.1 dX10_doorsTo_102 ?_
      refine lv_goto (tgt := 113) X.1 X.2.1 dX10_doorsTo_103 (by decide) ?_
      exact w_X10_doorsTo_113 X hr33 hr42 h hV hF (lv_sub hl [2, 3, 4, 5, 1, 0] rfl)
set_option maxHeartbeats 4000000 in
theorem w_X10_doorsTo_42 {p : Program} {l : Launch} {e : Env} {s : State} {m : MethodId} {args : Array Value} {below : List Frame} {meth : Method} {c : Code} {g : Gl} (X : FX g p m c s args meth cX10_doorsTo 7 RX10 (some .int) "doorsTo") {r : Int32 × Hp} {rec33 : Hp × Int32 → Option (Int32 × Hp)} {x0 : Nat} {x2 : Int32} {x3 : Int32} (hr33 : ∀ (st : Hp × Int32), rec33 st = some r → ∀ (H : Heap) (locs : List Loc) (ls : Array Slot), HV g st.1 H → FR g locs → lv_has ls 7 [(0, .ref x0), (2, .int x2), (3, .int st.2)] → W p l e rm_X10_doorsTo s m args below meth c H locs 0 0 (MQ below (Qi g r) args s 0 0 (frN g)) (F0 m 33 ls [])) : ∀ (n : Nat) (st : Hp × Int32), L_X10_doorsTo_42 rec33 x0 x2 x3 n st = some r → ∀ (H : Heap) (locs : List Loc) (ls : Array Slot), HV g st.1 H → FR g locs → lv_has ls 7 [(0, .ref x0), (2, .int x2), (3, .int x3), (4, .int st.2)] → W p l e rm_X10_doorsTo s m args below meth c H locs 0 0 (MQ below (Qi g r) args s 0 0 (frN g)) (F0 m 42 ls []) := by
  intro n
  induction n with
  | zero =>
    intro st h
    rw [L_X10_doorsTo_42_0] at h
    cases h
  | succ n ih =>
    intro st h H locs ls hV hF hl
    rw [L_X10_doorsTo_42_s] at h
    exact w_X10_doorsTo_42_b X hr33 ih h hV hF hl
set_option maxHeartbeats 4000000 in
theorem w_X10_doorsTo_33_b {p : Program} {l : Launch} {e : Env} {s : State} {m : MethodId} {args : Array Value} {below : List Frame} {meth : Method} {c : Code} {g : Gl} (X : FX g p m c s args meth cX10_doorsTo 7 RX10 (some .int) "doorsTo") {r : Int32 × Hp} {rec33 : Hp × Int32 → Option (Int32 × Hp)} {x0 : Nat} {x2 : Int32} {σ : Hp} {x3 : Int32} (hr33 : ∀ (st : Hp × Int32), rec33 st = some r → ∀ (H : Heap) (locs : List Loc) (ls : Array Slot), HV g st.1 H → FR g locs → lv_has ls 7 [(0, .ref x0), (2, .int x2), (3, .int st.2)] → W p l e rm_X10_doorsTo s m args below meth c H locs 0 0 (MQ below (Qi g r) args s 0 0 (frN g)) (F0 m 33 ls [])) {H : Heap} {locs : List Loc} {ls : Array Slot} (h : B_X10_doorsTo_33 x0 x2 rec33 σ x3 = some r) (hV : HV g σ H) (hF : FR g locs) (hl : lv_has ls 7 [(0, .ref x0), (2, .int x2), (3, .int x3)]) : W p l e rm_X10_doorsTo s m args below meth c H locs 0 0 (MQ below (Qi g r) args s 0 0 (frN g)) (F0 m 33 ls []) := by
  unfold B_X10_doorsTo_33 at h
  refine lv_iload_n X.1 X.2.1 dX10_doorsTo_33 rfl (lv_at hl 2 rfl) ?_
  refine lv_bipush (v := 8) X.1 X.2.1 dX10_doorsTo_34 (by decide) ?_
  refine r_ge (tgt := 171) X.1 X.2.1 dX10_doorsTo_36 (by decide) h (fun h => ?_) (fun h => ?_)
  · exact w_X10_doorsTo_171 X  h hV hF (lv_sub hl [0, 1] rfl)
  · refine lv_iconst (v := 0) X.1 X.2.1 dX10_doorsTo_39 (by decide) ?_
    refine lv_istore (lv' := [(4, .int 0), (0, .ref x0), (2, .int x2), (3, .int x3)]) X.1 X.2.1 dX10_doorsTo_40 hl (by decide) rfl (fun ls hl => ?_)
    exact w_X10_doorsTo_42 X hr33 FU (σ, 0) h _ _ _ hV hF (lv_sub hl [1, 2, 3, 0] rfl)
set_option maxHeartbeats 4000000 in
theorem w_X10_doorsTo_33 {p : Program} {l : Launch} {e : Env} {s : State} {m : MethodId} {args : Array Value} {below : List Frame} {meth : Method} {c : Code} {g : Gl} (X : FX g p m c s args meth cX10_doorsTo 7 RX10 (some .int) "doorsTo") {r : Int32 × Hp} {x0 : Nat} {x2 : Int32}  : ∀ (n : Nat) (st : Hp × Int32), L_X10_doorsTo_33 x0 x2 n st = some r → ∀ (H : Heap) (locs : List Loc) (ls : Array Slot), HV g st.1 H → FR g locs → lv_has ls 7 [(0, .ref x0), (2, .int x2), (3, .int st.2)] → W p l e rm_X10_doorsTo s m args below meth c H locs 0 0 (MQ below (Qi g r) args s 0 0 (frN g)) (F0 m 33 ls []) := by
  intro n
  induction n with
  | zero =>
    intro st h
    rw [L_X10_doorsTo_33_0] at h
    cases h
  | succ n ih =>
    intro st h H locs ls hV hF hl
    rw [L_X10_doorsTo_33_s] at h
    exact w_X10_doorsTo_33_b X  ih h hV hF hl
set_option maxHeartbeats 4000000 in
theorem w_X10_doorsTo_2_b {p : Program} {l : Launch} {e : Env} {s : State} {m : MethodId} {args : Array Value} {below : List Frame} {meth : Method} {c : Code} {g : Gl} (X : FX g p m c s args meth cX10_doorsTo 7 RX10 (some .int) "doorsTo") {r : Int32 × Hp} {rec2 : Hp × Int32 → Option (Int32 × Hp)} {x0 : Nat} {x1 : Int32} {x2 : Int32} {σ : Hp} {x3 : Int32} (hr2 : ∀ (st : Hp × Int32), rec2 st = some r → ∀ (H : Heap) (locs : List Loc) (ls : Array Slot), HV g st.1 H → FR g locs → lv_has ls 7 [(0, .ref x0), (1, .int x1), (2, .int x2), (3, .int st.2)] → W p l e rm_X10_doorsTo s m args below meth c H locs 0 0 (MQ below (Qi g r) args s 0 0 (frN g)) (F0 m 2 ls [])) {H : Heap} {locs : List Loc} {ls : Array Slot} (h : B_X10_doorsTo_2 x0 x1 x2 rec2 σ x3 = some r) (hV : HV g σ H) (hF : FR g locs) (hl : lv_has ls 7 [(0, .ref x0), (1, .int x1), (2, .int x2), (3, .int x3)]) : W p l e rm_X10_doorsTo s m args below meth c H locs 0 0 (MQ below (Qi g r) args s 0 0 (frN g)) (F0 m 2 ls []) := by
  unfold B_X10_doorsTo_2 at h
  refine lv_iload_n X.1 X.2.1 dX10_doorsTo_2 rfl (lv_at hl 3 rfl) ?_
  refine lv_bipush (v := 8) X.1 X.2.1 dX10_doorsTo_3 (by decide) ?_
  refine r_ge (tgt := 31) X.1 X.2.1 dX10_doorsTo_5 (by decide) h (fun h => ?_) (fun h => ?_)
  · refine lv_iconst (v := 0) X.1 X.2.1 dX10_doorsTo_31 (by decide) ?_
    refine lv_istore_n (lv' := [(3, .int 0), (0, .ref x0), (1, .int x1), (2, .int x2)]) X.1 X.2.1 dX10_doorsTo_32 rfl hl (by decide) rfl (fun ls hl => ?_)
    exact w_X10_doorsTo_33 X  FU (σ, 0) h _ _ _ hV hF (lv_sub hl [1, 3, 0] rfl)
  · refine lv_aload_n X.1 X.2.1 dX10_doorsTo_8 rfl (lv_at hl 0 rfl) ?_
    refine r_gR X hV fl_X10_16_10 (by decide) dX10_doorsTo_9 h (fun v1 h => ?_)
    refine lv_iload_n X.1 X.2.1 dX10_doorsTo_12 rfl (lv_at hl 3 rfl) ?_
    refine lv_iload_n X.1 X.2.1 dX10_doorsTo_13 rfl (lv_at hl 3 rfl) ?_
    refine lv_iload_n X.1 X.2.1 dX10_doorsTo_14 rfl (lv_at hl 1 rfl) ?_
    refine r_ne (tgt := 22) X.1 X.2.1 dX10_doorsTo_15 (by decide) h (fun h => ?_) (fun h => ?_)
    · refine lv_bipush (v := 100) X.1 X.2.1 dX10_doorsTo_22 (by decide) ?_
      refine r_is X hV hF dX10_doorsTo_24 h (fun s1 H locs hV hF h => ?_)
      refine lv_iinc (v := x3 + 1) (lv' := [(3, .int (x3 + 1)), (0, .ref x0), (1, .int x1), (2, .int x2)]) X.1 X.2.1 dX10_doorsTo_25 hl (k := 3) rfl rfl (by decide) rfl (fun ls hl => ?_)
      refine lv_goto (tgt := 2) X.1 X.2.1 dX10_doorsTo_28 (by decide) ?_
      exact hr2 (s1, x3 + 1) h _ _ _ hV hF (lv_sub hl [1, 2, 3, 0] rfl)
    · refine lv_iconst (v := 0) X.1 X.2.1 dX10_doorsTo_18 (by decide) ?_
      refine lv_goto (tgt := 24) X.1 X.2.1 dX10_doorsTo_19 (by decide) ?_
      refine r_is X hV hF dX10_doorsTo_24 h (fun s2 H locs hV hF h => ?_)
      refine lv_iinc (v := x3 + 1) (lv' := [(3, .int (x3 + 1)), (0, .ref x0), (1, .int x1), (2, .int x2)]) X.1 X.2.1 dX10_doorsTo_25 hl (k := 3) rfl rfl (by decide) rfl (fun ls hl => ?_)
      refine lv_goto (tgt := 2) X.1 X.2.1 dX10_doorsTo_28 (by decide) ?_
      exact hr2 (s2, x3 + 1) h _ _ _ hV hF (lv_sub hl [1, 2, 3, 0] rfl)
set_option maxHeartbeats 4000000 in
theorem w_X10_doorsTo_2 {p : Program} {l : Launch} {e : Env} {s : State} {m : MethodId} {args : Array Value} {below : List Frame} {meth : Method} {c : Code} {g : Gl} (X : FX g p m c s args meth cX10_doorsTo 7 RX10 (some .int) "doorsTo") {r : Int32 × Hp} {x0 : Nat} {x1 : Int32} {x2 : Int32}  : ∀ (n : Nat) (st : Hp × Int32), L_X10_doorsTo_2 x0 x1 x2 n st = some r → ∀ (H : Heap) (locs : List Loc) (ls : Array Slot), HV g st.1 H → FR g locs → lv_has ls 7 [(0, .ref x0), (1, .int x1), (2, .int x2), (3, .int st.2)] → W p l e rm_X10_doorsTo s m args below meth c H locs 0 0 (MQ below (Qi g r) args s 0 0 (frN g)) (F0 m 2 ls []) := by
  intro n
  induction n with
  | zero =>
    intro st h
    rw [L_X10_doorsTo_2_0] at h
    cases h
  | succ n ih =>
    intro st h H locs ls hV hF hl
    rw [L_X10_doorsTo_2_s] at h
    exact w_X10_doorsTo_2_b X  ih h hV hF hl
set_option maxHeartbeats 4000000 in
theorem c_X10_doorsTo (l : Launch) {g : Gl} {σ : Hp} {x0 : Nat} {x1 : Int32} {x2 : Int32} {r : Int32 × Hp} (h : F_X10_doorsTo σ x0 x1 x2 = some r) : Met l yX10_doorsTo (ws_ yX10_doorsTo cX10_doorsTo 7 (some .int)) rm_X10_doorsTo (va_Pc [.ref x0, .int x1, .int x2] (WV g σ)) (Qi g r) 0 0 (frN g) := by
  refine ct_of (by decide) (Nat.le_of_ble_eq_true rfl) ?_
  intro p e s m below meth c ls X hV hl
  have hF : FR g [] := FR_nil
  unfold F_X10_doorsTo at h
  have hl : lv_has ls 7 [(0, .ref x0), (1, .int x1), (2, .int x2)] := hl
  have X : FX g p m c s _ meth cX10_doorsTo 7 RX10 (some .int) "doorsTo" := X
  obtain ⟨-, h⟩ := gd_inv h
  refine lv_iconst (v := 0) X.1 X.2.1 dX10_doorsTo_0 (by decide) ?_
  refine lv_istore_n (lv' := [(3, .int 0), (0, .ref x0), (1, .int x1), (2, .int x2)]) X.1 X.2.1 dX10_doorsTo_1 rfl hl (by decide) rfl (fun ls hl => ?_)
  exact w_X10_doorsTo_2 X  FU (σ, 0) h _ _ _ hV hF (lv_sub hl [1, 2, 3, 0] rfl)
/-! PalaceOfRoomsModel.away -/
theorem dX10_away_0 : decode cX10_away 0 = .ok (.iload_n 1, 1) := by decide +kernel
theorem dX10_away_1 : decode cX10_away 1 = .ok (.invokestatic 100, 3) := by decide +kernel
theorem dX10_away_4 : decode cX10_away 4 = .ok (.ifCond .eq 19, 3) := by decide +kernel
theorem dX10_away_7 : decode cX10_away 7 = .ok (.iload_n 2, 1) := by decide +kernel
theorem dX10_away_8 : decode cX10_away 8 = .ok (.invokestatic 100, 3) := by decide +kernel
theorem dX10_away_11 : decode cX10_away 11 = .ok (.ifCond .eq 12, 3) := by decide +kernel
theorem dX10_away_14 : decode cX10_away 14 = .ok (.aload_n 0, 1) := by decide +kernel
theorem dX10_away_15 : decode cX10_away 15 = .ok (.iload_n 1, 1) := by decide +kernel
theorem dX10_away_16 : decode cX10_away 16 = .ok (.iload_n 2, 1) := by decide +kernel
theorem dX10_away_17 : decode cX10_away 17 = .ok (.invokevirtual 108, 3) := by decide +kernel
theorem dX10_away_20 : decode cX10_away 20 = .ok (.goto 5, 3) := by decide +kernel
theorem dX10_away_23 : decode cX10_away 23 = .ok (.bipush (-2), 2) := by decide +kernel
theorem dX10_away_25 : decode cX10_away 25 = .ok (.ireturn, 1) := by decide +kernel
theorem yd_X10_away : yX10_away.cls ≠ "java/lang/invoke/MethodHandle" ∧ yX10_away.cls ≠ "java/lang/invoke/VarHandle" ∧ (parseMethodDescriptor yX10_away.desc).map (fun d => d.parameters.length) = some 2 := by decide +kernel
abbrev rm_X10_away : Room := { frames := 2, cells := 0, slots := 0, locals := 42 }
set_option maxHeartbeats 4000000 in
theorem c_X10_away (l : Launch) {g : Gl} {σ : Hp} {x0 : Nat} {x1 : Int32} {x2 : Int32} {r : Int32 × Hp} (h : F_X10_away σ x0 x1 x2 = some r) : Met l yX10_away (ws_ yX10_away cX10_away 3 (some .int)) rm_X10_away (va_Pc [.ref x0, .int x1, .int x2] (WV g σ)) (Qi g r) 0 0 (frN g) := by
  refine ct_of (by decide) (Nat.le_of_ble_eq_true rfl) ?_
  intro p e s m below meth c ls X hV hl
  have hF : FR g [] := FR_nil
  unfold F_X10_away at h
  have hl : lv_has ls 3 [(0, .ref x0), (1, .int x1), (2, .int x2)] := hl
  have X : FX g p m c s _ meth cX10_away 3 RX10 (some .int) "away" := X
  obtain ⟨-, h⟩ := gd_inv h
  refine lv_iload_n X.1 X.2.1 dX10_away_0 rfl (lv_at hl 1 rfl) ?_
  obtain ⟨v1, s1, hc, h⟩ := b2_inv h
  refine r_ci (va_runS (As := [.int x1]) (rest := []) (cfX X) (c_X10_isRoom l hc) (va_cwS 1 X.2.2.2.2.1 (lw_S q1101 q1102 q59 q1103) rfl rfl rfl yd_X10_isRoom ⟨Nat.le_of_ble_eq_true rfl, Nat.le_of_ble_eq_true rfl⟩) (preS X hV) rfl rfl hl.1 rfl (lv_room (Nat.le_of_ble_eq_true rfl)) dX10_away_1 ⟨(Nat.le_of_ble_eq_true rfl), (Nat.le_of_ble_eq_true rfl)⟩) hF (fun H locs hV hF => ?_)
  refine r_ifeq (tgt := 23) X.1 X.2.1 dX10_away_4 (by decide) h (fun h => ?_) (fun h => ?_)
  · refine lv_bipush (v := (-2)) X.1 X.2.1 dX10_away_23 (by decide) ?_
    exact r_iret X hV hF h dX10_away_25
  · refine lv_iload_n X.1 X.2.1 dX10_away_7 rfl (lv_at hl 2 rfl) ?_
    obtain ⟨v2, s2, hc, h⟩ := b2_inv h
    refine r_ci (va_runS (As := [.int x2]) (rest := []) (cfX X) (c_X10_isRoom l hc) (va_cwS 1 X.2.2.2.2.1 (lw_S q1101 q1102 q59 q1103) rfl rfl rfl yd_X10_isRoom ⟨Nat.le_of_ble_eq_true rfl, Nat.le_of_ble_eq_true rfl⟩) (preS X hV) rfl rfl hl.1 rfl (lv_room (Nat.le_of_ble_eq_true rfl)) dX10_away_8 ⟨(Nat.le_of_ble_eq_true rfl), (Nat.le_of_ble_eq_true rfl)⟩) hF (fun H locs hV hF => ?_)
    refine r_ifeq (tgt := 23) X.1 X.2.1 dX10_away_11 (by decide) h (fun h => ?_) (fun h => ?_)
    · refine lv_bipush (v := (-2)) X.1 X.2.1 dX10_away_23 (by decide) ?_
      exact r_iret X hV hF h dX10_away_25
    · refine lv_aload_n X.1 X.2.1 dX10_away_14 rfl (lv_at hl 0 rfl) ?_
      refine lv_iload_n X.1 X.2.1 dX10_away_15 rfl (lv_at hl 1 rfl) ?_
      refine lv_iload_n X.1 X.2.1 dX10_away_16 rfl (lv_at hl 2 rfl) ?_
      obtain ⟨v3, s3, hc, h⟩ := b2_inv h
      refine r_ci (va_runV (C := RX10) (As := [.int x1, .int x2]) (rest := []) (cfX X) (c_X10_doorsTo l hc) (cwV 2 X.2.2.2.2.1 (lw_V q1115 q1117 qs23 q59 q1118) rfl rfl rfl ⟨rfl, yd_X10_doorsTo⟩ ⟨Nat.le_of_ble_eq_true rfl, Nat.le_of_ble_eq_true rfl⟩) (preV X hV (F_X10_doorsTo_g hc) rfl) rfl rfl hl.1 rfl (lv_room (Nat.le_of_ble_eq_true rfl)) dX10_away_17 ⟨(Nat.le_of_ble_eq_true rfl), (Nat.le_of_ble_eq_true rfl)⟩) hF (fun H locs hV hF => ?_)
      refine lv_goto (tgt := 25) X.1 X.2.1 dX10_away_20 (by decide) ?_
      exact r_iret X hV hF h dX10_away_25
/-! PalaceOfRoomsModel.isThing -/
theorem dX10_isThing_0 : decode cX10_isThing 0 = .ok (.iload_n 0, 1) := by decide +kernel
theorem dX10_isThing_1 : decode cX10_isThing 1 = .ok (.iconst 0, 1) := by decide +kernel
theorem dX10_isThing_2 : decode cX10_isThing 2 = .ok (.bipush 23, 2) := by decide +kernel
theorem dX10_isThing_4 : decode cX10_isThing 4 = .ok (.invokestatic 93, 3) := by decide +kernel
theorem dX10_isThing_7 : decode cX10_isThing 7 = .ok (.ireturn, 1) := by decide +kernel
theorem yd_X10_isThing : yX10_isThing.cls ≠ "java/lang/invoke/MethodHandle" ∧ yX10_isThing.cls ≠ "java/lang/invoke/VarHandle" ∧ (parseMethodDescriptor yX10_isThing.desc).map (fun d => d.parameters.length) = some 1 := by decide +kernel
abbrev rm_X10_isThing : Room := { frames := 1, cells := 0, slots := 0, locals := 22 }
set_option maxHeartbeats 4000000 in
theorem c_X10_isThing (l : Launch) {g : Gl} {σ : Hp} {x0 : Int32} {r : Int32 × Hp} (h : F_X10_isThing σ x0 = some r) : Met l yX10_isThing (ws_ yX10_isThing cX10_isThing 1 (some .boolean)) rm_X10_isThing (va_Pc [.int x0] (WV g σ)) (Qi g r) 0 0 (frN g) := by
  refine ct_of (by decide) (Nat.le_of_ble_eq_true rfl) ?_
  intro p e s m below meth c ls X hV hl
  have hF : FR g [] := FR_nil
  unfold F_X10_isThing at h
  have hl : lv_has ls 1 [(0, .int x0)] := hl
  have X : FX g p m c s _ meth cX10_isThing 1 RX10 (some .boolean) "isThing" := X
  refine lv_iload_n X.1 X.2.1 dX10_isThing_0 rfl (lv_at hl 0 rfl) ?_
  refine lv_iconst (v := 0) X.1 X.2.1 dX10_isThing_1 (by decide) ?_
  refine lv_bipush (v := 23) X.1 X.2.1 dX10_isThing_2 (by decide) ?_
  obtain ⟨v1, s1, hc, h⟩ := b2_inv h
  refine r_ci (va_runS (As := [.int x0, .int 0, .int 23]) (rest := []) (cfX X) (c_X10_in l hc) (va_cwS 3 X.2.2.2.2.1 (lw_S q1104 q1105 q59 q1106) rfl rfl rfl yd_X10_in ⟨Nat.le_of_ble_eq_true rfl, Nat.le_of_ble_eq_true rfl⟩) (preS X hV) rfl rfl hl.1 rfl (lv_room (Nat.le_of_ble_eq_true rfl)) dX10_isThing_4 ⟨(Nat.le_of_ble_eq_true rfl), (Nat.le_of_ble_eq_true rfl)⟩) hF (fun H locs hV hF => ?_)
  exact r_zrv X hV hF h dX10_isThing_7
/-! PalaceOfRoomsModel.marks -/
theorem dX10_marks_0 : decode cX10_marks 0 = .ok (.iload_n 1, 1) := by decide +kernel
theorem dX10_marks_1 : decode cX10_marks 1 = .ok (.invokestatic 112, 3) := by decide +kernel
theorem dX10_marks_4 : decode cX10_marks 4 = .ok (.ifCond .ne 6, 3) := by decide +kernel
theorem dX10_marks_7 : decode cX10_marks 7 = .ok (.bipush (-2), 2) := by decide +kernel
theorem dX10_marks_9 : decode cX10_marks 9 = .ok (.ireturn, 1) := by decide +kernel
theorem dX10_marks_10 : decode cX10_marks 10 = .ok (.iload_n 2, 1) := by decide +kernel
theorem dX10_marks_11 : decode cX10_marks 11 = .ok (.iconst 0, 1) := by decide +kernel
theorem dX10_marks_12 : decode cX10_marks 12 = .ok (.sipush 255, 3) := by decide +kernel
theorem dX10_marks_15 : decode cX10_marks 15 = .ok (.invokestatic 93, 3) := by decide +kernel
theorem dX10_marks_18 : decode cX10_marks 18 = .ok (.ifCond .ne 6, 3) := by decide +kernel
theorem dX10_marks_21 : decode cX10_marks 21 = .ok (.bipush (-3), 2) := by decide +kernel
theorem dX10_marks_23 : decode cX10_marks 23 = .ok (.ireturn, 1) := by decide +kernel
theorem dX10_marks_24 : decode cX10_marks 24 = .ok (.aload_n 0, 1) := by decide +kernel
theorem dX10_marks_25 : decode cX10_marks 25 = .ok (.getfield 19, 3) := by decide +kernel
theorem dX10_marks_28 : decode cX10_marks 28 = .ok (.iload_n 1, 1) := by decide +kernel
theorem dX10_marks_29 : decode cX10_marks 29 = .ok (.iaload, 1) := by decide +kernel
theorem dX10_marks_30 : decode cX10_marks 30 = .ok (.istore_n 3, 1) := by decide +kernel
theorem dX10_marks_31 : decode cX10_marks 31 = .ok (.aload_n 0, 1) := by decide +kernel
theorem dX10_marks_32 : decode cX10_marks 32 = .ok (.getfield 19, 3) := by decide +kernel
theorem dX10_marks_35 : decode cX10_marks 35 = .ok (.iload_n 1, 1) := by decide +kernel
theorem dX10_marks_36 : decode cX10_marks 36 = .ok (.iload_n 2, 1) := by decide +kernel
theorem dX10_marks_37 : decode cX10_marks 37 = .ok (.iastore, 1) := by decide +kernel
theorem dX10_marks_38 : decode cX10_marks 38 = .ok (.iload_n 3, 1) := by decide +kernel
theorem dX10_marks_39 : decode cX10_marks 39 = .ok (.ireturn, 1) := by decide +kernel
theorem yd_X10_marks : yX10_marks.cls ≠ "java/lang/invoke/MethodHandle" ∧ yX10_marks.cls ≠ "java/lang/invoke/VarHandle" ∧ (parseMethodDescriptor yX10_marks.desc).map (fun d => d.parameters.length) = some 2 := by decide +kernel
theorem fl_X10_19_10 : FLk RX10 19 10 5 "[I" := ⟨RX10, TX10, 39, "PalaceOfRoomsModel", rfl, by decide, (fun q => by have h1 := q.1; have h2 := q.2; omega), rfl, in_X10, Or.inl q984, Or.inl rfl⟩
abbrev rm_X10_marks : Room := { frames := 2, cells := 0, slots := 0, locals := 42 }
set_option maxHeartbeats 4000000 in
theorem c_X10_marks (l : Launch) {g : Gl} {σ : Hp} {x0 : Nat} {x1 : Int32} {x2 : Int32} {r : Int32 × Hp} (h : F_X10_marks σ x0 x1 x2 = some r) : Met l yX10_marks (ws_ yX10_marks cX10_marks 4 (some .int)) rm_X10_marks (va_Pc [.ref x0, .int x1, .int x2] (WV g σ)) (Qi g r) 0 0 (frN g) := by
  refine ct_of (by decide) (Nat.le_of_ble_eq_true rfl) ?_
  intro p e s m below meth c ls X hV hl
  have hF : FR g [] := FR_nil
  unfold F_X10_marks at h
  have hl : lv_has ls 4 [(0, .ref x0), (1, .int x1), (2, .int x2)] := hl
  have X : FX g p m c s _ meth cX10_marks 4 RX10 (some .int) "marks" := X
  obtain ⟨-, h⟩ := gd_inv h
  refine lv_iload_n X.1 X.2.1 dX10_marks_0 rfl (lv_at hl 1 rfl) ?_
  obtain ⟨v1, s1, hc, h⟩ := b2_inv h
  refine r_ci (va_runS (As := [.int x1]) (rest := []) (cfX X) (c_X10_isThing l hc) (va_cwS 1 X.2.2.2.2.1 (lw_S q1123 q1124 q59 q1125) rfl rfl rfl yd_X10_isThing ⟨Nat.le_of_ble_eq_true rfl, Nat.le_of_ble_eq_true rfl⟩) (preS X hV) rfl rfl hl.1 rfl (lv_room (Nat.le_of_ble_eq_true rfl)) dX10_marks_1 ⟨(Nat.le_of_ble_eq_true rfl), (Nat.le_of_ble_eq_true rfl)⟩) hF (fun H locs hV hF => ?_)
  refine r_ifne (tgt := 10) X.1 X.2.1 dX10_marks_4 (by decide) h (fun h => ?_) (fun h => ?_)
  · refine lv_iload_n X.1 X.2.1 dX10_marks_10 rfl (lv_at hl 2 rfl) ?_
    refine lv_iconst (v := 0) X.1 X.2.1 dX10_marks_11 (by decide) ?_
    refine lv_sipush (v := 255) X.1 X.2.1 dX10_marks_12 (by decide) ?_
    obtain ⟨v2, s2, hc, h⟩ := b2_inv h
    refine r_ci (va_runS (As := [.int x2, .int 0, .int 255]) (rest := []) (cfX X) (c_X10_in l hc) (va_cwS 3 X.2.2.2.2.1 (lw_S q1104 q1105 q59 q1106) rfl rfl rfl yd_X10_in ⟨Nat.le_of_ble_eq_true rfl, Nat.le_of_ble_eq_true rfl⟩) (preS X hV) rfl rfl hl.1 rfl (lv_room (Nat.le_of_ble_eq_true rfl)) dX10_marks_15 ⟨(Nat.le_of_ble_eq_true rfl), (Nat.le_of_ble_eq_true rfl)⟩) hF (fun H locs hV hF => ?_)
    refine r_ifne (tgt := 24) X.1 X.2.1 dX10_marks_18 (by decide) h (fun h => ?_) (fun h => ?_)
    · refine lv_aload_n X.1 X.2.1 dX10_marks_24 rfl (lv_at hl 0 rfl) ?_
      refine r_gR X hV fl_X10_19_10 (by decide) dX10_marks_25 h (fun v3 h => ?_)
      refine lv_iload_n X.1 X.2.1 dX10_marks_28 rfl (lv_at hl 1 rfl) ?_
      refine r_ia X hV dX10_marks_29 h (fun v4 h => ?_)
      refine lv_istore_n (lv' := [(3, .int v4), (0, .ref x0), (1, .int x1), (2, .int x2)]) X.1 X.2.1 dX10_marks_30 rfl hl (by decide) rfl (fun ls hl => ?_)
      refine lv_aload_n X.1 X.2.1 dX10_marks_31 rfl (lv_at hl 1 rfl) ?_
      refine r_gR X hV fl_X10_19_10 (by decide) dX10_marks_32 h (fun v5 h => ?_)
      refine lv_iload_n X.1 X.2.1 dX10_marks_35 rfl (lv_at hl 2 rfl) ?_
      refine lv_iload_n X.1 X.2.1 dX10_marks_36 rfl (lv_at hl 3 rfl) ?_
      refine r_is X hV hF dX10_marks_37 h (fun s3 H locs hV hF h => ?_)
      refine lv_iload_n X.1 X.2.1 dX10_marks_38 rfl (lv_at hl 0 rfl) ?_
      exact r_iret X hV hF h dX10_marks_39
    · refine lv_bipush (v := (-3)) X.1 X.2.1 dX10_marks_21 (by decide) ?_
      exact r_iret X hV hF h dX10_marks_23
  · refine lv_bipush (v := (-2)) X.1 X.2.1 dX10_marks_7 (by decide) ?_
    exact r_iret X hV hF h dX10_marks_9
/-! PalaceOfRoomsModel.likeness -/
theorem dX10_likeness_0 : decode cX10_likeness 0 = .ok (.aload_n 0, 1) := by decide +kernel
theorem dX10_likeness_1 : decode cX10_likeness 1 = .ok (.getfield 19, 3) := by decide +kernel
theorem dX10_likeness_4 : decode cX10_likeness 4 = .ok (.iload_n 1, 1) := by decide +kernel
theorem dX10_likeness_5 : decode cX10_likeness 5 = .ok (.iaload, 1) := by decide +kernel
theorem dX10_likeness_6 : decode cX10_likeness 6 = .ok (.aload_n 0, 1) := by decide +kernel
theorem dX10_likeness_7 : decode cX10_likeness 7 = .ok (.getfield 19, 3) := by decide +kernel
theorem dX10_likeness_10 : decode cX10_likeness 10 = .ok (.iload_n 2, 1) := by decide +kernel
theorem dX10_likeness_11 : decode cX10_likeness 11 = .ok (.iaload, 1) := by decide +kernel
theorem dX10_likeness_12 : decode cX10_likeness 12 = .ok (.iand, 1) := by decide +kernel
theorem dX10_likeness_13 : decode cX10_likeness 13 = .ok (.istore_n 3, 1) := by decide +kernel
theorem dX10_likeness_14 : decode cX10_likeness 14 = .ok (.iconst 0, 1) := by decide +kernel
theorem dX10_likeness_15 : decode cX10_likeness 15 = .ok (.istore 4, 2) := by decide +kernel
theorem dX10_likeness_17 : decode cX10_likeness 17 = .ok (.iconst 0, 1) := by decide +kernel
theorem dX10_likeness_18 : decode cX10_likeness 18 = .ok (.istore 5, 2) := by decide +kernel
theorem dX10_likeness_20 : decode cX10_likeness 20 = .ok (.iload 5, 2) := by decide +kernel
theorem dX10_likeness_22 : decode cX10_likeness 22 = .ok (.bipush 8, 2) := by decide +kernel
theorem dX10_likeness_24 : decode cX10_likeness 24 = .ok (.if_icmp .ge 20, 3) := by decide +kernel
theorem dX10_likeness_27 : decode cX10_likeness 27 = .ok (.iload 4, 2) := by decide +kernel
theorem dX10_likeness_29 : decode cX10_likeness 29 = .ok (.iload_n 3, 1) := by decide +kernel
theorem dX10_likeness_30 : decode cX10_likeness 30 = .ok (.iload 5, 2) := by decide +kernel
theorem dX10_likeness_32 : decode cX10_likeness 32 = .ok (.ishr, 1) := by decide +kernel
theorem dX10_likeness_33 : decode cX10_likeness 33 = .ok (.iconst 1, 1) := by decide +kernel
theorem dX10_likeness_34 : decode cX10_likeness 34 = .ok (.iand, 1) := by decide +kernel
theorem dX10_likeness_35 : decode cX10_likeness 35 = .ok (.iadd, 1) := by decide +kernel
theorem dX10_likeness_36 : decode cX10_likeness 36 = .ok (.istore 4, 2) := by decide +kernel
theorem dX10_likeness_38 : decode cX10_likeness 38 = .ok (.iinc 5 1, 3) := by decide +kernel
theorem dX10_likeness_41 : decode cX10_likeness 41 = .ok (.goto (-21), 3) := by decide +kernel
theorem dX10_likeness_44 : decode cX10_likeness 44 = .ok (.iload 4, 2) := by decide +kernel
theorem dX10_likeness_46 : decode cX10_likeness 46 = .ok (.ireturn, 1) := by decide +kernel
theorem yd_X10_likeness : yX10_likeness.cls ≠ "java/lang/invoke/MethodHandle" ∧ yX10_likeness.cls ≠ "java/lang/invoke/VarHandle" ∧ (parseMethodDescriptor yX10_likeness.desc).map (fun d => d.parameters.length) = some 2 := by decide +kernel
abbrev rm_X10_likeness : Room := { frames := 0, cells := 0, slots := 0, locals := 0 }
set_option maxHeartbeats 4000000 in
theorem w_X10_likeness_20_b {p : Program} {l : Launch} {e : Env} {s : State} {m : MethodId} {args : Array Value} {below : List Frame} {meth : Method} {c : Code} {g : Gl} (X : FX g p m c s args meth cX10_likeness 6 RX10 (some .int) "likeness") {r : Int32 × Hp} {rec20 : Int32 × Int32 → Option (Int32 × Hp)} {σ : Hp} {x3 : Int32} {x4 : Int32} {x5 : Int32} (hr20 : ∀ (st : Int32 × Int32), rec20 st = some r → ∀ (H : Heap) (locs : List Loc) (ls : Array Slot), HV g σ H → FR g locs → lv_has ls 6 [(3, .int x3), (4, .int st.1), (5, .int st.2)] → W p l e rm_X10_likeness s m args below meth c H locs 0 0 (MQ below (Qi g r) args s 0 0 (frN g)) (F0 m 20 ls [])) {H : Heap} {locs : List Loc} {ls : Array Slot} (h : B_X10_likeness_20 σ x3 rec20 x4 x5 = some r) (hV : HV g σ H) (hF : FR g locs) (hl : lv_has ls 6 [(3, .int x3), (4, .int x4), (5, .int x5)]) : W p l e rm_X10_likeness s m args below meth c H locs 0 0 (MQ below (Qi g r) args s 0 0 (frN g)) (F0 m 20 ls []) := by
  unfold B_X10_likeness_20 at h
  refine lv_iload X.1 X.2.1 dX10_likeness_20 (lv_at hl 2 rfl) ?_
  refine lv_bipush (v := 8) X.1 X.2.1 dX10_likeness_22 (by decide) ?_
  refine r_ge (tgt := 44) X.1 X.2.1 dX10_likeness_24 (by decide) h (fun h => ?_) (fun h => ?_)
  · refine lv_iload X.1 X.2.1 dX10_likeness_44 (lv_at hl 1 rfl) ?_
    exact r_iret X hV hF h dX10_likeness_46
  · refine lv_iload X.1 X.2.1 dX10_likeness_27 (lv_at hl 1 rfl) ?_
    refine lv_iload_n X.1 X.2.1 dX10_likeness_29 rfl (lv_at hl 0 rfl) ?_
    refine lv_iload X.1 X.2.1 dX10_likeness_30 (lv_at hl 2 rfl) ?_
    refine lv_ishr X.1 X.2.1 dX10_likeness_32 ?_
    refine lv_iconst (v := 1) X.1 X.2.1 dX10_likeness_33 (by decide) ?_
    refine lv_iand X.1 X.2.1 dX10_likeness_34 ?_
    refine lv_iadd X.1 X.2.1 dX10_likeness_35 ?_
    refine lv_istore (lv' := [(4, .int (x4 + ((x3 >>> (x5 &&& 31)) &&& 1))), (3, .int x3), (5, .int x5)]) X.1 X.2.1 dX10_likeness_36 hl (by decide) rfl (fun ls hl => ?_)
    refine lv_iinc (v := x5 + 1) (lv' := [(5, .int (x5 + 1)), (4, .int (x4 + ((x3 >>> (x5 &&& 31)) &&& 1))), (3, .int x3)]) X.1 X.2.1 dX10_likeness_38 hl (k := 2) rfl rfl (by decide) rfl (fun ls hl => ?_)
    refine lv_goto (tgt := 20) X.1 X.2.1 dX10_likeness_41 (by decide) ?_
    exact hr20 (x4 + ((x3 >>> (x5 &&& 31)) &&& 1), x5 + 1) h _ _ _ hV hF (lv_sub hl [2, 1, 0] rfl)
set_option maxHeartbeats 4000000 in
theorem w_X10_likeness_20 {p : Program} {l : Launch} {e : Env} {s : State} {m : MethodId} {args : Array Value} {below : List Frame} {meth : Method} {c : Code} {g : Gl} (X : FX g p m c s args meth cX10_likeness 6 RX10 (some .int) "likeness") {r : Int32 × Hp} {σ : Hp} {x3 : Int32}  : ∀ (n : Nat) (st : Int32 × Int32), L_X10_likeness_20 σ x3 n st = some r → ∀ (H : Heap) (locs : List Loc) (ls : Array Slot), HV g σ H → FR g locs → lv_has ls 6 [(3, .int x3), (4, .int st.1), (5, .int st.2)] → W p l e rm_X10_likeness s m args below meth c H locs 0 0 (MQ below (Qi g r) args s 0 0 (frN g)) (F0 m 20 ls []) := by
  intro n
  induction n with
  | zero =>
    intro st h
    rw [L_X10_likeness_20_0] at h
    cases h
  | succ n ih =>
    intro st h H locs ls hV hF hl
    rw [L_X10_likeness_20_s] at h
    exact w_X10_likeness_20_b X  ih h hV hF hl
set_option maxHeartbeats 4000000 in
theorem c_X10_likeness (l : Launch) {g : Gl} {σ : Hp} {x0 : Nat} {x1 : Int32} {x2 : Int32} {r : Int32 × Hp} (h : F_X10_likeness σ x0 x1 x2 = some r) : Met l yX10_likeness (ws_ yX10_likeness cX10_likeness 6 (some .int)) rm_X10_likeness (va_Pc [.ref x0, .int x1, .int x2] (WV g σ)) (Qi g r) 0 0 (frN g) := by
  refine ct_of (by decide) (Nat.le_of_ble_eq_true rfl) ?_
  intro p e s m below meth c ls X hV hl
  have hF : FR g [] := FR_nil
  unfold F_X10_likeness at h
  have hl : lv_has ls 6 [(0, .ref x0), (1, .int x1), (2, .int x2)] := hl
  have X : FX g p m c s _ meth cX10_likeness 6 RX10 (some .int) "likeness" := X
  obtain ⟨-, h⟩ := gd_inv h
  refine lv_aload_n X.1 X.2.1 dX10_likeness_0 rfl (lv_at hl 0 rfl) ?_
  refine r_gR X hV fl_X10_19_10 (by decide) dX10_likeness_1 h (fun v1 h => ?_)
  refine lv_iload_n X.1 X.2.1 dX10_likeness_4 rfl (lv_at hl 1 rfl) ?_
  refine r_ia X hV dX10_likeness_5 h (fun v2 h => ?_)
  refine lv_aload_n X.1 X.2.1 dX10_likeness_6 rfl (lv_at hl 0 rfl) ?_
  refine r_gR X hV fl_X10_19_10 (by decide) dX10_likeness_7 h (fun v3 h => ?_)
  refine lv_iload_n X.1 X.2.1 dX10_likeness_10 rfl (lv_at hl 2 rfl) ?_
  refine r_ia X hV dX10_likeness_11 h (fun v4 h => ?_)
  refine lv_iand X.1 X.2.1 dX10_likeness_12 ?_
  refine lv_istore_n (lv' := [(3, .int (v2 &&& v4)), (0, .ref x0), (1, .int x1), (2, .int x2)]) X.1 X.2.1 dX10_likeness_13 rfl hl (by decide) rfl (fun ls hl => ?_)
  refine lv_iconst (v := 0) X.1 X.2.1 dX10_likeness_14 (by decide) ?_
  refine lv_istore (lv' := [(4, .int 0), (3, .int (v2 &&& v4)), (0, .ref x0), (1, .int x1), (2, .int x2)]) X.1 X.2.1 dX10_likeness_15 hl (by decide) rfl (fun ls hl => ?_)
  refine lv_iconst (v := 0) X.1 X.2.1 dX10_likeness_17 (by decide) ?_
  refine lv_istore (lv' := [(5, .int 0), (4, .int 0), (3, .int (v2 &&& v4)), (0, .ref x0), (1, .int x1), (2, .int x2)]) X.1 X.2.1 dX10_likeness_18 hl (by decide) rfl (fun ls hl => ?_)
  exact w_X10_likeness_20 X  FU (0, 0) h _ _ _ hV hF (lv_sub hl [2, 1, 0] rfl)
/-! PalaceOfRoomsModel.like -/
theorem dX10_like_0 : decode cX10_like 0 = .ok (.iload_n 1, 1) := by decide +kernel
theorem dX10_like_1 : decode cX10_like 1 = .ok (.invokestatic 112, 3) := by decide +kernel
theorem dX10_like_4 : decode cX10_like 4 = .ok (.ifCond .eq 19, 3) := by decide +kernel
theorem dX10_like_7 : decode cX10_like 7 = .ok (.iload_n 2, 1) := by decide +kernel
theorem dX10_like_8 : decode cX10_like 8 = .ok (.invokestatic 112, 3) := by decide +kernel
theorem dX10_like_11 : decode cX10_like 11 = .ok (.ifCond .eq 12, 3) := by decide +kernel
theorem dX10_like_14 : decode cX10_like 14 = .ok (.aload_n 0, 1) := by decide +kernel
theorem dX10_like_15 : decode cX10_like 15 = .ok (.iload_n 1, 1) := by decide +kernel
theorem dX10_like_16 : decode cX10_like 16 = .ok (.iload_n 2, 1) := by decide +kernel
theorem dX10_like_17 : decode cX10_like 17 = .ok (.invokevirtual 115, 3) := by decide +kernel
theorem dX10_like_20 : decode cX10_like 20 = .ok (.goto 5, 3) := by decide +kernel
theorem dX10_like_23 : decode cX10_like 23 = .ok (.bipush (-2), 2) := by decide +kernel
theorem dX10_like_25 : decode cX10_like 25 = .ok (.ireturn, 1) := by decide +kernel
theorem yd_X10_like : yX10_like.cls ≠ "java/lang/invoke/MethodHandle" ∧ yX10_like.cls ≠ "java/lang/invoke/VarHandle" ∧ (parseMethodDescriptor yX10_like.desc).map (fun d => d.parameters.length) = some 2 := by decide +kernel
abbrev rm_X10_like : Room := { frames := 2, cells := 0, slots := 0, locals := 42 }
set_option maxHeartbeats 4000000 in
theorem c_X10_like (l : Launch) {g : Gl} {σ : Hp} {x0 : Nat} {x1 : Int32} {x2 : Int32} {r : Int32 × Hp} (h : F_X10_like σ x0 x1 x2 = some r) : Met l yX10_like (ws_ yX10_like cX10_like 3 (some .int)) rm_X10_like (va_Pc [.ref x0, .int x1, .int x2] (WV g σ)) (Qi g r) 0 0 (frN g) := by
  refine ct_of (by decide) (Nat.le_of_ble_eq_true rfl) ?_
  intro p e s m below meth c ls X hV hl
  have hF : FR g [] := FR_nil
  unfold F_X10_like at h
  have hl : lv_has ls 3 [(0, .ref x0), (1, .int x1), (2, .int x2)] := hl
  have X : FX g p m c s _ meth cX10_like 3 RX10 (some .int) "like" := X
  obtain ⟨-, h⟩ := gd_inv h
  refine lv_iload_n X.1 X.2.1 dX10_like_0 rfl (lv_at hl 1 rfl) ?_
  obtain ⟨v1, s1, hc, h⟩ := b2_inv h
  refine r_ci (va_runS (As := [.int x1]) (rest := []) (cfX X) (c_X10_isThing l hc) (va_cwS 1 X.2.2.2.2.1 (lw_S q1123 q1124 q59 q1125) rfl rfl rfl yd_X10_isThing ⟨Nat.le_of_ble_eq_true rfl, Nat.le_of_ble_eq_true rfl⟩) (preS X hV) rfl rfl hl.1 rfl (lv_room (Nat.le_of_ble_eq_true rfl)) dX10_like_1 ⟨(Nat.le_of_ble_eq_true rfl), (Nat.le_of_ble_eq_true rfl)⟩) hF (fun H locs hV hF => ?_)
  refine r_ifeq (tgt := 23) X.1 X.2.1 dX10_like_4 (by decide) h (fun h => ?_) (fun h => ?_)
  · refine lv_bipush (v := (-2)) X.1 X.2.1 dX10_like_23 (by decide) ?_
    exact r_iret X hV hF h dX10_like_25
  · refine lv_iload_n X.1 X.2.1 dX10_like_7 rfl (lv_at hl 2 rfl) ?_
    obtain ⟨v2, s2, hc, h⟩ := b2_inv h
    refine r_ci (va_runS (As := [.int x2]) (rest := []) (cfX X) (c_X10_isThing l hc) (va_cwS 1 X.2.2.2.2.1 (lw_S q1123 q1124 q59 q1125) rfl rfl rfl yd_X10_isThing ⟨Nat.le_of_ble_eq_true rfl, Nat.le_of_ble_eq_true rfl⟩) (preS X hV) rfl rfl hl.1 rfl (lv_room (Nat.le_of_ble_eq_true rfl)) dX10_like_8 ⟨(Nat.le_of_ble_eq_true rfl), (Nat.le_of_ble_eq_true rfl)⟩) hF (fun H locs hV hF => ?_)
    refine r_ifeq (tgt := 23) X.1 X.2.1 dX10_like_11 (by decide) h (fun h => ?_) (fun h => ?_)
    · refine lv_bipush (v := (-2)) X.1 X.2.1 dX10_like_23 (by decide) ?_
      exact r_iret X hV hF h dX10_like_25
    · refine lv_aload_n X.1 X.2.1 dX10_like_14 rfl (lv_at hl 0 rfl) ?_
      refine lv_iload_n X.1 X.2.1 dX10_like_15 rfl (lv_at hl 1 rfl) ?_
      refine lv_iload_n X.1 X.2.1 dX10_like_16 rfl (lv_at hl 2 rfl) ?_
      obtain ⟨v3, s3, hc, h⟩ := b2_inv h
      refine r_ci (va_runV (C := RX10) (As := [.int x1, .int x2]) (rest := []) (cfX X) (c_X10_likeness l hc) (cwV 2 X.2.2.2.2.1 (lw_V q1130 q1132 qs24 q59 q1133) rfl rfl rfl ⟨rfl, yd_X10_likeness⟩ ⟨Nat.le_of_ble_eq_true rfl, Nat.le_of_ble_eq_true rfl⟩) (preV X hV (F_X10_likeness_g hc) rfl) rfl rfl hl.1 rfl (lv_room (Nat.le_of_ble_eq_true rfl)) dX10_like_17 ⟨(Nat.le_of_ble_eq_true rfl), (Nat.le_of_ble_eq_true rfl)⟩) hF (fun H locs hV hF => ?_)
      refine lv_goto (tgt := 25) X.1 X.2.1 dX10_like_20 (by decide) ?_
      exact r_iret X hV hF h dX10_like_25
/-! PalaceOfRoomsModel.set -/
theorem dX10_set_0 : decode cX10_set 0 = .ok (.iload_n 1, 1) := by decide +kernel
theorem dX10_set_1 : decode cX10_set 1 = .ok (.ifCond .ne 25, 3) := by decide +kernel
theorem dX10_set_4 : decode cX10_set 4 = .ok (.iload_n 2, 1) := by decide +kernel
theorem dX10_set_5 : decode cX10_set 5 = .ok (.iconst 1, 1) := by decide +kernel
theorem dX10_set_6 : decode cX10_set 6 = .ok (.bipush 8, 2) := by decide +kernel
theorem dX10_set_8 : decode cX10_set 8 = .ok (.invokestatic 93, 3) := by decide +kernel
theorem dX10_set_11 : decode cX10_set 11 = .ok (.ifCond .eq 15, 3) := by decide +kernel
theorem dX10_set_14 : decode cX10_set 14 = .ok (.aload_n 0, 1) := by decide +kernel
theorem dX10_set_15 : decode cX10_set 15 = .ok (.getfield 22, 3) := by decide +kernel
theorem dX10_set_18 : decode cX10_set 18 = .ok (.istore_n 3, 1) := by decide +kernel
theorem dX10_set_19 : decode cX10_set 19 = .ok (.aload_n 0, 1) := by decide +kernel
theorem dX10_set_20 : decode cX10_set 20 = .ok (.iload_n 2, 1) := by decide +kernel
theorem dX10_set_21 : decode cX10_set 21 = .ok (.putfield 22, 3) := by decide +kernel
theorem dX10_set_24 : decode cX10_set 24 = .ok (.iload_n 3, 1) := by decide +kernel
theorem dX10_set_25 : decode cX10_set 25 = .ok (.ireturn, 1) := by decide +kernel
theorem dX10_set_26 : decode cX10_set 26 = .ok (.iload_n 1, 1) := by decide +kernel
theorem dX10_set_27 : decode cX10_set 27 = .ok (.iconst 1, 1) := by decide +kernel
theorem dX10_set_28 : decode cX10_set 28 = .ok (.if_icmp .ne 25, 3) := by decide +kernel
theorem dX10_set_31 : decode cX10_set 31 = .ok (.iload_n 2, 1) := by decide +kernel
theorem dX10_set_32 : decode cX10_set 32 = .ok (.iconst 0, 1) := by decide +kernel
theorem dX10_set_33 : decode cX10_set 33 = .ok (.bipush 100, 2) := by decide +kernel
theorem dX10_set_35 : decode cX10_set 35 = .ok (.invokestatic 93, 3) := by decide +kernel
theorem dX10_set_38 : decode cX10_set 38 = .ok (.ifCond .eq 15, 3) := by decide +kernel
theorem dX10_set_41 : decode cX10_set 41 = .ok (.aload_n 0, 1) := by decide +kernel
theorem dX10_set_42 : decode cX10_set 42 = .ok (.getfield 26, 3) := by decide +kernel
theorem dX10_set_45 : decode cX10_set 45 = .ok (.istore_n 3, 1) := by decide +kernel
theorem dX10_set_46 : decode cX10_set 46 = .ok (.aload_n 0, 1) := by decide +kernel
theorem dX10_set_47 : decode cX10_set 47 = .ok (.iload_n 2, 1) := by decide +kernel
theorem dX10_set_48 : decode cX10_set 48 = .ok (.putfield 26, 3) := by decide +kernel
theorem dX10_set_51 : decode cX10_set 51 = .ok (.iload_n 3, 1) := by decide +kernel
theorem dX10_set_52 : decode cX10_set 52 = .ok (.ireturn, 1) := by decide +kernel
theorem dX10_set_53 : decode cX10_set 53 = .ok (.bipush (-3), 2) := by decide +kernel
theorem dX10_set_55 : decode cX10_set 55 = .ok (.ireturn, 1) := by decide +kernel
theorem yd_X10_set : yX10_set.cls ≠ "java/lang/invoke/MethodHandle" ∧ yX10_set.cls ≠ "java/lang/invoke/VarHandle" ∧ (parseMethodDescriptor yX10_set.desc).map (fun d => d.parameters.length) = some 2 := by decide +kernel
theorem fl_X10_26_10 : FLk RX10 26 10 7 "I" := ⟨RX10, TX10, 39, "PalaceOfRoomsModel", rfl, by decide, (fun q => by have h1 := q.1; have h2 := q.2; omega), rfl, in_X10, Or.inl q986, Or.inl rfl⟩
theorem fl_X10_22_10 : FLk RX10 22 10 6 "I" := ⟨RX10, TX10, 39, "PalaceOfRoomsModel", rfl, by decide, (fun q => by have h1 := q.1; have h2 := q.2; omega), rfl, in_X10, Or.inl q985, Or.inl rfl⟩
abbrev rm_X10_set : Room := { frames := 1, cells := 0, slots := 0, locals := 22 }
set_option maxHeartbeats 4000000 in
theorem w_X10_set_26 {p : Program} {l : Launch} {e : Env} {s : State} {m : MethodId} {args : Array Value} {below : List Frame} {meth : Method} {c : Code} {g : Gl} (X : FX g p m c s args meth cX10_set 4 RX10 (some .int) "set") {r : Int32 × Hp} {σ : Hp} {x0 : Nat} {x1 : Int32} {x2 : Int32}  {H : Heap} {locs : List Loc} {ls : Array Slot} (h : F_X10_set_26 σ x0 x1 x2 = some r) (hV : HV g σ H) (hF : FR g locs) (hl : lv_has ls 4 [(0, .ref x0), (1, .int x1), (2, .int x2)]) : W p l e rm_X10_set s m args below meth c H locs 0 0 (MQ below (Qi g r) args s 0 0 (frN g)) (F0 m 26 ls []) := by
  unfold F_X10_set_26 at h
  refine lv_iload_n X.1 X.2.1 dX10_set_26 rfl (lv_at hl 1 rfl) ?_
  refine lv_iconst (v := 1) X.1 X.2.1 dX10_set_27 (by decide) ?_
  refine r_ne (tgt := 53) X.1 X.2.1 dX10_set_28 (by decide) h (fun h => ?_) (fun h => ?_)
  · refine lv_bipush (v := (-3)) X.1 X.2.1 dX10_set_53 (by decide) ?_
    exact r_iret X hV hF h dX10_set_55
  · refine lv_iload_n X.1 X.2.1 dX10_set_31 rfl (lv_at hl 2 rfl) ?_
    refine lv_iconst (v := 0) X.1 X.2.1 dX10_set_32 (by decide) ?_
    refine lv_bipush (v := 100) X.1 X.2.1 dX10_set_33 (by decide) ?_
    obtain ⟨v1, s1, hc, h⟩ := b2_inv h
    refine r_ci (va_runS (As := [.int x2, .int 0, .int 100]) (rest := []) (cfX X) (c_X10_in l hc) (va_cwS 3 X.2.2.2.2.1 (lw_S q1104 q1105 q59 q1106) rfl rfl rfl yd_X10_in ⟨Nat.le_of_ble_eq_true rfl, Nat.le_of_ble_eq_true rfl⟩) (preS X hV) rfl rfl hl.1 rfl (lv_room (Nat.le_of_ble_eq_true rfl)) dX10_set_35 ⟨(Nat.le_of_ble_eq_true rfl), (Nat.le_of_ble_eq_true rfl)⟩) hF (fun H locs hV hF => ?_)
    refine r_ifeq (tgt := 53) X.1 X.2.1 dX10_set_38 (by decide) h (fun h => ?_) (fun h => ?_)
    · refine lv_bipush (v := (-3)) X.1 X.2.1 dX10_set_53 (by decide) ?_
      exact r_iret X hV hF h dX10_set_55
    · refine lv_aload_n X.1 X.2.1 dX10_set_41 rfl (lv_at hl 0 rfl) ?_
      refine r_gI X hV fl_X10_26_10 dX10_set_42 h (fun v2 h => ?_)
      refine lv_istore_n (lv' := [(3, .int v2), (0, .ref x0), (1, .int x1), (2, .int x2)]) X.1 X.2.1 dX10_set_45 rfl hl (by decide) rfl (fun ls hl => ?_)
      refine lv_aload_n X.1 X.2.1 dX10_set_46 rfl (lv_at hl 1 rfl) ?_
      refine lv_iload_n X.1 X.2.1 dX10_set_47 rfl (lv_at hl 3 rfl) ?_
      refine r_pI X hV hF fp_X10_26_10 (fun q => by cases q) dX10_set_48 h (fun s2 H locs hV hF h => ?_)
      refine lv_iload_n X.1 X.2.1 dX10_set_51 rfl (lv_at hl 0 rfl) ?_
      exact r_iret X hV hF h dX10_set_52
set_option maxHeartbeats 4000000 in
theorem c_X10_set (l : Launch) {g : Gl} {σ : Hp} {x0 : Nat} {x1 : Int32} {x2 : Int32} {r : Int32 × Hp} (h : F_X10_set σ x0 x1 x2 = some r) : Met l yX10_set (ws_ yX10_set cX10_set 4 (some .int)) rm_X10_set (va_Pc [.ref x0, .int x1, .int x2] (WV g σ)) (Qi g r) 0 0 (frN g) := by
  refine ct_of (by decide) (Nat.le_of_ble_eq_true rfl) ?_
  intro p e s m below meth c ls X hV hl
  have hF : FR g [] := FR_nil
  unfold F_X10_set at h
  have hl : lv_has ls 4 [(0, .ref x0), (1, .int x1), (2, .int x2)] := hl
  have X : FX g p m c s _ meth cX10_set 4 RX10 (some .int) "set" := X
  obtain ⟨-, h⟩ := gd_inv h
  refine lv_iload_n X.1 X.2.1 dX10_set_0 rfl (lv_at hl 1 rfl) ?_
  refine r_ifne (tgt := 26) X.1 X.2.1 dX10_set_1 (by decide) h (fun h => ?_) (fun h => ?_)
  · exact w_X10_set_26 X  h hV hF (lv_sub hl [0, 1, 2] rfl)
  · refine lv_iload_n X.1 X.2.1 dX10_set_4 rfl (lv_at hl 2 rfl) ?_
    refine lv_iconst (v := 1) X.1 X.2.1 dX10_set_5 (by decide) ?_
    refine lv_bipush (v := 8) X.1 X.2.1 dX10_set_6 (by decide) ?_
    obtain ⟨v1, s1, hc, h⟩ := b2_inv h
    refine r_ci (va_runS (As := [.int x2, .int 1, .int 8]) (rest := []) (cfX X) (c_X10_in l hc) (va_cwS 3 X.2.2.2.2.1 (lw_S q1104 q1105 q59 q1106) rfl rfl rfl yd_X10_in ⟨Nat.le_of_ble_eq_true rfl, Nat.le_of_ble_eq_true rfl⟩) (preS X hV) rfl rfl hl.1 rfl (lv_room (Nat.le_of_ble_eq_true rfl)) dX10_set_8 ⟨(Nat.le_of_ble_eq_true rfl), (Nat.le_of_ble_eq_true rfl)⟩) hF (fun H locs hV hF => ?_)
    refine r_ifeq (tgt := 26) X.1 X.2.1 dX10_set_11 (by decide) h (fun h => ?_) (fun h => ?_)
    · exact w_X10_set_26 X  h hV hF (lv_sub hl [0, 1, 2] rfl)
    · refine lv_aload_n X.1 X.2.1 dX10_set_14 rfl (lv_at hl 0 rfl) ?_
      refine r_gI X hV fl_X10_22_10 dX10_set_15 h (fun v2 h => ?_)
      refine lv_istore_n (lv' := [(3, .int v2), (0, .ref x0), (1, .int x1), (2, .int x2)]) X.1 X.2.1 dX10_set_18 rfl hl (by decide) rfl (fun ls hl => ?_)
      refine lv_aload_n X.1 X.2.1 dX10_set_19 rfl (lv_at hl 1 rfl) ?_
      refine lv_iload_n X.1 X.2.1 dX10_set_20 rfl (lv_at hl 3 rfl) ?_
      refine r_pI X hV hF fp_X10_22_10 (fun q => by cases q) dX10_set_21 h (fun s2 H locs hV hF h => ?_)
      refine lv_iload_n X.1 X.2.1 dX10_set_24 rfl (lv_at hl 0 rfl) ?_
      exact r_iret X hV hF h dX10_set_25
/-! PalaceOfRoomsModel.fall -/
theorem dX10_fall_0 : decode cX10_fall 0 = .ok (.iload_n 1, 1) := by decide +kernel
theorem dX10_fall_1 : decode cX10_fall 1 = .ok (.iconst 0, 1) := by decide +kernel
theorem dX10_fall_2 : decode cX10_fall 2 = .ok (.bipush 10, 2) := by decide +kernel
theorem dX10_fall_4 : decode cX10_fall 4 = .ok (.invokestatic 93, 3) := by decide +kernel
theorem dX10_fall_7 : decode cX10_fall 7 = .ok (.ifCond .eq 13, 3) := by decide +kernel
theorem dX10_fall_10 : decode cX10_fall 10 = .ok (.iload_n 2, 1) := by decide +kernel
theorem dX10_fall_11 : decode cX10_fall 11 = .ok (.iconst 0, 1) := by decide +kernel
theorem dX10_fall_12 : decode cX10_fall 12 = .ok (.bipush 30, 2) := by decide +kernel
theorem dX10_fall_14 : decode cX10_fall 14 = .ok (.invokestatic 93, 3) := by decide +kernel
theorem dX10_fall_17 : decode cX10_fall 17 = .ok (.ifCond .ne 6, 3) := by decide +kernel
theorem dX10_fall_20 : decode cX10_fall 20 = .ok (.bipush (-3), 2) := by decide +kernel
theorem dX10_fall_22 : decode cX10_fall 22 = .ok (.ireturn, 1) := by decide +kernel
theorem dX10_fall_23 : decode cX10_fall 23 = .ok (.aload_n 0, 1) := by decide +kernel
theorem dX10_fall_24 : decode cX10_fall 24 = .ok (.getfield 29, 3) := by decide +kernel
theorem dX10_fall_27 : decode cX10_fall 27 = .ok (.iload_n 1, 1) := by decide +kernel
theorem dX10_fall_28 : decode cX10_fall 28 = .ok (.iaload, 1) := by decide +kernel
theorem dX10_fall_29 : decode cX10_fall 29 = .ok (.istore_n 3, 1) := by decide +kernel
theorem dX10_fall_30 : decode cX10_fall 30 = .ok (.aload_n 0, 1) := by decide +kernel
theorem dX10_fall_31 : decode cX10_fall 31 = .ok (.getfield 29, 3) := by decide +kernel
theorem dX10_fall_34 : decode cX10_fall 34 = .ok (.iload_n 1, 1) := by decide +kernel
theorem dX10_fall_35 : decode cX10_fall 35 = .ok (.iload_n 2, 1) := by decide +kernel
theorem dX10_fall_36 : decode cX10_fall 36 = .ok (.iastore, 1) := by decide +kernel
theorem dX10_fall_37 : decode cX10_fall 37 = .ok (.iload_n 3, 1) := by decide +kernel
theorem dX10_fall_38 : decode cX10_fall 38 = .ok (.ireturn, 1) := by decide +kernel
theorem yd_X10_fall : yX10_fall.cls ≠ "java/lang/invoke/MethodHandle" ∧ yX10_fall.cls ≠ "java/lang/invoke/VarHandle" ∧ (parseMethodDescriptor yX10_fall.desc).map (fun d => d.parameters.length) = some 2 := by decide +kernel
abbrev rm_X10_fall : Room := { frames := 1, cells := 0, slots := 0, locals := 22 }
set_option maxHeartbeats 4000000 in
theorem c_X10_fall (l : Launch) {g : Gl} {σ : Hp} {x0 : Nat} {x1 : Int32} {x2 : Int32} {r : Int32 × Hp} (h : F_X10_fall σ x0 x1 x2 = some r) : Met l yX10_fall (ws_ yX10_fall cX10_fall 4 (some .int)) rm_X10_fall (va_Pc [.ref x0, .int x1, .int x2] (WV g σ)) (Qi g r) 0 0 (frN g) := by
  refine ct_of (by decide) (Nat.le_of_ble_eq_true rfl) ?_
  intro p e s m below meth c ls X hV hl
  have hF : FR g [] := FR_nil
  unfold F_X10_fall at h
  have hl : lv_has ls 4 [(0, .ref x0), (1, .int x1), (2, .int x2)] := hl
  have X : FX g p m c s _ meth cX10_fall 4 RX10 (some .int) "fall" := X
  obtain ⟨-, h⟩ := gd_inv h
  refine lv_iload_n X.1 X.2.1 dX10_fall_0 rfl (lv_at hl 1 rfl) ?_
  refine lv_iconst (v := 0) X.1 X.2.1 dX10_fall_1 (by decide) ?_
  refine lv_bipush (v := 10) X.1 X.2.1 dX10_fall_2 (by decide) ?_
  obtain ⟨v1, s1, hc, h⟩ := b2_inv h
  refine r_ci (va_runS (As := [.int x1, .int 0, .int 10]) (rest := []) (cfX X) (c_X10_in l hc) (va_cwS 3 X.2.2.2.2.1 (lw_S q1104 q1105 q59 q1106) rfl rfl rfl yd_X10_in ⟨Nat.le_of_ble_eq_true rfl, Nat.le_of_ble_eq_true rfl⟩) (preS X hV) rfl rfl hl.1 rfl (lv_room (Nat.le_of_ble_eq_true rfl)) dX10_fall_4 ⟨(Nat.le_of_ble_eq_true rfl), (Nat.le_of_ble_eq_true rfl)⟩) hF (fun H locs hV hF => ?_)
  refine r_ifeq (tgt := 20) X.1 X.2.1 dX10_fall_7 (by decide) h (fun h => ?_) (fun h => ?_)
  · refine lv_bipush (v := (-3)) X.1 X.2.1 dX10_fall_20 (by decide) ?_
    exact r_iret X hV hF h dX10_fall_22
  · refine lv_iload_n X.1 X.2.1 dX10_fall_10 rfl (lv_at hl 2 rfl) ?_
    refine lv_iconst (v := 0) X.1 X.2.1 dX10_fall_11 (by decide) ?_
    refine lv_bipush (v := 30) X.1 X.2.1 dX10_fall_12 (by decide) ?_
    obtain ⟨v2, s2, hc, h⟩ := b2_inv h
    refine r_ci (va_runS (As := [.int x2, .int 0, .int 30]) (rest := []) (cfX X) (c_X10_in l hc) (va_cwS 3 X.2.2.2.2.1 (lw_S q1104 q1105 q59 q1106) rfl rfl rfl yd_X10_in ⟨Nat.le_of_ble_eq_true rfl, Nat.le_of_ble_eq_true rfl⟩) (preS X hV) rfl rfl hl.1 rfl (lv_room (Nat.le_of_ble_eq_true rfl)) dX10_fall_14 ⟨(Nat.le_of_ble_eq_true rfl), (Nat.le_of_ble_eq_true rfl)⟩) hF (fun H locs hV hF => ?_)
    refine r_ifne (tgt := 23) X.1 X.2.1 dX10_fall_17 (by decide) h (fun h => ?_) (fun h => ?_)
    · refine lv_aload_n X.1 X.2.1 dX10_fall_23 rfl (lv_at hl 0 rfl) ?_
      refine r_gR X hV fl_X10_29_10 (by decide) dX10_fall_24 h (fun v3 h => ?_)
      refine lv_iload_n X.1 X.2.1 dX10_fall_27 rfl (lv_at hl 1 rfl) ?_
      refine r_ia X hV dX10_fall_28 h (fun v4 h => ?_)
      refine lv_istore_n (lv' := [(3, .int v4), (0, .ref x0), (1, .int x1), (2, .int x2)]) X.1 X.2.1 dX10_fall_29 rfl hl (by decide) rfl (fun ls hl => ?_)
      refine lv_aload_n X.1 X.2.1 dX10_fall_30 rfl (lv_at hl 1 rfl) ?_
      refine r_gR X hV fl_X10_29_10 (by decide) dX10_fall_31 h (fun v5 h => ?_)
      refine lv_iload_n X.1 X.2.1 dX10_fall_34 rfl (lv_at hl 2 rfl) ?_
      refine lv_iload_n X.1 X.2.1 dX10_fall_35 rfl (lv_at hl 3 rfl) ?_
      refine r_is X hV hF dX10_fall_36 h (fun s3 H locs hV hF h => ?_)
      refine lv_iload_n X.1 X.2.1 dX10_fall_37 rfl (lv_at hl 0 rfl) ?_
      exact r_iret X hV hF h dX10_fall_38
    · refine lv_bipush (v := (-3)) X.1 X.2.1 dX10_fall_20 (by decide) ?_
      exact r_iret X hV hF h dX10_fall_22
/-! PalaceOfRoomsModel.isCorner -/
theorem dX10_isCorner_0 : decode cX10_isCorner 0 = .ok (.iload_n 0, 1) := by decide +kernel
theorem dX10_isCorner_1 : decode cX10_isCorner 1 = .ok (.iconst 0, 1) := by decide +kernel
theorem dX10_isCorner_2 : decode cX10_isCorner 2 = .ok (.bipush 47, 2) := by decide +kernel
theorem dX10_isCorner_4 : decode cX10_isCorner 4 = .ok (.invokestatic 93, 3) := by decide +kernel
theorem dX10_isCorner_7 : decode cX10_isCorner 7 = .ok (.ireturn, 1) := by decide +kernel
theorem yd_X10_isCorner : yX10_isCorner.cls ≠ "java/lang/invoke/MethodHandle" ∧ yX10_isCorner.cls ≠ "java/lang/invoke/VarHandle" ∧ (parseMethodDescriptor yX10_isCorner.desc).map (fun d => d.parameters.length) = some 1 := by decide +kernel
abbrev rm_X10_isCorner : Room := { frames := 1, cells := 0, slots := 0, locals := 22 }
set_option maxHeartbeats 4000000 in
theorem c_X10_isCorner (l : Launch) {g : Gl} {σ : Hp} {x0 : Int32} {r : Int32 × Hp} (h : F_X10_isCorner σ x0 = some r) : Met l yX10_isCorner (ws_ yX10_isCorner cX10_isCorner 1 (some .boolean)) rm_X10_isCorner (va_Pc [.int x0] (WV g σ)) (Qi g r) 0 0 (frN g) := by
  refine ct_of (by decide) (Nat.le_of_ble_eq_true rfl) ?_
  intro p e s m below meth c ls X hV hl
  have hF : FR g [] := FR_nil
  unfold F_X10_isCorner at h
  have hl : lv_has ls 1 [(0, .int x0)] := hl
  have X : FX g p m c s _ meth cX10_isCorner 1 RX10 (some .boolean) "isCorner" := X
  refine lv_iload_n X.1 X.2.1 dX10_isCorner_0 rfl (lv_at hl 0 rfl) ?_
  refine lv_iconst (v := 0) X.1 X.2.1 dX10_isCorner_1 (by decide) ?_
  refine lv_bipush (v := 47) X.1 X.2.1 dX10_isCorner_2 (by decide) ?_
  obtain ⟨v1, s1, hc, h⟩ := b2_inv h
  refine r_ci (va_runS (As := [.int x0, .int 0, .int 47]) (rest := []) (cfX X) (c_X10_in l hc) (va_cwS 3 X.2.2.2.2.1 (lw_S q1104 q1105 q59 q1106) rfl rfl rfl yd_X10_in ⟨Nat.le_of_ble_eq_true rfl, Nat.le_of_ble_eq_true rfl⟩) (preS X hV) rfl rfl hl.1 rfl (lv_room (Nat.le_of_ble_eq_true rfl)) dX10_isCorner_4 ⟨(Nat.le_of_ble_eq_true rfl), (Nat.le_of_ble_eq_true rfl)⟩) hF (fun H locs hV hF => ?_)
  exact r_zrv X hV hF h dX10_isCorner_7
/-! PalaceOfRoomsModel.cornerOf -/
theorem dX10_cornerOf_0 : decode cX10_cornerOf 0 = .ok (.iconst (-1), 1) := by decide +kernel
theorem dX10_cornerOf_1 : decode cX10_cornerOf 1 = .ok (.istore_n 2, 1) := by decide +kernel
theorem dX10_cornerOf_2 : decode cX10_cornerOf 2 = .ok (.iconst 0, 1) := by decide +kernel
theorem dX10_cornerOf_3 : decode cX10_cornerOf 3 = .ok (.istore_n 3, 1) := by decide +kernel
theorem dX10_cornerOf_4 : decode cX10_cornerOf 4 = .ok (.iload_n 3, 1) := by decide +kernel
theorem dX10_cornerOf_5 : decode cX10_cornerOf 5 = .ok (.bipush 48, 2) := by decide +kernel
theorem dX10_cornerOf_7 : decode cX10_cornerOf 7 = .ok (.if_icmp .ge 25, 3) := by decide +kernel
theorem dX10_cornerOf_10 : decode cX10_cornerOf 10 = .ok (.aload_n 0, 1) := by decide +kernel
theorem dX10_cornerOf_11 : decode cX10_cornerOf 11 = .ok (.getfield 32, 3) := by decide +kernel
theorem dX10_cornerOf_14 : decode cX10_cornerOf 14 = .ok (.iload_n 3, 1) := by decide +kernel
theorem dX10_cornerOf_15 : decode cX10_cornerOf 15 = .ok (.iaload, 1) := by decide +kernel
theorem dX10_cornerOf_16 : decode cX10_cornerOf 16 = .ok (.iload_n 1, 1) := by decide +kernel
theorem dX10_cornerOf_17 : decode cX10_cornerOf 17 = .ok (.if_icmp .ne 7, 3) := by decide +kernel
theorem dX10_cornerOf_20 : decode cX10_cornerOf 20 = .ok (.iload_n 3, 1) := by decide +kernel
theorem dX10_cornerOf_21 : decode cX10_cornerOf 21 = .ok (.goto 4, 3) := by decide +kernel
theorem dX10_cornerOf_24 : decode cX10_cornerOf 24 = .ok (.iload_n 2, 1) := by decide +kernel
theorem dX10_cornerOf_25 : decode cX10_cornerOf 25 = .ok (.istore_n 2, 1) := by decide +kernel
theorem dX10_cornerOf_26 : decode cX10_cornerOf 26 = .ok (.iinc 3 1, 3) := by decide +kernel
theorem dX10_cornerOf_29 : decode cX10_cornerOf 29 = .ok (.goto (-25), 3) := by decide +kernel
theorem dX10_cornerOf_32 : decode cX10_cornerOf 32 = .ok (.iload_n 2, 1) := by decide +kernel
theorem dX10_cornerOf_33 : decode cX10_cornerOf 33 = .ok (.ireturn, 1) := by decide +kernel
theorem yd_X10_cornerOf : yX10_cornerOf.cls ≠ "java/lang/invoke/MethodHandle" ∧ yX10_cornerOf.cls ≠ "java/lang/invoke/VarHandle" ∧ (parseMethodDescriptor yX10_cornerOf.desc).map (fun d => d.parameters.length) = some 1 := by decide +kernel
abbrev rm_X10_cornerOf : Room := { frames := 0, cells := 0, slots := 0, locals := 0 }
set_option maxHeartbeats 4000000 in
theorem w_X10_cornerOf_4_b {p : Program} {l : Launch} {e : Env} {s : State} {m : MethodId} {args : Array Value} {below : List Frame} {meth : Method} {c : Code} {g : Gl} (X : FX g p m c s args meth cX10_cornerOf 4 RX10 (some .int) "cornerOf") {r : Int32 × Hp} {rec4 : Int32 × Int32 → Option (Int32 × Hp)} {σ : Hp} {x0 : Nat} {x1 : Int32} {x2 : Int32} {x3 : Int32} (hr4 : ∀ (st : Int32 × Int32), rec4 st = some r → ∀ (H : Heap) (locs : List Loc) (ls : Array Slot), HV g σ H → FR g locs → lv_has ls 4 [(0, .ref x0), (1, .int x1), (2, .int st.1), (3, .int st.2)] → W p l e rm_X10_cornerOf s m args below meth c H locs 0 0 (MQ below (Qi g r) args s 0 0 (frN g)) (F0 m 4 ls [])) {H : Heap} {locs : List Loc} {ls : Array Slot} (h : B_X10_cornerOf_4 σ x0 x1 rec4 x2 x3 = some r) (hV : HV g σ H) (hF : FR g locs) (hl : lv_has ls 4 [(0, .ref x0), (1, .int x1), (2, .int x2), (3, .int x3)]) : W p l e rm_X10_cornerOf s m args below meth c H locs 0 0 (MQ below (Qi g r) args s 0 0 (frN g)) (F0 m 4 ls []) := by
  unfold B_X10_cornerOf_4 at h
  refine lv_iload_n X.1 X.2.1 dX10_cornerOf_4 rfl (lv_at hl 3 rfl) ?_
  refine lv_bipush (v := 48) X.1 X.2.1 dX10_cornerOf_5 (by decide) ?_
  refine r_ge (tgt := 32) X.1 X.2.1 dX10_cornerOf_7 (by decide) h (fun h => ?_) (fun h => ?_)
  · refine lv_iload_n X.1 X.2.1 dX10_cornerOf_32 rfl (lv_at hl 2 rfl) ?_
    exact r_iret X hV hF h dX10_cornerOf_33
  · refine lv_aload_n X.1 X.2.1 dX10_cornerOf_10 rfl (lv_at hl 0 rfl) ?_
    refine r_gR X hV fl_X10_32_10 (by decide) dX10_cornerOf_11 h (fun v1 h => ?_)
    refine lv_iload_n X.1 X.2.1 dX10_cornerOf_14 rfl (lv_at hl 3 rfl) ?_
    refine r_ia X hV dX10_cornerOf_15 h (fun v2 h => ?_)
    refine lv_iload_n X.1 X.2.1 dX10_cornerOf_16 rfl (lv_at hl 1 rfl) ?_
    refine r_ne (tgt := 24) X.1 X.2.1 dX10_cornerOf_17 (by decide) h (fun h => ?_) (fun h => ?_)
    · refine lv_iload_n X.1 X.2.1 dX10_cornerOf_24 rfl (lv_at hl 2 rfl) ?_
      refine lv_istore_n (lv' := [(2, .int x2), (0, .ref x0), (1, .int x1), (3, .int x3)]) X.1 X.2.1 dX10_cornerOf_25 rfl hl (by decide) rfl (fun ls hl => ?_)
      refine lv_iinc (v := x3 + 1) (lv' := [(3, .int (x3 + 1)), (2, .int x2), (0, .ref x0), (1, .int x1)]) X.1 X.2.1 dX10_cornerOf_26 hl (k := 3) rfl rfl (by decide) rfl (fun ls hl => ?_)
      refine lv_goto (tgt := 4) X.1 X.2.1 dX10_cornerOf_29 (by decide) ?_
      exact hr4 (x2, x3 + 1) h _ _ _ hV hF (lv_sub hl [2, 3, 1, 0] rfl)
    · refine lv_iload_n X.1 X.2.1 dX10_cornerOf_20 rfl (lv_at hl 3 rfl) ?_
      refine lv_goto (tgt := 25) X.1 X.2.1 dX10_cornerOf_21 (by decide) ?_
      refine lv_istore_n (lv' := [(2, .int x3), (0, .ref x0), (1, .int x1), (3, .int x3)]) X.1 X.2.1 dX10_cornerOf_25 rfl hl (by decide) rfl (fun ls hl => ?_)
      refine lv_iinc (v := x3 + 1) (lv' := [(3, .int (x3 + 1)), (2, .int x3), (0, .ref x0), (1, .int x1)]) X.1 X.2.1 dX10_cornerOf_26 hl (k := 3) rfl rfl (by decide) rfl (fun ls hl => ?_)
      refine lv_goto (tgt := 4) X.1 X.2.1 dX10_cornerOf_29 (by decide) ?_
      exact hr4 (x3, x3 + 1) h _ _ _ hV hF (lv_sub hl [2, 3, 1, 0] rfl)
set_option maxHeartbeats 4000000 in
theorem w_X10_cornerOf_4 {p : Program} {l : Launch} {e : Env} {s : State} {m : MethodId} {args : Array Value} {below : List Frame} {meth : Method} {c : Code} {g : Gl} (X : FX g p m c s args meth cX10_cornerOf 4 RX10 (some .int) "cornerOf") {r : Int32 × Hp} {σ : Hp} {x0 : Nat} {x1 : Int32}  : ∀ (n : Nat) (st : Int32 × Int32), L_X10_cornerOf_4 σ x0 x1 n st = some r → ∀ (H : Heap) (locs : List Loc) (ls : Array Slot), HV g σ H → FR g locs → lv_has ls 4 [(0, .ref x0), (1, .int x1), (2, .int st.1), (3, .int st.2)] → W p l e rm_X10_cornerOf s m args below meth c H locs 0 0 (MQ below (Qi g r) args s 0 0 (frN g)) (F0 m 4 ls []) := by
  intro n
  induction n with
  | zero =>
    intro st h
    rw [L_X10_cornerOf_4_0] at h
    cases h
  | succ n ih =>
    intro st h H locs ls hV hF hl
    rw [L_X10_cornerOf_4_s] at h
    exact w_X10_cornerOf_4_b X  ih h hV hF hl
set_option maxHeartbeats 4000000 in
theorem c_X10_cornerOf (l : Launch) {g : Gl} {σ : Hp} {x0 : Nat} {x1 : Int32} {r : Int32 × Hp} (h : F_X10_cornerOf σ x0 x1 = some r) : Met l yX10_cornerOf (ws_ yX10_cornerOf cX10_cornerOf 4 (some .int)) rm_X10_cornerOf (va_Pc [.ref x0, .int x1] (WV g σ)) (Qi g r) 0 0 (frN g) := by
  refine ct_of (by decide) (Nat.le_of_ble_eq_true rfl) ?_
  intro p e s m below meth c ls X hV hl
  have hF : FR g [] := FR_nil
  unfold F_X10_cornerOf at h
  have hl : lv_has ls 4 [(0, .ref x0), (1, .int x1)] := hl
  have X : FX g p m c s _ meth cX10_cornerOf 4 RX10 (some .int) "cornerOf" := X
  obtain ⟨-, h⟩ := gd_inv h
  refine lv_iconst (v := (-1)) X.1 X.2.1 dX10_cornerOf_0 (by decide) ?_
  refine lv_istore_n (lv' := [(2, .int (-1)), (0, .ref x0), (1, .int x1)]) X.1 X.2.1 dX10_cornerOf_1 rfl hl (by decide) rfl (fun ls hl => ?_)
  refine lv_iconst (v := 0) X.1 X.2.1 dX10_cornerOf_2 (by decide) ?_
  refine lv_istore_n (lv' := [(3, .int 0), (2, .int (-1)), (0, .ref x0), (1, .int x1)]) X.1 X.2.1 dX10_cornerOf_3 rfl hl (by decide) rfl (fun ls hl => ?_)
  exact w_X10_cornerOf_4 X  FU ((-1), 0) h _ _ _ hV hF (lv_sub hl [2, 3, 1, 0] rfl)
