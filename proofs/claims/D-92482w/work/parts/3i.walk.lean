set_option maxRecDepth 100000
/-! PalaceOfRoomsModel.plan -/
theorem dX10_plan_0 : decode cX10_plan 0 = .ok (.iload_n 1, 1) := by decide +kernel
theorem dX10_plan_1 : decode cX10_plan 1 = .ok (.iload_n 2, 1) := by decide +kernel
theorem dX10_plan_2 : decode cX10_plan 2 = .ok (.invokestatic 245, 3) := by decide +kernel
theorem dX10_plan_5 : decode cX10_plan 5 = .ok (.ifCond .eq 14, 3) := by decide +kernel
theorem dX10_plan_8 : decode cX10_plan 8 = .ok (.iload_n 3, 1) := by decide +kernel
theorem dX10_plan_9 : decode cX10_plan 9 = .ok (.iconst (-1), 1) := by decide +kernel
theorem dX10_plan_10 : decode cX10_plan 10 = .ok (.iload_n 1, 1) := by decide +kernel
theorem dX10_plan_11 : decode cX10_plan 11 = .ok (.iconst 1, 1) := by decide +kernel
theorem dX10_plan_12 : decode cX10_plan 12 = .ok (.isub, 1) := by decide +kernel
theorem dX10_plan_13 : decode cX10_plan 13 = .ok (.invokestatic 93, 3) := by decide +kernel
theorem dX10_plan_16 : decode cX10_plan 16 = .ok (.ifCond .ne 6, 3) := by decide +kernel
theorem dX10_plan_19 : decode cX10_plan 19 = .ok (.bipush (-3), 2) := by decide +kernel
theorem dX10_plan_21 : decode cX10_plan 21 = .ok (.ireturn, 1) := by decide +kernel
theorem dX10_plan_22 : decode cX10_plan 22 = .ok (.aload_n 0, 1) := by decide +kernel
theorem dX10_plan_23 : decode cX10_plan 23 = .ok (.invokevirtual 131, 3) := by decide +kernel
theorem dX10_plan_26 : decode cX10_plan 26 = .ok (.iconst (-1), 1) := by decide +kernel
theorem dX10_plan_27 : decode cX10_plan 27 = .ok (.istore 4, 2) := by decide +kernel
theorem dX10_plan_29 : decode cX10_plan 29 = .ok (.iconst 0, 1) := by decide +kernel
theorem dX10_plan_30 : decode cX10_plan 30 = .ok (.istore 5, 2) := by decide +kernel
theorem dX10_plan_32 : decode cX10_plan 32 = .ok (.aload_n 0, 1) := by decide +kernel
theorem dX10_plan_33 : decode cX10_plan 33 = .ok (.getfield 56, 3) := by decide +kernel
theorem dX10_plan_36 : decode cX10_plan 36 = .ok (.iconst 0, 1) := by decide +kernel
theorem dX10_plan_37 : decode cX10_plan 37 = .ok (.iconst (-1), 1) := by decide +kernel
theorem dX10_plan_38 : decode cX10_plan 38 = .ok (.iastore, 1) := by decide +kernel
theorem dX10_plan_39 : decode cX10_plan 39 = .ok (.iload 5, 2) := by decide +kernel
theorem dX10_plan_41 : decode cX10_plan 41 = .ok (.ifCond .lt 134, 3) := by decide +kernel
theorem dX10_plan_44 : decode cX10_plan 44 = .ok (.aload_n 0, 1) := by decide +kernel
theorem dX10_plan_45 : decode cX10_plan 45 = .ok (.getfield 56, 3) := by decide +kernel
theorem dX10_plan_48 : decode cX10_plan 48 = .ok (.iload 5, 2) := by decide +kernel
theorem dX10_plan_50 : decode cX10_plan 50 = .ok (.dup2, 1) := by decide +kernel
theorem dX10_plan_51 : decode cX10_plan 51 = .ok (.iaload, 1) := by decide +kernel
theorem dX10_plan_52 : decode cX10_plan 52 = .ok (.iconst 1, 1) := by decide +kernel
theorem dX10_plan_53 : decode cX10_plan 53 = .ok (.iadd, 1) := by decide +kernel
theorem dX10_plan_54 : decode cX10_plan 54 = .ok (.iastore, 1) := by decide +kernel
theorem dX10_plan_55 : decode cX10_plan 55 = .ok (.aload_n 0, 1) := by decide +kernel
theorem dX10_plan_56 : decode cX10_plan 56 = .ok (.getfield 56, 3) := by decide +kernel
theorem dX10_plan_59 : decode cX10_plan 59 = .ok (.iload 5, 2) := by decide +kernel
theorem dX10_plan_61 : decode cX10_plan 61 = .ok (.iaload, 1) := by decide +kernel
theorem dX10_plan_62 : decode cX10_plan 62 = .ok (.bipush 8, 2) := by decide +kernel
theorem dX10_plan_64 : decode cX10_plan 64 = .ok (.if_icmp .le 9, 3) := by decide +kernel
theorem dX10_plan_67 : decode cX10_plan 67 = .ok (.iinc 5 (-1), 3) := by decide +kernel
theorem dX10_plan_70 : decode cX10_plan 70 = .ok (.goto (-31), 3) := by decide +kernel
theorem dX10_plan_73 : decode cX10_plan 73 = .ok (.aload_n 0, 1) := by decide +kernel
theorem dX10_plan_74 : decode cX10_plan 74 = .ok (.iload 5, 2) := by decide +kernel
theorem dX10_plan_76 : decode cX10_plan 76 = .ok (.aload_n 0, 1) := by decide +kernel
theorem dX10_plan_77 : decode cX10_plan 77 = .ok (.getfield 56, 3) := by decide +kernel
theorem dX10_plan_80 : decode cX10_plan 80 = .ok (.iload 5, 2) := by decide +kernel
theorem dX10_plan_82 : decode cX10_plan 82 = .ok (.iaload, 1) := by decide +kernel
theorem dX10_plan_83 : decode cX10_plan 83 = .ok (.iload_n 2, 1) := by decide +kernel
theorem dX10_plan_84 : decode cX10_plan 84 = .ok (.invokevirtual 248, 3) := by decide +kernel
theorem dX10_plan_87 : decode cX10_plan 87 = .ok (.ifCond .eq (-48), 3) := by decide +kernel
theorem dX10_plan_90 : decode cX10_plan 90 = .ok (.iinc 5 1, 3) := by decide +kernel
theorem dX10_plan_93 : decode cX10_plan 93 = .ok (.aload_n 0, 1) := by decide +kernel
theorem dX10_plan_94 : decode cX10_plan 94 = .ok (.getfield 56, 3) := by decide +kernel
theorem dX10_plan_97 : decode cX10_plan 97 = .ok (.iload 5, 2) := by decide +kernel
theorem dX10_plan_99 : decode cX10_plan 99 = .ok (.iconst (-1), 1) := by decide +kernel
theorem dX10_plan_100 : decode cX10_plan 100 = .ok (.iastore, 1) := by decide +kernel
theorem dX10_plan_101 : decode cX10_plan 101 = .ok (.iload 5, 2) := by decide +kernel
theorem dX10_plan_103 : decode cX10_plan 103 = .ok (.iload_n 1, 1) := by decide +kernel
theorem dX10_plan_104 : decode cX10_plan 104 = .ok (.if_icmp .ne (-65), 3) := by decide +kernel
theorem dX10_plan_107 : decode cX10_plan 107 = .ok (.aload_n 0, 1) := by decide +kernel
theorem dX10_plan_108 : decode cX10_plan 108 = .ok (.bipush 48, 2) := by decide +kernel
theorem dX10_plan_110 : decode cX10_plan 110 = .ok (.iload_n 1, 1) := by decide +kernel
theorem dX10_plan_111 : decode cX10_plan 111 = .ok (.imul, 1) := by decide +kernel
theorem dX10_plan_112 : decode cX10_plan 112 = .ok (.invokevirtual 251, 3) := by decide +kernel
theorem dX10_plan_115 : decode cX10_plan 115 = .ok (.istore 6, 2) := by decide +kernel
theorem dX10_plan_117 : decode cX10_plan 117 = .ok (.iconst 0, 1) := by decide +kernel
theorem dX10_plan_118 : decode cX10_plan 118 = .ok (.istore 7, 2) := by decide +kernel
theorem dX10_plan_120 : decode cX10_plan 120 = .ok (.iload 7, 2) := by decide +kernel
theorem dX10_plan_122 : decode cX10_plan 122 = .ok (.iload_n 1, 1) := by decide +kernel
theorem dX10_plan_123 : decode cX10_plan 123 = .ok (.if_icmp .ge 30, 3) := by decide +kernel
theorem dX10_plan_126 : decode cX10_plan 126 = .ok (.iload 6, 2) := by decide +kernel
theorem dX10_plan_128 : decode cX10_plan 128 = .ok (.iload 4, 2) := by decide +kernel
theorem dX10_plan_130 : decode cX10_plan 130 = .ok (.if_icmp .le 23, 3) := by decide +kernel
theorem dX10_plan_133 : decode cX10_plan 133 = .ok (.aload_n 0, 1) := by decide +kernel
theorem dX10_plan_134 : decode cX10_plan 134 = .ok (.getfield 59, 3) := by decide +kernel
theorem dX10_plan_137 : decode cX10_plan 137 = .ok (.iload 7, 2) := by decide +kernel
theorem dX10_plan_139 : decode cX10_plan 139 = .ok (.aload_n 0, 1) := by decide +kernel
theorem dX10_plan_140 : decode cX10_plan 140 = .ok (.getfield 56, 3) := by decide +kernel
theorem dX10_plan_143 : decode cX10_plan 143 = .ok (.iload 7, 2) := by decide +kernel
theorem dX10_plan_145 : decode cX10_plan 145 = .ok (.iaload, 1) := by decide +kernel
theorem dX10_plan_146 : decode cX10_plan 146 = .ok (.iastore, 1) := by decide +kernel
theorem dX10_plan_147 : decode cX10_plan 147 = .ok (.iinc 7 1, 3) := by decide +kernel
theorem dX10_plan_150 : decode cX10_plan 150 = .ok (.goto (-30), 3) := by decide +kernel
theorem dX10_plan_153 : decode cX10_plan 153 = .ok (.iload 6, 2) := by decide +kernel
theorem dX10_plan_155 : decode cX10_plan 155 = .ok (.iload 4, 2) := by decide +kernel
theorem dX10_plan_157 : decode cX10_plan 157 = .ok (.if_icmp .le 8, 3) := by decide +kernel
theorem dX10_plan_160 : decode cX10_plan 160 = .ok (.iload 6, 2) := by decide +kernel
theorem dX10_plan_162 : decode cX10_plan 162 = .ok (.goto 5, 3) := by decide +kernel
theorem dX10_plan_165 : decode cX10_plan 165 = .ok (.iload 4, 2) := by decide +kernel
theorem dX10_plan_167 : decode cX10_plan 167 = .ok (.istore 4, 2) := by decide +kernel
theorem dX10_plan_169 : decode cX10_plan 169 = .ok (.iinc 5 (-1), 3) := by decide +kernel
theorem dX10_plan_172 : decode cX10_plan 172 = .ok (.goto (-133), 3) := by decide +kernel
theorem dX10_plan_175 : decode cX10_plan 175 = .ok (.iload_n 3, 1) := by decide +kernel
theorem dX10_plan_176 : decode cX10_plan 176 = .ok (.iconst (-1), 1) := by decide +kernel
theorem dX10_plan_177 : decode cX10_plan 177 = .ok (.if_icmp .ne 8, 3) := by decide +kernel
theorem dX10_plan_180 : decode cX10_plan 180 = .ok (.iload 4, 2) := by decide +kernel
theorem dX10_plan_182 : decode cX10_plan 182 = .ok (.goto 9, 3) := by decide +kernel
theorem dX10_plan_185 : decode cX10_plan 185 = .ok (.aload_n 0, 1) := by decide +kernel
theorem dX10_plan_186 : decode cX10_plan 186 = .ok (.getfield 59, 3) := by decide +kernel
theorem dX10_plan_189 : decode cX10_plan 189 = .ok (.iload_n 3, 1) := by decide +kernel
theorem dX10_plan_190 : decode cX10_plan 190 = .ok (.iaload, 1) := by decide +kernel
theorem dX10_plan_191 : decode cX10_plan 191 = .ok (.ireturn, 1) := by decide +kernel
theorem yd_X10_plan : yX10_plan.cls ≠ "java/lang/invoke/MethodHandle" ∧ yX10_plan.cls ≠ "java/lang/invoke/VarHandle" ∧ (parseMethodDescriptor yX10_plan.desc).map (fun d => d.parameters.length) = some 3 := by decide +kernel
theorem fl_X10_59_10 : FLk RX10 59 10 18 "[I" := ⟨RX10, TX10, 39, "PalaceOfRoomsModel", rfl, by decide, (fun q => by have h1 := q.1; have h2 := q.2; omega), rfl, in_X10, Or.inl q997, Or.inl rfl⟩
theorem fl_X10_56_10 : FLk RX10 56 10 17 "[I" := ⟨RX10, TX10, 39, "PalaceOfRoomsModel", rfl, by decide, (fun q => by have h1 := q.1; have h2 := q.2; omega), rfl, in_X10, Or.inl q996, Or.inl rfl⟩
abbrev rm_X10_plan : Room := { frames := 4, cells := 0, slots := 0, locals := 97 }
set_option maxHeartbeats 4000000 in
theorem w_X10_plan_175 {p : Program} {l : Launch} {e : Env} {s : State} {m : MethodId} {args : Array Value} {below : List Frame} {meth : Method} {c : Code} {g : Gl} (X : FX g p m c s args meth cX10_plan 8 RX10 (some .int) "plan") {r : Int32 × Hp} {σ : Hp} {x0 : Nat} {x3 : Int32} {x4 : Int32}  {H : Heap} {locs : List Loc} {ls : Array Slot} (h : F_X10_plan_175 σ x0 x3 x4 = some r) (hV : HV g σ H) (hF : FR g locs) (hl : lv_has ls 8 [(0, .ref x0), (3, .int x3), (4, .int x4)]) : W p l e rm_X10_plan s m args below meth c H locs 0 0 (MQ below (Qi g r) args s 0 0 (frN g)) (F0 m 175 ls []) := by
  unfold F_X10_plan_175 at h
  refine lv_iload_n X.1 X.2.1 dX10_plan_175 rfl (lv_at hl 1 rfl) ?_
  refine lv_iconst (v := (-1)) X.1 X.2.1 dX10_plan_176 (by decide) ?_
  refine r_ne (tgt := 185) X.1 X.2.1 dX10_plan_177 (by decide) h (fun h => ?_) (fun h => ?_)
  · refine lv_aload_n X.1 X.2.1 dX10_plan_185 rfl (lv_at hl 0 rfl) ?_
    refine r_gR X hV fl_X10_59_10 (by decide) dX10_plan_186 h (fun v1 h => ?_)
    refine lv_iload_n X.1 X.2.1 dX10_plan_189 rfl (lv_at hl 1 rfl) ?_
    refine r_ia X hV dX10_plan_190 h (fun v2 h => ?_)
    exact r_iret X hV hF h dX10_plan_191
  · refine lv_iload X.1 X.2.1 dX10_plan_180 (lv_at hl 2 rfl) ?_
    refine lv_goto (tgt := 191) X.1 X.2.1 dX10_plan_182 (by decide) ?_
    exact r_iret X hV hF h dX10_plan_191
set_option maxHeartbeats 4000000 in
theorem w_X10_plan_153 {p : Program} {l : Launch} {e : Env} {s : State} {m : MethodId} {args : Array Value} {below : List Frame} {meth : Method} {c : Code} {g : Gl} (X : FX g p m c s args meth cX10_plan 8 RX10 (some .int) "plan") {r : Int32 × Hp} {rec39 : Hp × Int32 × Int32 → Option (Int32 × Hp)} {σ : Hp} {x0 : Nat} {x1 : Int32} {x2 : Int32} {x3 : Int32} {x4 : Int32} {x5 : Int32} {x6 : Int32} (hr39 : ∀ (st : Hp × Int32 × Int32), rec39 st = some r → ∀ (H : Heap) (locs : List Loc) (ls : Array Slot), HV g st.1 H → FR g locs → lv_has ls 8 [(0, .ref x0), (1, .int x1), (2, .int x2), (3, .int x3), (4, .int st.2.1), (5, .int st.2.2)] → W p l e rm_X10_plan s m args below meth c H locs 0 0 (MQ below (Qi g r) args s 0 0 (frN g)) (F0 m 39 ls [])) {H : Heap} {locs : List Loc} {ls : Array Slot} (h : F_X10_plan_153 rec39 σ x0 x1 x2 x3 x4 x5 x6 = some r) (hV : HV g σ H) (hF : FR g locs) (hl : lv_has ls 8 [(0, .ref x0), (1, .int x1), (2, .int x2), (3, .int x3), (4, .int x4), (5, .int x5), (6, .int x6)]) : W p l e rm_X10_plan s m args below meth c H locs 0 0 (MQ below (Qi g r) args s 0 0 (frN g)) (F0 m 153 ls []) := by
  unfold F_X10_plan_153 at h
  refine lv_iload X.1 X.2.1 dX10_plan_153 (lv_at hl 6 rfl) ?_
  refine lv_iload X.1 X.2.1 dX10_plan_155 (lv_at hl 4 rfl) ?_
  refine r_le (tgt := 165) X.1 X.2.1 dX10_plan_157 (by decide) h (fun h => ?_) (fun h => ?_)
  · refine lv_iload X.1 X.2.1 dX10_plan_165 (lv_at hl 4 rfl) ?_
    refine lv_istore (lv' := [(4, .int x4), (0, .ref x0), (1, .int x1), (2, .int x2), (3, .int x3), (5, .int x5), (6, .int x6)]) X.1 X.2.1 dX10_plan_167 hl (by decide) rfl (fun ls hl => ?_)
    refine lv_iinc (v := x5 + (-1)) (lv' := [(5, .int (x5 + (-1))), (4, .int x4), (0, .ref x0), (1, .int x1), (2, .int x2), (3, .int x3), (6, .int x6)]) X.1 X.2.1 dX10_plan_169 hl (k := 5) rfl rfl (by decide) rfl (fun ls hl => ?_)
    refine lv_goto (tgt := 39) X.1 X.2.1 dX10_plan_172 (by decide) ?_
    exact hr39 (σ, x4, x5 + (-1)) h _ _ _ hV hF (lv_sub hl [2, 3, 4, 5, 1, 0] rfl)
  · refine lv_iload X.1 X.2.1 dX10_plan_160 (lv_at hl 6 rfl) ?_
    refine lv_goto (tgt := 167) X.1 X.2.1 dX10_plan_162 (by decide) ?_
    refine lv_istore (lv' := [(4, .int x6), (0, .ref x0), (1, .int x1), (2, .int x2), (3, .int x3), (5, .int x5), (6, .int x6)]) X.1 X.2.1 dX10_plan_167 hl (by decide) rfl (fun ls hl => ?_)
    refine lv_iinc (v := x5 + (-1)) (lv' := [(5, .int (x5 + (-1))), (4, .int x6), (0, .ref x0), (1, .int x1), (2, .int x2), (3, .int x3), (6, .int x6)]) X.1 X.2.1 dX10_plan_169 hl (k := 5) rfl rfl (by decide) rfl (fun ls hl => ?_)
    refine lv_goto (tgt := 39) X.1 X.2.1 dX10_plan_172 (by decide) ?_
    exact hr39 (σ, x6, x5 + (-1)) h _ _ _ hV hF (lv_sub hl [2, 3, 4, 5, 1, 0] rfl)
set_option maxHeartbeats 4000000 in
theorem w_X10_plan_120_b {p : Program} {l : Launch} {e : Env} {s : State} {m : MethodId} {args : Array Value} {below : List Frame} {meth : Method} {c : Code} {g : Gl} (X : FX g p m c s args meth cX10_plan 8 RX10 (some .int) "plan") {r : Int32 × Hp} {rec39 : Hp × Int32 × Int32 → Option (Int32 × Hp)} {rec120 : Hp × Int32 → Option (Int32 × Hp)} {x0 : Nat} {x1 : Int32} {x2 : Int32} {x3 : Int32} {x4 : Int32} {x5 : Int32} {x6 : Int32} {σ : Hp} {x7 : Int32} (hr39 : ∀ (st : Hp × Int32 × Int32), rec39 st = some r → ∀ (H : Heap) (locs : List Loc) (ls : Array Slot), HV g st.1 H → FR g locs → lv_has ls 8 [(0, .ref x0), (1, .int x1), (2, .int x2), (3, .int x3), (4, .int st.2.1), (5, .int st.2.2)] → W p l e rm_X10_plan s m args below meth c H locs 0 0 (MQ below (Qi g r) args s 0 0 (frN g)) (F0 m 39 ls [])) (hr120 : ∀ (st : Hp × Int32), rec120 st = some r → ∀ (H : Heap) (locs : List Loc) (ls : Array Slot), HV g st.1 H → FR g locs → lv_has ls 8 [(0, .ref x0), (1, .int x1), (2, .int x2), (3, .int x3), (4, .int x4), (5, .int x5), (6, .int x6), (7, .int st.2)] → W p l e rm_X10_plan s m args below meth c H locs 0 0 (MQ below (Qi g r) args s 0 0 (frN g)) (F0 m 120 ls [])) {H : Heap} {locs : List Loc} {ls : Array Slot} (h : B_X10_plan_120 rec39 x0 x1 x2 x3 x4 x5 x6 rec120 σ x7 = some r) (hV : HV g σ H) (hF : FR g locs) (hl : lv_has ls 8 [(0, .ref x0), (1, .int x1), (2, .int x2), (3, .int x3), (4, .int x4), (5, .int x5), (6, .int x6), (7, .int x7)]) : W p l e rm_X10_plan s m args below meth c H locs 0 0 (MQ below (Qi g r) args s 0 0 (frN g)) (F0 m 120 ls []) := by
  unfold B_X10_plan_120 at h
  refine lv_iload X.1 X.2.1 dX10_plan_120 (lv_at hl 7 rfl) ?_
  refine lv_iload_n X.1 X.2.1 dX10_plan_122 rfl (lv_at hl 1 rfl) ?_
  refine r_ge (tgt := 153) X.1 X.2.1 dX10_plan_123 (by decide) h (fun h => ?_) (fun h => ?_)
  · exact w_X10_plan_153 X hr39 h hV hF (lv_sub hl [0, 1, 2, 3, 4, 5, 6] rfl)
  · refine lv_iload X.1 X.2.1 dX10_plan_126 (lv_at hl 6 rfl) ?_
    refine lv_iload X.1 X.2.1 dX10_plan_128 (lv_at hl 4 rfl) ?_
    refine r_le (tgt := 153) X.1 X.2.1 dX10_plan_130 (by decide) h (fun h => ?_) (fun h => ?_)
    · exact w_X10_plan_153 X hr39 h hV hF (lv_sub hl [0, 1, 2, 3, 4, 5, 6] rfl)
    · refine lv_aload_n X.1 X.2.1 dX10_plan_133 rfl (lv_at hl 0 rfl) ?_
      refine r_gR X hV fl_X10_59_10 (by decide) dX10_plan_134 h (fun v1 h => ?_)
      refine lv_iload X.1 X.2.1 dX10_plan_137 (lv_at hl 7 rfl) ?_
      refine lv_aload_n X.1 X.2.1 dX10_plan_139 rfl (lv_at hl 0 rfl) ?_
      refine r_gR X hV fl_X10_56_10 (by decide) dX10_plan_140 h (fun v2 h => ?_)
      refine lv_iload X.1 X.2.1 dX10_plan_143 (lv_at hl 7 rfl) ?_
      refine r_ia X hV dX10_plan_145 h (fun v3 h => ?_)
      refine r_is X hV hF dX10_plan_146 h (fun s1 H locs hV hF h => ?_)
      refine lv_iinc (v := x7 + 1) (lv' := [(7, .int (x7 + 1)), (0, .ref x0), (1, .int x1), (2, .int x2), (3, .int x3), (4, .int x4), (5, .int x5), (6, .int x6)]) X.1 X.2.1 dX10_plan_147 hl (k := 7) rfl rfl (by decide) rfl (fun ls hl => ?_)
      refine lv_goto (tgt := 120) X.1 X.2.1 dX10_plan_150 (by decide) ?_
      exact hr120 (s1, x7 + 1) h _ _ _ hV hF (lv_sub hl [1, 2, 3, 4, 5, 6, 7, 0] rfl)
set_option maxHeartbeats 4000000 in
theorem w_X10_plan_120 {p : Program} {l : Launch} {e : Env} {s : State} {m : MethodId} {args : Array Value} {below : List Frame} {meth : Method} {c : Code} {g : Gl} (X : FX g p m c s args meth cX10_plan 8 RX10 (some .int) "plan") {r : Int32 × Hp} {rec39 : Hp × Int32 × Int32 → Option (Int32 × Hp)} {x0 : Nat} {x1 : Int32} {x2 : Int32} {x3 : Int32} {x4 : Int32} {x5 : Int32} {x6 : Int32} (hr39 : ∀ (st : Hp × Int32 × Int32), rec39 st = some r → ∀ (H : Heap) (locs : List Loc) (ls : Array Slot), HV g st.1 H → FR g locs → lv_has ls 8 [(0, .ref x0), (1, .int x1), (2, .int x2), (3, .int x3), (4, .int st.2.1), (5, .int st.2.2)] → W p l e rm_X10_plan s m args below meth c H locs 0 0 (MQ below (Qi g r) args s 0 0 (frN g)) (F0 m 39 ls [])) : ∀ (n : Nat) (st : Hp × Int32), L_X10_plan_120 rec39 x0 x1 x2 x3 x4 x5 x6 n st = some r → ∀ (H : Heap) (locs : List Loc) (ls : Array Slot), HV g st.1 H → FR g locs → lv_has ls 8 [(0, .ref x0), (1, .int x1), (2, .int x2), (3, .int x3), (4, .int x4), (5, .int x5), (6, .int x6), (7, .int st.2)] → W p l e rm_X10_plan s m args below meth c H locs 0 0 (MQ below (Qi g r) args s 0 0 (frN g)) (F0 m 120 ls []) := by
  intro n
  induction n with
  | zero =>
    intro st h
    rw [L_X10_plan_120_0] at h
    cases h
  | succ n ih =>
    intro st h H locs ls hV hF hl
    rw [L_X10_plan_120_s] at h
    exact w_X10_plan_120_b X hr39 ih h hV hF hl
set_option maxHeartbeats 4000000 in
theorem w_X10_plan_39_b {p : Program} {l : Launch} {e : Env} {s : State} {m : MethodId} {args : Array Value} {below : List Frame} {meth : Method} {c : Code} {g : Gl} (X : FX g p m c s args meth cX10_plan 8 RX10 (some .int) "plan") {r : Int32 × Hp} {rec39 : Hp × Int32 × Int32 → Option (Int32 × Hp)} {x0 : Nat} {x1 : Int32} {x2 : Int32} {x3 : Int32} {σ : Hp} {x4 : Int32} {x5 : Int32} (hr39 : ∀ (st : Hp × Int32 × Int32), rec39 st = some r → ∀ (H : Heap) (locs : List Loc) (ls : Array Slot), HV g st.1 H → FR g locs → lv_has ls 8 [(0, .ref x0), (1, .int x1), (2, .int x2), (3, .int x3), (4, .int st.2.1), (5, .int st.2.2)] → W p l e rm_X10_plan s m args below meth c H locs 0 0 (MQ below (Qi g r) args s 0 0 (frN g)) (F0 m 39 ls [])) {H : Heap} {locs : List Loc} {ls : Array Slot} (h : B_X10_plan_39 x0 x1 x2 x3 rec39 σ x4 x5 = some r) (hV : HV g σ H) (hF : FR g locs) (hl : lv_has ls 8 [(0, .ref x0), (1, .int x1), (2, .int x2), (3, .int x3), (4, .int x4), (5, .int x5)]) : W p l e rm_X10_plan s m args below meth c H locs 0 0 (MQ below (Qi g r) args s 0 0 (frN g)) (F0 m 39 ls []) := by
  unfold B_X10_plan_39 at h
  refine lv_iload X.1 X.2.1 dX10_plan_39 (lv_at hl 5 rfl) ?_
  refine r_iflt (tgt := 175) X.1 X.2.1 dX10_plan_41 (by decide) h (fun h => ?_) (fun h => ?_)
  · exact w_X10_plan_175 X  h hV hF (lv_sub hl [0, 3, 4] rfl)
  · refine lv_aload_n X.1 X.2.1 dX10_plan_44 rfl (lv_at hl 0 rfl) ?_
    refine r_gR X hV fl_X10_56_10 (by decide) dX10_plan_45 h (fun v1 h => ?_)
    refine lv_iload X.1 X.2.1 dX10_plan_48 (lv_at hl 5 rfl) ?_
    refine lv_dup2_11 X.1 X.2.1 dX10_plan_50 rfl rfl ?_
    refine r_ia X hV dX10_plan_51 h (fun v2 h => ?_)
    refine lv_iconst (v := 1) X.1 X.2.1 dX10_plan_52 (by decide) ?_
    refine lv_iadd X.1 X.2.1 dX10_plan_53 ?_
    refine r_is X hV hF dX10_plan_54 h (fun s1 H locs hV hF h => ?_)
    refine lv_aload_n X.1 X.2.1 dX10_plan_55 rfl (lv_at hl 0 rfl) ?_
    refine r_gR X hV fl_X10_56_10 (by decide) dX10_plan_56 h (fun v3 h => ?_)
    refine lv_iload X.1 X.2.1 dX10_plan_59 (lv_at hl 5 rfl) ?_
    refine r_ia X hV dX10_plan_61 h (fun v4 h => ?_)
    refine lv_bipush (v := 8) X.1 X.2.1 dX10_plan_62 (by decide) ?_
    refine r_le (tgt := 73) X.1 X.2.1 dX10_plan_64 (by decide) h (fun h => ?_) (fun h => ?_)
    · refine lv_aload_n X.1 X.2.1 dX10_plan_73 rfl (lv_at hl 0 rfl) ?_
      refine lv_iload X.1 X.2.1 dX10_plan_74 (lv_at hl 5 rfl) ?_
      refine lv_aload_n X.1 X.2.1 dX10_plan_76 rfl (lv_at hl 0 rfl) ?_
      refine r_gR X hV fl_X10_56_10 (by decide) dX10_plan_77 h (fun v5 h => ?_)
      refine lv_iload X.1 X.2.1 dX10_plan_80 (lv_at hl 5 rfl) ?_
      refine r_ia X hV dX10_plan_82 h (fun v6 h => ?_)
      refine lv_iload_n X.1 X.2.1 dX10_plan_83 rfl (lv_at hl 2 rfl) ?_
      obtain ⟨v7, s2, hc, h⟩ := b2_inv h
      refine r_ci (va_runV (C := RX10) (As := [.int x5, .int v6, .int x2]) (rest := []) (cfX X) (c_X10_isGone l hc) (cwV 3 X.2.2.2.2.1 (lw_V q1297 q1299 qs44 q59 q1300) rfl rfl rfl ⟨rfl, yd_X10_isGone⟩ ⟨Nat.le_of_ble_eq_true rfl, Nat.le_of_ble_eq_true rfl⟩) (preV X hV (F_X10_isGone_g hc) rfl) rfl rfl hl.1 rfl (lv_room (Nat.le_of_ble_eq_true rfl)) dX10_plan_84 ⟨(Nat.le_of_ble_eq_true rfl), (Nat.le_of_ble_eq_true rfl)⟩) hF (fun H locs hV hF => ?_)
      refine r_ifeq (tgt := 39) X.1 X.2.1 dX10_plan_87 (by decide) h (fun h => ?_) (fun h => ?_)
      · exact hr39 (s2, x4, x5) h _ _ _ hV hF (lv_sub hl [0, 1, 2, 3, 4, 5] rfl)
      · refine lv_iinc (v := x5 + 1) (lv' := [(5, .int (x5 + 1)), (0, .ref x0), (1, .int x1), (2, .int x2), (3, .int x3), (4, .int x4)]) X.1 X.2.1 dX10_plan_90 hl (k := 5) rfl rfl (by decide) rfl (fun ls hl => ?_)
        refine lv_aload_n X.1 X.2.1 dX10_plan_93 rfl (lv_at hl 1 rfl) ?_
        refine r_gR X hV fl_X10_56_10 (by decide) dX10_plan_94 h (fun v8 h => ?_)
        refine lv_iload X.1 X.2.1 dX10_plan_97 (lv_at hl 0 rfl) ?_
        refine lv_iconst (v := (-1)) X.1 X.2.1 dX10_plan_99 (by decide) ?_
        refine r_is X hV hF dX10_plan_100 h (fun s3 H locs hV hF h => ?_)
        refine lv_iload X.1 X.2.1 dX10_plan_101 (lv_at hl 0 rfl) ?_
        refine lv_iload_n X.1 X.2.1 dX10_plan_103 rfl (lv_at hl 2 rfl) ?_
        refine r_ne (tgt := 39) X.1 X.2.1 dX10_plan_104 (by decide) h (fun h => ?_) (fun h => ?_)
        · exact hr39 (s3, x4, x5 + 1) h _ _ _ hV hF (lv_sub hl [1, 2, 3, 4, 5, 0] rfl)
        · refine lv_aload_n X.1 X.2.1 dX10_plan_107 rfl (lv_at hl 1 rfl) ?_
          refine lv_bipush (v := 48) X.1 X.2.1 dX10_plan_108 (by decide) ?_
          refine lv_iload_n X.1 X.2.1 dX10_plan_110 rfl (lv_at hl 2 rfl) ?_
          refine lv_imul X.1 X.2.1 dX10_plan_111 ?_
          obtain ⟨v9, s4, hc, h⟩ := b2_inv h
          refine r_ci (va_runV (C := RX10) (As := [.int (48 * x1)]) (rest := []) (cfX X) (c_X10_allAt l hc) (cwV 1 X.2.2.2.2.1 (lw_V q1301 q1303 qs45 q59 q1304) rfl rfl rfl ⟨rfl, yd_X10_allAt⟩ ⟨Nat.le_of_ble_eq_true rfl, Nat.le_of_ble_eq_true rfl⟩) (preV X hV (F_X10_allAt_g hc) rfl) rfl rfl hl.1 rfl (lv_room (Nat.le_of_ble_eq_true rfl)) dX10_plan_112 ⟨(Nat.le_of_ble_eq_true rfl), (Nat.le_of_ble_eq_true rfl)⟩) hF (fun H locs hV hF => ?_)
          refine lv_istore (lv' := [(6, .int v9), (5, .int (x5 + 1)), (0, .ref x0), (1, .int x1), (2, .int x2), (3, .int x3), (4, .int x4)]) X.1 X.2.1 dX10_plan_115 hl (by decide) rfl (fun ls hl => ?_)
          refine lv_iconst (v := 0) X.1 X.2.1 dX10_plan_117 (by decide) ?_
          refine lv_istore (lv' := [(7, .int 0), (6, .int v9), (5, .int (x5 + 1)), (0, .ref x0), (1, .int x1), (2, .int x2), (3, .int x3), (4, .int x4)]) X.1 X.2.1 dX10_plan_118 hl (by decide) rfl (fun ls hl => ?_)
          exact w_X10_plan_120 X hr39 FU (s4, 0) h _ _ _ hV hF (lv_sub hl [3, 4, 5, 6, 7, 2, 1, 0] rfl)
    · refine lv_iinc (v := x5 + (-1)) (lv' := [(5, .int (x5 + (-1))), (0, .ref x0), (1, .int x1), (2, .int x2), (3, .int x3), (4, .int x4)]) X.1 X.2.1 dX10_plan_67 hl (k := 5) rfl rfl (by decide) rfl (fun ls hl => ?_)
      refine lv_goto (tgt := 39) X.1 X.2.1 dX10_plan_70 (by decide) ?_
      exact hr39 (s1, x4, x5 + (-1)) h _ _ _ hV hF (lv_sub hl [1, 2, 3, 4, 5, 0] rfl)
set_option maxHeartbeats 4000000 in
theorem w_X10_plan_39 {p : Program} {l : Launch} {e : Env} {s : State} {m : MethodId} {args : Array Value} {below : List Frame} {meth : Method} {c : Code} {g : Gl} (X : FX g p m c s args meth cX10_plan 8 RX10 (some .int) "plan") {r : Int32 × Hp} {x0 : Nat} {x1 : Int32} {x2 : Int32} {x3 : Int32}  : ∀ (n : Nat) (st : Hp × Int32 × Int32), L_X10_plan_39 x0 x1 x2 x3 n st = some r → ∀ (H : Heap) (locs : List Loc) (ls : Array Slot), HV g st.1 H → FR g locs → lv_has ls 8 [(0, .ref x0), (1, .int x1), (2, .int x2), (3, .int x3), (4, .int st.2.1), (5, .int st.2.2)] → W p l e rm_X10_plan s m args below meth c H locs 0 0 (MQ below (Qi g r) args s 0 0 (frN g)) (F0 m 39 ls []) := by
  intro n
  induction n with
  | zero =>
    intro st h
    rw [L_X10_plan_39_0] at h
    cases h
  | succ n ih =>
    intro st h H locs ls hV hF hl
    rw [L_X10_plan_39_s] at h
    exact w_X10_plan_39_b X  ih h hV hF hl
set_option maxHeartbeats 4000000 in
theorem c_X10_plan (l : Launch) {g : Gl} {σ : Hp} {x0 : Nat} {x1 : Int32} {x2 : Int32} {x3 : Int32} {r : Int32 × Hp} (h : F_X10_plan σ x0 x1 x2 x3 = some r) : Met l yX10_plan (ws_ yX10_plan cX10_plan 8 (some .int)) rm_X10_plan (va_Pc [.ref x0, .int x1, .int x2, .int x3] (WV g σ)) (Qi g r) 0 0 (frN g) := by
  refine ct_of (by decide) (Nat.le_of_ble_eq_true rfl) ?_
  intro p e s m below meth c ls X hV hl
  have hF : FR g [] := FR_nil
  unfold F_X10_plan at h
  have hl : lv_has ls 8 [(0, .ref x0), (1, .int x1), (2, .int x2), (3, .int x3)] := hl
  have X : FX g p m c s _ meth cX10_plan 8 RX10 (some .int) "plan" := X
  obtain ⟨-, h⟩ := gd_inv h
  refine lv_iload_n X.1 X.2.1 dX10_plan_0 rfl (lv_at hl 1 rfl) ?_
  refine lv_iload_n X.1 X.2.1 dX10_plan_1 rfl (lv_at hl 2 rfl) ?_
  obtain ⟨v1, s1, hc, h⟩ := b2_inv h
  refine r_ci (va_runS (As := [.int x1, .int x2]) (rest := []) (cfX X) (c_X10_areMinutes l hc) (va_cwS 2 X.2.2.2.2.1 (lw_S q1294 q1295 q59 q1296) rfl rfl rfl yd_X10_areMinutes ⟨Nat.le_of_ble_eq_true rfl, Nat.le_of_ble_eq_true rfl⟩) (preS X hV) rfl rfl hl.1 rfl (lv_room (Nat.le_of_ble_eq_true rfl)) dX10_plan_2 ⟨(Nat.le_of_ble_eq_true rfl), (Nat.le_of_ble_eq_true rfl)⟩) hF (fun H locs hV hF => ?_)
  refine r_ifeq (tgt := 19) X.1 X.2.1 dX10_plan_5 (by decide) h (fun h => ?_) (fun h => ?_)
  · refine lv_bipush (v := (-3)) X.1 X.2.1 dX10_plan_19 (by decide) ?_
    exact r_iret X hV hF h dX10_plan_21
  · refine lv_iload_n X.1 X.2.1 dX10_plan_8 rfl (lv_at hl 3 rfl) ?_
    refine lv_iconst (v := (-1)) X.1 X.2.1 dX10_plan_9 (by decide) ?_
    refine lv_iload_n X.1 X.2.1 dX10_plan_10 rfl (lv_at hl 1 rfl) ?_
    refine lv_iconst (v := 1) X.1 X.2.1 dX10_plan_11 (by decide) ?_
    refine lv_isub X.1 X.2.1 dX10_plan_12 ?_
    obtain ⟨v2, s2, hc, h⟩ := b2_inv h
    refine r_ci (va_runS (As := [.int x3, .int (-1), .int (x1 - 1)]) (rest := []) (cfX X) (c_X10_in l hc) (va_cwS 3 X.2.2.2.2.1 (lw_S q1104 q1105 q59 q1106) rfl rfl rfl yd_X10_in ⟨Nat.le_of_ble_eq_true rfl, Nat.le_of_ble_eq_true rfl⟩) (preS X hV) rfl rfl hl.1 rfl (lv_room (Nat.le_of_ble_eq_true rfl)) dX10_plan_13 ⟨(Nat.le_of_ble_eq_true rfl), (Nat.le_of_ble_eq_true rfl)⟩) hF (fun H locs hV hF => ?_)
    refine r_ifne (tgt := 22) X.1 X.2.1 dX10_plan_16 (by decide) h (fun h => ?_) (fun h => ?_)
    · refine lv_aload_n X.1 X.2.1 dX10_plan_22 rfl (lv_at hl 0 rfl) ?_
      obtain ⟨s3, hc, h⟩ := b1_inv h
      refine r_cv (va_runV (C := RX10) (As := []) (rest := []) (cfX X) (c_X10_lookAhead l hc) (cwV 0 X.2.2.2.2.1 (lw_V q1169 q1171 qs26 q59 q1172) rfl rfl rfl ⟨rfl, yd_X10_lookAhead⟩ ⟨Nat.le_of_ble_eq_true rfl, Nat.le_of_ble_eq_true rfl⟩) (preV X hV (F_X10_lookAhead_g hc) rfl) rfl rfl hl.1 rfl (lv_room (Nat.le_of_ble_eq_true rfl)) dX10_plan_23 ⟨(Nat.le_of_ble_eq_true rfl), (Nat.le_of_ble_eq_true rfl)⟩) hF (fun H locs hV hF => ?_)
      refine lv_iconst (v := (-1)) X.1 X.2.1 dX10_plan_26 (by decide) ?_
      refine lv_istore (lv' := [(4, .int (-1)), (0, .ref x0), (1, .int x1), (2, .int x2), (3, .int x3)]) X.1 X.2.1 dX10_plan_27 hl (by decide) rfl (fun ls hl => ?_)
      refine lv_iconst (v := 0) X.1 X.2.1 dX10_plan_29 (by decide) ?_
      refine lv_istore (lv' := [(5, .int 0), (4, .int (-1)), (0, .ref x0), (1, .int x1), (2, .int x2), (3, .int x3)]) X.1 X.2.1 dX10_plan_30 hl (by decide) rfl (fun ls hl => ?_)
      refine lv_aload_n X.1 X.2.1 dX10_plan_32 rfl (lv_at hl 2 rfl) ?_
      refine r_gR X hV fl_X10_56_10 (by decide) dX10_plan_33 h (fun v4 h => ?_)
      refine lv_iconst (v := 0) X.1 X.2.1 dX10_plan_36 (by decide) ?_
      refine lv_iconst (v := (-1)) X.1 X.2.1 dX10_plan_37 (by decide) ?_
      refine r_is X hV hF dX10_plan_38 h (fun s4 H locs hV hF h => ?_)
      exact w_X10_plan_39 X  FU (s4, (-1), 0) h _ _ _ hV hF (lv_sub hl [2, 3, 4, 5, 1, 0] rfl)
    · refine lv_bipush (v := (-3)) X.1 X.2.1 dX10_plan_19 (by decide) ?_
      exact r_iret X hV hF h dX10_plan_21
/-! PalaceOfRoomsModel.judge -/
theorem dX10_judge_0 : decode cX10_judge 0 = .ok (.iload_n 2, 1) := by decide +kernel
theorem dX10_judge_1 : decode cX10_judge 1 = .ok (.iload_n 3, 1) := by decide +kernel
theorem dX10_judge_2 : decode cX10_judge 2 = .ok (.invokestatic 245, 3) := by decide +kernel
theorem dX10_judge_5 : decode cX10_judge 5 = .ok (.ifCond .ne 6, 3) := by decide +kernel
theorem dX10_judge_8 : decode cX10_judge 8 = .ok (.bipush (-3), 2) := by decide +kernel
theorem dX10_judge_10 : decode cX10_judge 10 = .ok (.ireturn, 1) := by decide +kernel
theorem dX10_judge_11 : decode cX10_judge 11 = .ok (.iconst 0, 1) := by decide +kernel
theorem dX10_judge_12 : decode cX10_judge 12 = .ok (.istore 4, 2) := by decide +kernel
theorem dX10_judge_14 : decode cX10_judge 14 = .ok (.iload 4, 2) := by decide +kernel
theorem dX10_judge_16 : decode cX10_judge 16 = .ok (.iload_n 2, 1) := by decide +kernel
theorem dX10_judge_17 : decode cX10_judge 17 = .ok (.if_icmp .ge 26, 3) := by decide +kernel
theorem dX10_judge_20 : decode cX10_judge 20 = .ok (.iload_n 1, 1) := by decide +kernel
theorem dX10_judge_21 : decode cX10_judge 21 = .ok (.iconst 4, 1) := by decide +kernel
theorem dX10_judge_22 : decode cX10_judge 22 = .ok (.iload 4, 2) := by decide +kernel
theorem dX10_judge_24 : decode cX10_judge 24 = .ok (.imul, 1) := by decide +kernel
theorem dX10_judge_25 : decode cX10_judge 25 = .ok (.ishr, 1) := by decide +kernel
theorem dX10_judge_26 : decode cX10_judge 26 = .ok (.bipush 15, 2) := by decide +kernel
theorem dX10_judge_28 : decode cX10_judge 28 = .ok (.iand, 1) := by decide +kernel
theorem dX10_judge_29 : decode cX10_judge 29 = .ok (.bipush 8, 2) := by decide +kernel
theorem dX10_judge_31 : decode cX10_judge 31 = .ok (.if_icmp .le 6, 3) := by decide +kernel
theorem dX10_judge_34 : decode cX10_judge 34 = .ok (.bipush (-3), 2) := by decide +kernel
theorem dX10_judge_36 : decode cX10_judge 36 = .ok (.ireturn, 1) := by decide +kernel
theorem dX10_judge_37 : decode cX10_judge 37 = .ok (.iinc 4 1, 3) := by decide +kernel
theorem dX10_judge_40 : decode cX10_judge 40 = .ok (.goto (-26), 3) := by decide +kernel
theorem dX10_judge_43 : decode cX10_judge 43 = .ok (.aload_n 0, 1) := by decide +kernel
theorem dX10_judge_44 : decode cX10_judge 44 = .ok (.invokevirtual 131, 3) := by decide +kernel
theorem dX10_judge_47 : decode cX10_judge 47 = .ok (.iconst 0, 1) := by decide +kernel
theorem dX10_judge_48 : decode cX10_judge 48 = .ok (.istore 4, 2) := by decide +kernel
theorem dX10_judge_50 : decode cX10_judge 50 = .ok (.iload 4, 2) := by decide +kernel
theorem dX10_judge_52 : decode cX10_judge 52 = .ok (.iload_n 2, 1) := by decide +kernel
theorem dX10_judge_53 : decode cX10_judge 53 = .ok (.if_icmp .ge 30, 3) := by decide +kernel
theorem dX10_judge_56 : decode cX10_judge 56 = .ok (.aload_n 0, 1) := by decide +kernel
theorem dX10_judge_57 : decode cX10_judge 57 = .ok (.iload 4, 2) := by decide +kernel
theorem dX10_judge_59 : decode cX10_judge 59 = .ok (.iload_n 1, 1) := by decide +kernel
theorem dX10_judge_60 : decode cX10_judge 60 = .ok (.iconst 4, 1) := by decide +kernel
theorem dX10_judge_61 : decode cX10_judge 61 = .ok (.iload 4, 2) := by decide +kernel
theorem dX10_judge_63 : decode cX10_judge 63 = .ok (.imul, 1) := by decide +kernel
theorem dX10_judge_64 : decode cX10_judge 64 = .ok (.ishr, 1) := by decide +kernel
theorem dX10_judge_65 : decode cX10_judge 65 = .ok (.bipush 15, 2) := by decide +kernel
theorem dX10_judge_67 : decode cX10_judge 67 = .ok (.iand, 1) := by decide +kernel
theorem dX10_judge_68 : decode cX10_judge 68 = .ok (.iload_n 3, 1) := by decide +kernel
theorem dX10_judge_69 : decode cX10_judge 69 = .ok (.invokevirtual 248, 3) := by decide +kernel
theorem dX10_judge_72 : decode cX10_judge 72 = .ok (.ifCond .ne 5, 3) := by decide +kernel
theorem dX10_judge_75 : decode cX10_judge 75 = .ok (.iconst (-1), 1) := by decide +kernel
theorem dX10_judge_76 : decode cX10_judge 76 = .ok (.ireturn, 1) := by decide +kernel
theorem dX10_judge_77 : decode cX10_judge 77 = .ok (.iinc 4 1, 3) := by decide +kernel
theorem dX10_judge_80 : decode cX10_judge 80 = .ok (.goto (-30), 3) := by decide +kernel
theorem dX10_judge_83 : decode cX10_judge 83 = .ok (.aload_n 0, 1) := by decide +kernel
theorem dX10_judge_84 : decode cX10_judge 84 = .ok (.bipush 48, 2) := by decide +kernel
theorem dX10_judge_86 : decode cX10_judge 86 = .ok (.iload_n 2, 1) := by decide +kernel
theorem dX10_judge_87 : decode cX10_judge 87 = .ok (.imul, 1) := by decide +kernel
theorem dX10_judge_88 : decode cX10_judge 88 = .ok (.invokevirtual 251, 3) := by decide +kernel
theorem dX10_judge_91 : decode cX10_judge 91 = .ok (.ireturn, 1) := by decide +kernel
theorem yd_X10_judge : yX10_judge.cls ≠ "java/lang/invoke/MethodHandle" ∧ yX10_judge.cls ≠ "java/lang/invoke/VarHandle" ∧ (parseMethodDescriptor yX10_judge.desc).map (fun d => d.parameters.length) = some 3 := by decide +kernel
abbrev rm_X10_judge : Room := { frames := 4, cells := 0, slots := 0, locals := 97 }
set_option maxHeartbeats 4000000 in
theorem w_X10_judge_83 {p : Program} {l : Launch} {e : Env} {s : State} {m : MethodId} {args : Array Value} {below : List Frame} {meth : Method} {c : Code} {g : Gl} (X : FX g p m c s args meth cX10_judge 5 RX10 (some .int) "judge") {r : Int32 × Hp} {σ : Hp} {x0 : Nat} {x2 : Int32}  {H : Heap} {locs : List Loc} {ls : Array Slot} (h : F_X10_judge_83 σ x0 x2 = some r) (hV : HV g σ H) (hF : FR g locs) (hl : lv_has ls 5 [(0, .ref x0), (2, .int x2)]) : W p l e rm_X10_judge s m args below meth c H locs 0 0 (MQ below (Qi g r) args s 0 0 (frN g)) (F0 m 83 ls []) := by
  unfold F_X10_judge_83 at h
  refine lv_aload_n X.1 X.2.1 dX10_judge_83 rfl (lv_at hl 0 rfl) ?_
  refine lv_bipush (v := 48) X.1 X.2.1 dX10_judge_84 (by decide) ?_
  refine lv_iload_n X.1 X.2.1 dX10_judge_86 rfl (lv_at hl 1 rfl) ?_
  refine lv_imul X.1 X.2.1 dX10_judge_87 ?_
  obtain ⟨v1, s1, hc, h⟩ := b2_inv h
  refine r_ci (va_runV (C := RX10) (As := [.int (48 * x2)]) (rest := []) (cfX X) (c_X10_allAt l hc) (cwV 1 X.2.2.2.2.1 (lw_V q1301 q1303 qs45 q59 q1304) rfl rfl rfl ⟨rfl, yd_X10_allAt⟩ ⟨Nat.le_of_ble_eq_true rfl, Nat.le_of_ble_eq_true rfl⟩) (preV X hV (F_X10_allAt_g hc) rfl) rfl rfl hl.1 rfl (lv_room (Nat.le_of_ble_eq_true rfl)) dX10_judge_88 ⟨(Nat.le_of_ble_eq_true rfl), (Nat.le_of_ble_eq_true rfl)⟩) hF (fun H locs hV hF => ?_)
  exact r_iret X hV hF h dX10_judge_91
set_option maxHeartbeats 4000000 in
theorem w_X10_judge_50_b {p : Program} {l : Launch} {e : Env} {s : State} {m : MethodId} {args : Array Value} {below : List Frame} {meth : Method} {c : Code} {g : Gl} (X : FX g p m c s args meth cX10_judge 5 RX10 (some .int) "judge") {r : Int32 × Hp} {rec50 : Hp × Int32 → Option (Int32 × Hp)} {x0 : Nat} {x1 : Int32} {x2 : Int32} {x3 : Int32} {σ : Hp} {x4 : Int32} (hr50 : ∀ (st : Hp × Int32), rec50 st = some r → ∀ (H : Heap) (locs : List Loc) (ls : Array Slot), HV g st.1 H → FR g locs → lv_has ls 5 [(0, .ref x0), (1, .int x1), (2, .int x2), (3, .int x3), (4, .int st.2)] → W p l e rm_X10_judge s m args below meth c H locs 0 0 (MQ below (Qi g r) args s 0 0 (frN g)) (F0 m 50 ls [])) {H : Heap} {locs : List Loc} {ls : Array Slot} (h : B_X10_judge_50 x0 x1 x2 x3 rec50 σ x4 = some r) (hV : HV g σ H) (hF : FR g locs) (hl : lv_has ls 5 [(0, .ref x0), (1, .int x1), (2, .int x2), (3, .int x3), (4, .int x4)]) : W p l e rm_X10_judge s m args below meth c H locs 0 0 (MQ below (Qi g r) args s 0 0 (frN g)) (F0 m 50 ls []) := by
  unfold B_X10_judge_50 at h
  refine lv_iload X.1 X.2.1 dX10_judge_50 (lv_at hl 4 rfl) ?_
  refine lv_iload_n X.1 X.2.1 dX10_judge_52 rfl (lv_at hl 2 rfl) ?_
  refine r_ge (tgt := 83) X.1 X.2.1 dX10_judge_53 (by decide) h (fun h => ?_) (fun h => ?_)
  · exact w_X10_judge_83 X  h hV hF (lv_sub hl [0, 2] rfl)
  · refine lv_aload_n X.1 X.2.1 dX10_judge_56 rfl (lv_at hl 0 rfl) ?_
    refine lv_iload X.1 X.2.1 dX10_judge_57 (lv_at hl 4 rfl) ?_
    refine lv_iload_n X.1 X.2.1 dX10_judge_59 rfl (lv_at hl 1 rfl) ?_
    refine lv_iconst (v := 4) X.1 X.2.1 dX10_judge_60 (by decide) ?_
    refine lv_iload X.1 X.2.1 dX10_judge_61 (lv_at hl 4 rfl) ?_
    refine lv_imul X.1 X.2.1 dX10_judge_63 ?_
    refine lv_ishr X.1 X.2.1 dX10_judge_64 ?_
    refine lv_bipush (v := 15) X.1 X.2.1 dX10_judge_65 (by decide) ?_
    refine lv_iand X.1 X.2.1 dX10_judge_67 ?_
    refine lv_iload_n X.1 X.2.1 dX10_judge_68 rfl (lv_at hl 3 rfl) ?_
    obtain ⟨v1, s1, hc, h⟩ := b2_inv h
    refine r_ci (va_runV (C := RX10) (As := [.int x4, .int ((x1 >>> ((4 * x4) &&& 31)) &&& 15), .int x3]) (rest := []) (cfX X) (c_X10_isGone l hc) (cwV 3 X.2.2.2.2.1 (lw_V q1297 q1299 qs44 q59 q1300) rfl rfl rfl ⟨rfl, yd_X10_isGone⟩ ⟨Nat.le_of_ble_eq_true rfl, Nat.le_of_ble_eq_true rfl⟩) (preV X hV (F_X10_isGone_g hc) rfl) rfl rfl hl.1 rfl (lv_room (Nat.le_of_ble_eq_true rfl)) dX10_judge_69 ⟨(Nat.le_of_ble_eq_true rfl), (Nat.le_of_ble_eq_true rfl)⟩) hF (fun H locs hV hF => ?_)
    refine r_ifne (tgt := 77) X.1 X.2.1 dX10_judge_72 (by decide) h (fun h => ?_) (fun h => ?_)
    · refine lv_iinc (v := x4 + 1) (lv' := [(4, .int (x4 + 1)), (0, .ref x0), (1, .int x1), (2, .int x2), (3, .int x3)]) X.1 X.2.1 dX10_judge_77 hl (k := 4) rfl rfl (by decide) rfl (fun ls hl => ?_)
      refine lv_goto (tgt := 50) X.1 X.2.1 dX10_judge_80 (by decide) ?_
      exact hr50 (s1, x4 + 1) h _ _ _ hV hF (lv_sub hl [1, 2, 3, 4, 0] rfl)
    · refine lv_iconst (v := (-1)) X.1 X.2.1 dX10_judge_75 (by decide) ?_
      exact r_iret X hV hF h dX10_judge_76
set_option maxHeartbeats 4000000 in
theorem w_X10_judge_50 {p : Program} {l : Launch} {e : Env} {s : State} {m : MethodId} {args : Array Value} {below : List Frame} {meth : Method} {c : Code} {g : Gl} (X : FX g p m c s args meth cX10_judge 5 RX10 (some .int) "judge") {r : Int32 × Hp} {x0 : Nat} {x1 : Int32} {x2 : Int32} {x3 : Int32}  : ∀ (n : Nat) (st : Hp × Int32), L_X10_judge_50 x0 x1 x2 x3 n st = some r → ∀ (H : Heap) (locs : List Loc) (ls : Array Slot), HV g st.1 H → FR g locs → lv_has ls 5 [(0, .ref x0), (1, .int x1), (2, .int x2), (3, .int x3), (4, .int st.2)] → W p l e rm_X10_judge s m args below meth c H locs 0 0 (MQ below (Qi g r) args s 0 0 (frN g)) (F0 m 50 ls []) := by
  intro n
  induction n with
  | zero =>
    intro st h
    rw [L_X10_judge_50_0] at h
    cases h
  | succ n ih =>
    intro st h H locs ls hV hF hl
    rw [L_X10_judge_50_s] at h
    exact w_X10_judge_50_b X  ih h hV hF hl
set_option maxHeartbeats 4000000 in
theorem w_X10_judge_14_b {p : Program} {l : Launch} {e : Env} {s : State} {m : MethodId} {args : Array Value} {below : List Frame} {meth : Method} {c : Code} {g : Gl} (X : FX g p m c s args meth cX10_judge 5 RX10 (some .int) "judge") {r : Int32 × Hp} {rec14 : Int32 → Option (Int32 × Hp)} {σ : Hp} {x0 : Nat} {x1 : Int32} {x2 : Int32} {x3 : Int32} {x4 : Int32} (hr14 : ∀ (st : Int32), rec14 st = some r → ∀ (H : Heap) (locs : List Loc) (ls : Array Slot), HV g σ H → FR g locs → lv_has ls 5 [(0, .ref x0), (1, .int x1), (2, .int x2), (3, .int x3), (4, .int st)] → W p l e rm_X10_judge s m args below meth c H locs 0 0 (MQ below (Qi g r) args s 0 0 (frN g)) (F0 m 14 ls [])) {H : Heap} {locs : List Loc} {ls : Array Slot} (h : B_X10_judge_14 σ x0 x1 x2 x3 rec14 x4 = some r) (hV : HV g σ H) (hF : FR g locs) (hl : lv_has ls 5 [(0, .ref x0), (1, .int x1), (2, .int x2), (3, .int x3), (4, .int x4)]) : W p l e rm_X10_judge s m args below meth c H locs 0 0 (MQ below (Qi g r) args s 0 0 (frN g)) (F0 m 14 ls []) := by
  unfold B_X10_judge_14 at h
  refine lv_iload X.1 X.2.1 dX10_judge_14 (lv_at hl 4 rfl) ?_
  refine lv_iload_n X.1 X.2.1 dX10_judge_16 rfl (lv_at hl 2 rfl) ?_
  refine r_ge (tgt := 43) X.1 X.2.1 dX10_judge_17 (by decide) h (fun h => ?_) (fun h => ?_)
  · refine lv_aload_n X.1 X.2.1 dX10_judge_43 rfl (lv_at hl 0 rfl) ?_
    obtain ⟨s1, hc, h⟩ := b1_inv h
    refine r_cv (va_runV (C := RX10) (As := []) (rest := []) (cfX X) (c_X10_lookAhead l hc) (cwV 0 X.2.2.2.2.1 (lw_V q1169 q1171 qs26 q59 q1172) rfl rfl rfl ⟨rfl, yd_X10_lookAhead⟩ ⟨Nat.le_of_ble_eq_true rfl, Nat.le_of_ble_eq_true rfl⟩) (preV X hV (F_X10_lookAhead_g hc) rfl) rfl rfl hl.1 rfl (lv_room (Nat.le_of_ble_eq_true rfl)) dX10_judge_44 ⟨(Nat.le_of_ble_eq_true rfl), (Nat.le_of_ble_eq_true rfl)⟩) hF (fun H locs hV hF => ?_)
    refine lv_iconst (v := 0) X.1 X.2.1 dX10_judge_47 (by decide) ?_
    refine lv_istore (lv' := [(4, .int 0), (0, .ref x0), (1, .int x1), (2, .int x2), (3, .int x3)]) X.1 X.2.1 dX10_judge_48 hl (by decide) rfl (fun ls hl => ?_)
    exact w_X10_judge_50 X  FU (s1, 0) h _ _ _ hV hF (lv_sub hl [1, 2, 3, 4, 0] rfl)
  · refine lv_iload_n X.1 X.2.1 dX10_judge_20 rfl (lv_at hl 1 rfl) ?_
    refine lv_iconst (v := 4) X.1 X.2.1 dX10_judge_21 (by decide) ?_
    refine lv_iload X.1 X.2.1 dX10_judge_22 (lv_at hl 4 rfl) ?_
    refine lv_imul X.1 X.2.1 dX10_judge_24 ?_
    refine lv_ishr X.1 X.2.1 dX10_judge_25 ?_
    refine lv_bipush (v := 15) X.1 X.2.1 dX10_judge_26 (by decide) ?_
    refine lv_iand X.1 X.2.1 dX10_judge_28 ?_
    refine lv_bipush (v := 8) X.1 X.2.1 dX10_judge_29 (by decide) ?_
    refine r_le (tgt := 37) X.1 X.2.1 dX10_judge_31 (by decide) h (fun h => ?_) (fun h => ?_)
    · refine lv_iinc (v := x4 + 1) (lv' := [(4, .int (x4 + 1)), (0, .ref x0), (1, .int x1), (2, .int x2), (3, .int x3)]) X.1 X.2.1 dX10_judge_37 hl (k := 4) rfl rfl (by decide) rfl (fun ls hl => ?_)
      refine lv_goto (tgt := 14) X.1 X.2.1 dX10_judge_40 (by decide) ?_
      exact hr14 (x4 + 1) h _ _ _ hV hF (lv_sub hl [1, 2, 3, 4, 0] rfl)
    · refine lv_bipush (v := (-3)) X.1 X.2.1 dX10_judge_34 (by decide) ?_
      exact r_iret X hV hF h dX10_judge_36
set_option maxHeartbeats 4000000 in
theorem w_X10_judge_14 {p : Program} {l : Launch} {e : Env} {s : State} {m : MethodId} {args : Array Value} {below : List Frame} {meth : Method} {c : Code} {g : Gl} (X : FX g p m c s args meth cX10_judge 5 RX10 (some .int) "judge") {r : Int32 × Hp} {σ : Hp} {x0 : Nat} {x1 : Int32} {x2 : Int32} {x3 : Int32}  : ∀ (n : Nat) (st : Int32), L_X10_judge_14 σ x0 x1 x2 x3 n st = some r → ∀ (H : Heap) (locs : List Loc) (ls : Array Slot), HV g σ H → FR g locs → lv_has ls 5 [(0, .ref x0), (1, .int x1), (2, .int x2), (3, .int x3), (4, .int st)] → W p l e rm_X10_judge s m args below meth c H locs 0 0 (MQ below (Qi g r) args s 0 0 (frN g)) (F0 m 14 ls []) := by
  intro n
  induction n with
  | zero =>
    intro st h
    rw [L_X10_judge_14_0] at h
    cases h
  | succ n ih =>
    intro st h H locs ls hV hF hl
    rw [L_X10_judge_14_s] at h
    exact w_X10_judge_14_b X  ih h hV hF hl
set_option maxHeartbeats 4000000 in
theorem c_X10_judge (l : Launch) {g : Gl} {σ : Hp} {x0 : Nat} {x1 : Int32} {x2 : Int32} {x3 : Int32} {r : Int32 × Hp} (h : F_X10_judge σ x0 x1 x2 x3 = some r) : Met l yX10_judge (ws_ yX10_judge cX10_judge 5 (some .int)) rm_X10_judge (va_Pc [.ref x0, .int x1, .int x2, .int x3] (WV g σ)) (Qi g r) 0 0 (frN g) := by
  refine ct_of (by decide) (Nat.le_of_ble_eq_true rfl) ?_
  intro p e s m below meth c ls X hV hl
  have hF : FR g [] := FR_nil
  unfold F_X10_judge at h
  have hl : lv_has ls 5 [(0, .ref x0), (1, .int x1), (2, .int x2), (3, .int x3)] := hl
  have X : FX g p m c s _ meth cX10_judge 5 RX10 (some .int) "judge" := X
  obtain ⟨-, h⟩ := gd_inv h
  refine lv_iload_n X.1 X.2.1 dX10_judge_0 rfl (lv_at hl 2 rfl) ?_
  refine lv_iload_n X.1 X.2.1 dX10_judge_1 rfl (lv_at hl 3 rfl) ?_
  obtain ⟨v1, s1, hc, h⟩ := b2_inv h
  refine r_ci (va_runS (As := [.int x2, .int x3]) (rest := []) (cfX X) (c_X10_areMinutes l hc) (va_cwS 2 X.2.2.2.2.1 (lw_S q1294 q1295 q59 q1296) rfl rfl rfl yd_X10_areMinutes ⟨Nat.le_of_ble_eq_true rfl, Nat.le_of_ble_eq_true rfl⟩) (preS X hV) rfl rfl hl.1 rfl (lv_room (Nat.le_of_ble_eq_true rfl)) dX10_judge_2 ⟨(Nat.le_of_ble_eq_true rfl), (Nat.le_of_ble_eq_true rfl)⟩) hF (fun H locs hV hF => ?_)
  refine r_ifne (tgt := 11) X.1 X.2.1 dX10_judge_5 (by decide) h (fun h => ?_) (fun h => ?_)
  · refine lv_iconst (v := 0) X.1 X.2.1 dX10_judge_11 (by decide) ?_
    refine lv_istore (lv' := [(4, .int 0), (0, .ref x0), (1, .int x1), (2, .int x2), (3, .int x3)]) X.1 X.2.1 dX10_judge_12 hl (by decide) rfl (fun ls hl => ?_)
    exact w_X10_judge_14 X  FU 0 h _ _ _ hV hF (lv_sub hl [1, 2, 3, 4, 0] rfl)
  · refine lv_bipush (v := (-3)) X.1 X.2.1 dX10_judge_8 (by decide) ?_
    exact r_iret X hV hF h dX10_judge_10
/-! PalaceOfRoomsModel.right -/
theorem dX10_right_0 : decode cX10_right 0 = .ok (.iload_n 1, 1) := by decide +kernel
theorem dX10_right_1 : decode cX10_right 1 = .ok (.invokestatic 118, 3) := by decide +kernel
theorem dX10_right_4 : decode cX10_right 4 = .ok (.ifCond .ne 6, 3) := by decide +kernel
theorem dX10_right_7 : decode cX10_right 7 = .ok (.bipush (-2), 2) := by decide +kernel
theorem dX10_right_9 : decode cX10_right 9 = .ok (.ireturn, 1) := by decide +kernel
theorem dX10_right_10 : decode cX10_right 10 = .ok (.iload_n 2, 1) := by decide +kernel
theorem dX10_right_11 : decode cX10_right 11 = .ok (.iconst 0, 1) := by decide +kernel
theorem dX10_right_12 : decode cX10_right 12 = .ok (.iconst 1, 1) := by decide +kernel
theorem dX10_right_13 : decode cX10_right 13 = .ok (.invokestatic 93, 3) := by decide +kernel
theorem dX10_right_16 : decode cX10_right 16 = .ok (.ifCond .ne 6, 3) := by decide +kernel
theorem dX10_right_19 : decode cX10_right 19 = .ok (.bipush (-3), 2) := by decide +kernel
theorem dX10_right_21 : decode cX10_right 21 = .ok (.ireturn, 1) := by decide +kernel
theorem dX10_right_22 : decode cX10_right 22 = .ok (.aload_n 0, 1) := by decide +kernel
theorem dX10_right_23 : decode cX10_right 23 = .ok (.getfield 32, 3) := by decide +kernel
theorem dX10_right_26 : decode cX10_right 26 = .ok (.iload_n 1, 1) := by decide +kernel
theorem dX10_right_27 : decode cX10_right 27 = .ok (.iaload, 1) := by decide +kernel
theorem dX10_right_28 : decode cX10_right 28 = .ok (.iconst (-1), 1) := by decide +kernel
theorem dX10_right_29 : decode cX10_right 29 = .ok (.if_icmp .ne 6, 3) := by decide +kernel
theorem dX10_right_32 : decode cX10_right 32 = .ok (.bipush (-4), 2) := by decide +kernel
theorem dX10_right_34 : decode cX10_right 34 = .ok (.ireturn, 1) := by decide +kernel
theorem dX10_right_35 : decode cX10_right 35 = .ok (.aload_n 0, 1) := by decide +kernel
theorem dX10_right_36 : decode cX10_right 36 = .ok (.getfield 35, 3) := by decide +kernel
theorem dX10_right_39 : decode cX10_right 39 = .ok (.iload_n 1, 1) := by decide +kernel
theorem dX10_right_40 : decode cX10_right 40 = .ok (.iaload, 1) := by decide +kernel
theorem dX10_right_41 : decode cX10_right 41 = .ok (.aload_n 0, 1) := by decide +kernel
theorem dX10_right_42 : decode cX10_right 42 = .ok (.getfield 38, 3) := by decide +kernel
theorem dX10_right_45 : decode cX10_right 45 = .ok (.iload_n 1, 1) := by decide +kernel
theorem dX10_right_46 : decode cX10_right 46 = .ok (.iaload, 1) := by decide +kernel
theorem dX10_right_47 : decode cX10_right 47 = .ok (.iconst (-1), 1) := by decide +kernel
theorem dX10_right_48 : decode cX10_right 48 = .ok (.if_icmp .ne 7, 3) := by decide +kernel
theorem dX10_right_51 : decode cX10_right 51 = .ok (.iconst 0, 1) := by decide +kernel
theorem dX10_right_52 : decode cX10_right 52 = .ok (.goto 9, 3) := by decide +kernel
theorem dX10_right_55 : decode cX10_right 55 = .ok (.aload_n 0, 1) := by decide +kernel
theorem dX10_right_56 : decode cX10_right 56 = .ok (.getfield 41, 3) := by decide +kernel
theorem dX10_right_59 : decode cX10_right 59 = .ok (.iload_n 1, 1) := by decide +kernel
theorem dX10_right_60 : decode cX10_right 60 = .ok (.iaload, 1) := by decide +kernel
theorem dX10_right_61 : decode cX10_right 61 = .ok (.iadd, 1) := by decide +kernel
theorem dX10_right_62 : decode cX10_right 62 = .ok (.istore_n 3, 1) := by decide +kernel
theorem dX10_right_63 : decode cX10_right 63 = .ok (.iload_n 1, 1) := by decide +kernel
theorem dX10_right_64 : decode cX10_right 64 = .ok (.bipush 6, 2) := by decide +kernel
theorem dX10_right_66 : decode cX10_right 66 = .ok (.idiv, 1) := by decide +kernel
theorem dX10_right_67 : decode cX10_right 67 = .ok (.bipush 6, 2) := by decide +kernel
theorem dX10_right_69 : decode cX10_right 69 = .ok (.imul, 1) := by decide +kernel
theorem dX10_right_70 : decode cX10_right 70 = .ok (.istore 4, 2) := by decide +kernel
theorem dX10_right_72 : decode cX10_right 72 = .ok (.iload 4, 2) := by decide +kernel
theorem dX10_right_74 : decode cX10_right 74 = .ok (.iload_n 1, 1) := by decide +kernel
theorem dX10_right_75 : decode cX10_right 75 = .ok (.bipush 6, 2) := by decide +kernel
theorem dX10_right_77 : decode cX10_right 77 = .ok (.idiv, 1) := by decide +kernel
theorem dX10_right_78 : decode cX10_right 78 = .ok (.bipush 6, 2) := by decide +kernel
theorem dX10_right_80 : decode cX10_right 80 = .ok (.imul, 1) := by decide +kernel
theorem dX10_right_81 : decode cX10_right 81 = .ok (.bipush 6, 2) := by decide +kernel
theorem dX10_right_83 : decode cX10_right 83 = .ok (.iadd, 1) := by decide +kernel
theorem dX10_right_84 : decode cX10_right 84 = .ok (.if_icmp .ge 64, 3) := by decide +kernel
theorem dX10_right_87 : decode cX10_right 87 = .ok (.iload_n 3, 1) := by decide +kernel
theorem dX10_right_88 : decode cX10_right 88 = .ok (.iload 4, 2) := by decide +kernel
theorem dX10_right_90 : decode cX10_right 90 = .ok (.iload_n 1, 1) := by decide +kernel
theorem dX10_right_91 : decode cX10_right 91 = .ok (.if_icmp .eq 48, 3) := by decide +kernel
theorem dX10_right_94 : decode cX10_right 94 = .ok (.aload_n 0, 1) := by decide +kernel
theorem dX10_right_95 : decode cX10_right 95 = .ok (.getfield 32, 3) := by decide +kernel
theorem dX10_right_98 : decode cX10_right 98 = .ok (.iload 4, 2) := by decide +kernel
theorem dX10_right_100 : decode cX10_right 100 = .ok (.iaload, 1) := by decide +kernel
theorem dX10_right_101 : decode cX10_right 101 = .ok (.iconst (-1), 1) := by decide +kernel
theorem dX10_right_102 : decode cX10_right 102 = .ok (.if_icmp .eq 37, 3) := by decide +kernel
theorem dX10_right_105 : decode cX10_right 105 = .ok (.aload_n 0, 1) := by decide +kernel
theorem dX10_right_106 : decode cX10_right 106 = .ok (.aload_n 0, 1) := by decide +kernel
theorem dX10_right_107 : decode cX10_right 107 = .ok (.getfield 32, 3) := by decide +kernel
theorem dX10_right_110 : decode cX10_right 110 = .ok (.iload 4, 2) := by decide +kernel
theorem dX10_right_112 : decode cX10_right 112 = .ok (.iaload, 1) := by decide +kernel
theorem dX10_right_113 : decode cX10_right 113 = .ok (.aload_n 0, 1) := by decide +kernel
theorem dX10_right_114 : decode cX10_right 114 = .ok (.getfield 32, 3) := by decide +kernel
theorem dX10_right_117 : decode cX10_right 117 = .ok (.iload_n 1, 1) := by decide +kernel
theorem dX10_right_118 : decode cX10_right 118 = .ok (.iaload, 1) := by decide +kernel
theorem dX10_right_119 : decode cX10_right 119 = .ok (.invokevirtual 115, 3) := by decide +kernel
theorem dX10_right_122 : decode cX10_right 122 = .ok (.aload_n 0, 1) := by decide +kernel
theorem dX10_right_123 : decode cX10_right 123 = .ok (.getfield 22, 3) := by decide +kernel
theorem dX10_right_126 : decode cX10_right 126 = .ok (.if_icmp .lt 13, 3) := by decide +kernel
theorem dX10_right_129 : decode cX10_right 129 = .ok (.aload_n 0, 1) := by decide +kernel
theorem dX10_right_130 : decode cX10_right 130 = .ok (.getfield 35, 3) := by decide +kernel
theorem dX10_right_133 : decode cX10_right 133 = .ok (.iload 4, 2) := by decide +kernel
theorem dX10_right_135 : decode cX10_right 135 = .ok (.iaload, 1) := by decide +kernel
theorem dX10_right_136 : decode cX10_right 136 = .ok (.goto 4, 3) := by decide +kernel
theorem dX10_right_139 : decode cX10_right 139 = .ok (.iconst 0, 1) := by decide +kernel
theorem dX10_right_140 : decode cX10_right 140 = .ok (.iadd, 1) := by decide +kernel
theorem dX10_right_141 : decode cX10_right 141 = .ok (.istore_n 3, 1) := by decide +kernel
theorem dX10_right_142 : decode cX10_right 142 = .ok (.iinc 4 1, 3) := by decide +kernel
theorem dX10_right_145 : decode cX10_right 145 = .ok (.goto (-73), 3) := by decide +kernel
theorem dX10_right_148 : decode cX10_right 148 = .ok (.iload_n 3, 1) := by decide +kernel
theorem dX10_right_149 : decode cX10_right 149 = .ok (.ifCond .ne 6, 3) := by decide +kernel
theorem dX10_right_152 : decode cX10_right 152 = .ok (.bipush (-4), 2) := by decide +kernel
theorem dX10_right_154 : decode cX10_right 154 = .ok (.ireturn, 1) := by decide +kernel
theorem dX10_right_155 : decode cX10_right 155 = .ok (.iload_n 3, 1) := by decide +kernel
theorem dX10_right_156 : decode cX10_right 156 = .ok (.istore 4, 2) := by decide +kernel
theorem dX10_right_158 : decode cX10_right 158 = .ok (.aload_n 0, 1) := by decide +kernel
theorem dX10_right_159 : decode cX10_right 159 = .ok (.getfield 35, 3) := by decide +kernel
theorem dX10_right_162 : decode cX10_right 162 = .ok (.iload_n 1, 1) := by decide +kernel
theorem dX10_right_163 : decode cX10_right 163 = .ok (.iaload, 1) := by decide +kernel
theorem dX10_right_164 : decode cX10_right 164 = .ok (.istore 5, 2) := by decide +kernel
theorem dX10_right_166 : decode cX10_right 166 = .ok (.iload 5, 2) := by decide +kernel
theorem dX10_right_168 : decode cX10_right 168 = .ok (.ifCond .eq 21, 3) := by decide +kernel
theorem dX10_right_171 : decode cX10_right 171 = .ok (.iload 4, 2) := by decide +kernel
theorem dX10_right_173 : decode cX10_right 173 = .ok (.iload 5, 2) := by decide +kernel
theorem dX10_right_175 : decode cX10_right 175 = .ok (.irem, 1) := by decide +kernel
theorem dX10_right_176 : decode cX10_right 176 = .ok (.istore 6, 2) := by decide +kernel
theorem dX10_right_178 : decode cX10_right 178 = .ok (.iload 5, 2) := by decide +kernel
theorem dX10_right_180 : decode cX10_right 180 = .ok (.istore 4, 2) := by decide +kernel
theorem dX10_right_182 : decode cX10_right 182 = .ok (.iload 6, 2) := by decide +kernel
theorem dX10_right_184 : decode cX10_right 184 = .ok (.istore 5, 2) := by decide +kernel
theorem dX10_right_186 : decode cX10_right 186 = .ok (.goto (-20), 3) := by decide +kernel
theorem dX10_right_189 : decode cX10_right 189 = .ok (.iload_n 2, 1) := by decide +kernel
theorem dX10_right_190 : decode cX10_right 190 = .ok (.ifCond .ne 15, 3) := by decide +kernel
theorem dX10_right_193 : decode cX10_right 193 = .ok (.aload_n 0, 1) := by decide +kernel
theorem dX10_right_194 : decode cX10_right 194 = .ok (.getfield 35, 3) := by decide +kernel
theorem dX10_right_197 : decode cX10_right 197 = .ok (.iload_n 1, 1) := by decide +kernel
theorem dX10_right_198 : decode cX10_right 198 = .ok (.iaload, 1) := by decide +kernel
theorem dX10_right_199 : decode cX10_right 199 = .ok (.iload 4, 2) := by decide +kernel
theorem dX10_right_201 : decode cX10_right 201 = .ok (.idiv, 1) := by decide +kernel
theorem dX10_right_202 : decode cX10_right 202 = .ok (.goto 7, 3) := by decide +kernel
theorem dX10_right_205 : decode cX10_right 205 = .ok (.iload_n 3, 1) := by decide +kernel
theorem dX10_right_206 : decode cX10_right 206 = .ok (.iload 4, 2) := by decide +kernel
theorem dX10_right_208 : decode cX10_right 208 = .ok (.idiv, 1) := by decide +kernel
theorem dX10_right_209 : decode cX10_right 209 = .ok (.ireturn, 1) := by decide +kernel
theorem yd_X10_right : yX10_right.cls ≠ "java/lang/invoke/MethodHandle" ∧ yX10_right.cls ≠ "java/lang/invoke/VarHandle" ∧ (parseMethodDescriptor yX10_right.desc).map (fun d => d.parameters.length) = some 2 := by decide +kernel
abbrev rm_X10_right : Room := { frames := 2, cells := 0, slots := 0, locals := 42 }
set_option maxHeartbeats 4000000 in
theorem w_X10_right_189 {p : Program} {l : Launch} {e : Env} {s : State} {m : MethodId} {args : Array Value} {below : List Frame} {meth : Method} {c : Code} {g : Gl} (X : FX g p m c s args meth cX10_right 7 RX10 (some .int) "right") {r : Int32 × Hp} {σ : Hp} {x0 : Nat} {x1 : Int32} {x2 : Int32} {x3 : Int32} {x4 : Int32}  {H : Heap} {locs : List Loc} {ls : Array Slot} (h : F_X10_right_189 σ x0 x1 x2 x3 x4 = some r) (hV : HV g σ H) (hF : FR g locs) (hl : lv_has ls 7 [(0, .ref x0), (1, .int x1), (2, .int x2), (3, .int x3), (4, .int x4)]) : W p l e rm_X10_right s m args below meth c H locs 0 0 (MQ below (Qi g r) args s 0 0 (frN g)) (F0 m 189 ls []) := by
  unfold F_X10_right_189 at h
  refine lv_iload_n X.1 X.2.1 dX10_right_189 rfl (lv_at hl 2 rfl) ?_
  refine r_ifne (tgt := 205) X.1 X.2.1 dX10_right_190 (by decide) h (fun h => ?_) (fun h => ?_)
  · refine lv_iload_n X.1 X.2.1 dX10_right_205 rfl (lv_at hl 3 rfl) ?_
    refine lv_iload X.1 X.2.1 dX10_right_206 (lv_at hl 4 rfl) ?_
    refine r_dz X.1 X.2.1 dX10_right_208 h (fun h => ?_)
    exact r_iret X hV hF h dX10_right_209
  · refine lv_aload_n X.1 X.2.1 dX10_right_193 rfl (lv_at hl 0 rfl) ?_
    refine r_gR X hV fl_X10_35_10 (by decide) dX10_right_194 h (fun v1 h => ?_)
    refine lv_iload_n X.1 X.2.1 dX10_right_197 rfl (lv_at hl 1 rfl) ?_
    refine r_ia X hV dX10_right_198 h (fun v2 h => ?_)
    refine lv_iload X.1 X.2.1 dX10_right_199 (lv_at hl 4 rfl) ?_
    refine r_dz X.1 X.2.1 dX10_right_201 h (fun h => ?_)
    refine lv_goto (tgt := 209) X.1 X.2.1 dX10_right_202 (by decide) ?_
    exact r_iret X hV hF h dX10_right_209
set_option maxHeartbeats 4000000 in
theorem w_X10_right_166_b {p : Program} {l : Launch} {e : Env} {s : State} {m : MethodId} {args : Array Value} {below : List Frame} {meth : Method} {c : Code} {g : Gl} (X : FX g p m c s args meth cX10_right 7 RX10 (some .int) "right") {r : Int32 × Hp} {rec166 : Int32 × Int32 → Option (Int32 × Hp)} {σ : Hp} {x0 : Nat} {x1 : Int32} {x2 : Int32} {x3 : Int32} {x4 : Int32} {x5 : Int32} (hr166 : ∀ (st : Int32 × Int32), rec166 st = some r → ∀ (H : Heap) (locs : List Loc) (ls : Array Slot), HV g σ H → FR g locs → lv_has ls 7 [(0, .ref x0), (1, .int x1), (2, .int x2), (3, .int x3), (4, .int st.1), (5, .int st.2)] → W p l e rm_X10_right s m args below meth c H locs 0 0 (MQ below (Qi g r) args s 0 0 (frN g)) (F0 m 166 ls [])) {H : Heap} {locs : List Loc} {ls : Array Slot} (h : B_X10_right_166 σ x0 x1 x2 x3 rec166 x4 x5 = some r) (hV : HV g σ H) (hF : FR g locs) (hl : lv_has ls 7 [(0, .ref x0), (1, .int x1), (2, .int x2), (3, .int x3), (4, .int x4), (5, .int x5)]) : W p l e rm_X10_right s m args below meth c H locs 0 0 (MQ below (Qi g r) args s 0 0 (frN g)) (F0 m 166 ls []) := by
  unfold B_X10_right_166 at h
  refine lv_iload X.1 X.2.1 dX10_right_166 (lv_at hl 5 rfl) ?_
  refine r_ifeq (tgt := 189) X.1 X.2.1 dX10_right_168 (by decide) h (fun h => ?_) (fun h => ?_)
  · exact w_X10_right_189 X  h hV hF (lv_sub hl [0, 1, 2, 3, 4] rfl)
  · refine lv_iload X.1 X.2.1 dX10_right_171 (lv_at hl 4 rfl) ?_
    refine lv_iload X.1 X.2.1 dX10_right_173 (lv_at hl 5 rfl) ?_
    refine r_rz X.1 X.2.1 dX10_right_175 h (fun h => ?_)
    refine lv_istore (lv' := [(6, .int (x4 - x4 / x5 * x5)), (0, .ref x0), (1, .int x1), (2, .int x2), (3, .int x3), (4, .int x4), (5, .int x5)]) X.1 X.2.1 dX10_right_176 hl (by decide) rfl (fun ls hl => ?_)
    refine lv_iload X.1 X.2.1 dX10_right_178 (lv_at hl 6 rfl) ?_
    refine lv_istore (lv' := [(4, .int x5), (6, .int (x4 - x4 / x5 * x5)), (0, .ref x0), (1, .int x1), (2, .int x2), (3, .int x3), (5, .int x5)]) X.1 X.2.1 dX10_right_180 hl (by decide) rfl (fun ls hl => ?_)
    refine lv_iload X.1 X.2.1 dX10_right_182 (lv_at hl 1 rfl) ?_
    refine lv_istore (lv' := [(5, .int (x4 - x4 / x5 * x5)), (4, .int x5), (6, .int (x4 - x4 / x5 * x5)), (0, .ref x0), (1, .int x1), (2, .int x2), (3, .int x3)]) X.1 X.2.1 dX10_right_184 hl (by decide) rfl (fun ls hl => ?_)
    refine lv_goto (tgt := 166) X.1 X.2.1 dX10_right_186 (by decide) ?_
    exact hr166 (x5, x4 - x4 / x5 * x5) h _ _ _ hV hF (lv_sub hl [3, 4, 5, 6, 1, 0] rfl)
set_option maxHeartbeats 4000000 in
theorem w_X10_right_166 {p : Program} {l : Launch} {e : Env} {s : State} {m : MethodId} {args : Array Value} {below : List Frame} {meth : Method} {c : Code} {g : Gl} (X : FX g p m c s args meth cX10_right 7 RX10 (some .int) "right") {r : Int32 × Hp} {σ : Hp} {x0 : Nat} {x1 : Int32} {x2 : Int32} {x3 : Int32}  : ∀ (n : Nat) (st : Int32 × Int32), L_X10_right_166 σ x0 x1 x2 x3 n st = some r → ∀ (H : Heap) (locs : List Loc) (ls : Array Slot), HV g σ H → FR g locs → lv_has ls 7 [(0, .ref x0), (1, .int x1), (2, .int x2), (3, .int x3), (4, .int st.1), (5, .int st.2)] → W p l e rm_X10_right s m args below meth c H locs 0 0 (MQ below (Qi g r) args s 0 0 (frN g)) (F0 m 166 ls []) := by
  intro n
  induction n with
  | zero =>
    intro st h
    rw [L_X10_right_166_0] at h
    cases h
  | succ n ih =>
    intro st h H locs ls hV hF hl
    rw [L_X10_right_166_s] at h
    exact w_X10_right_166_b X  ih h hV hF hl
set_option maxHeartbeats 4000000 in
theorem w_X10_right_148 {p : Program} {l : Launch} {e : Env} {s : State} {m : MethodId} {args : Array Value} {below : List Frame} {meth : Method} {c : Code} {g : Gl} (X : FX g p m c s args meth cX10_right 7 RX10 (some .int) "right") {r : Int32 × Hp} {σ : Hp} {x0 : Nat} {x1 : Int32} {x2 : Int32} {x3 : Int32}  {H : Heap} {locs : List Loc} {ls : Array Slot} (h : F_X10_right_148 σ x0 x1 x2 x3 = some r) (hV : HV g σ H) (hF : FR g locs) (hl : lv_has ls 7 [(0, .ref x0), (1, .int x1), (2, .int x2), (3, .int x3)]) : W p l e rm_X10_right s m args below meth c H locs 0 0 (MQ below (Qi g r) args s 0 0 (frN g)) (F0 m 148 ls []) := by
  unfold F_X10_right_148 at h
  refine lv_iload_n X.1 X.2.1 dX10_right_148 rfl (lv_at hl 3 rfl) ?_
  refine r_ifne (tgt := 155) X.1 X.2.1 dX10_right_149 (by decide) h (fun h => ?_) (fun h => ?_)
  · refine lv_iload_n X.1 X.2.1 dX10_right_155 rfl (lv_at hl 3 rfl) ?_
    refine lv_istore (lv' := [(4, .int x3), (0, .ref x0), (1, .int x1), (2, .int x2), (3, .int x3)]) X.1 X.2.1 dX10_right_156 hl (by decide) rfl (fun ls hl => ?_)
    refine lv_aload_n X.1 X.2.1 dX10_right_158 rfl (lv_at hl 1 rfl) ?_
    refine r_gR X hV fl_X10_35_10 (by decide) dX10_right_159 h (fun v1 h => ?_)
    refine lv_iload_n X.1 X.2.1 dX10_right_162 rfl (lv_at hl 2 rfl) ?_
    refine r_ia X hV dX10_right_163 h (fun v2 h => ?_)
    refine lv_istore (lv' := [(5, .int v2), (4, .int x3), (0, .ref x0), (1, .int x1), (2, .int x2), (3, .int x3)]) X.1 X.2.1 dX10_right_164 hl (by decide) rfl (fun ls hl => ?_)
    exact w_X10_right_166 X  FU (x3, v2) h _ _ _ hV hF (lv_sub hl [2, 3, 4, 5, 1, 0] rfl)
  · refine lv_bipush (v := (-4)) X.1 X.2.1 dX10_right_152 (by decide) ?_
    exact r_iret X hV hF h dX10_right_154
set_option maxHeartbeats 4000000 in
theorem w_X10_right_72_b {p : Program} {l : Launch} {e : Env} {s : State} {m : MethodId} {args : Array Value} {below : List Frame} {meth : Method} {c : Code} {g : Gl} (X : FX g p m c s args meth cX10_right 7 RX10 (some .int) "right") {r : Int32 × Hp} {rec72 : Hp × Int32 × Int32 → Option (Int32 × Hp)} {x0 : Nat} {x1 : Int32} {x2 : Int32} {σ : Hp} {x3 : Int32} {x4 : Int32} (hr72 : ∀ (st : Hp × Int32 × Int32), rec72 st = some r → ∀ (H : Heap) (locs : List Loc) (ls : Array Slot), HV g st.1 H → FR g locs → lv_has ls 7 [(0, .ref x0), (1, .int x1), (2, .int x2), (3, .int st.2.1), (4, .int st.2.2)] → W p l e rm_X10_right s m args below meth c H locs 0 0 (MQ below (Qi g r) args s 0 0 (frN g)) (F0 m 72 ls [])) {H : Heap} {locs : List Loc} {ls : Array Slot} (h : B_X10_right_72 x0 x1 x2 rec72 σ x3 x4 = some r) (hV : HV g σ H) (hF : FR g locs) (hl : lv_has ls 7 [(0, .ref x0), (1, .int x1), (2, .int x2), (3, .int x3), (4, .int x4)]) : W p l e rm_X10_right s m args below meth c H locs 0 0 (MQ below (Qi g r) args s 0 0 (frN g)) (F0 m 72 ls []) := by
  unfold B_X10_right_72 at h
  refine lv_iload X.1 X.2.1 dX10_right_72 (lv_at hl 4 rfl) ?_
  refine lv_iload_n X.1 X.2.1 dX10_right_74 rfl (lv_at hl 1 rfl) ?_
  refine lv_bipush (v := 6) X.1 X.2.1 dX10_right_75 (by decide) ?_
  refine lv_idiv X.1 X.2.1 dX10_right_77 (by decide) ?_
  refine lv_bipush (v := 6) X.1 X.2.1 dX10_right_78 (by decide) ?_
  refine lv_imul X.1 X.2.1 dX10_right_80 ?_
  refine lv_bipush (v := 6) X.1 X.2.1 dX10_right_81 (by decide) ?_
  refine lv_iadd X.1 X.2.1 dX10_right_83 ?_
  refine r_ge (tgt := 148) X.1 X.2.1 dX10_right_84 (by decide) h (fun h => ?_) (fun h => ?_)
  · exact w_X10_right_148 X  h hV hF (lv_sub hl [0, 1, 2, 3] rfl)
  · refine lv_iload_n X.1 X.2.1 dX10_right_87 rfl (lv_at hl 3 rfl) ?_
    refine lv_iload X.1 X.2.1 dX10_right_88 (lv_at hl 4 rfl) ?_
    refine lv_iload_n X.1 X.2.1 dX10_right_90 rfl (lv_at hl 1 rfl) ?_
    refine r_eq (tgt := 139) X.1 X.2.1 dX10_right_91 (by decide) h (fun h => ?_) (fun h => ?_)
    · refine lv_iconst (v := 0) X.1 X.2.1 dX10_right_139 (by decide) ?_
      refine lv_iadd X.1 X.2.1 dX10_right_140 ?_
      refine lv_istore_n (lv' := [(3, .int (x3 + 0)), (0, .ref x0), (1, .int x1), (2, .int x2), (4, .int x4)]) X.1 X.2.1 dX10_right_141 rfl hl (by decide) rfl (fun ls hl => ?_)
      refine lv_iinc (v := x4 + 1) (lv' := [(4, .int (x4 + 1)), (3, .int (x3 + 0)), (0, .ref x0), (1, .int x1), (2, .int x2)]) X.1 X.2.1 dX10_right_142 hl (k := 4) rfl rfl (by decide) rfl (fun ls hl => ?_)
      refine lv_goto (tgt := 72) X.1 X.2.1 dX10_right_145 (by decide) ?_
      exact hr72 (σ, x3 + 0, x4 + 1) h _ _ _ hV hF (lv_sub hl [2, 3, 4, 1, 0] rfl)
    · refine lv_aload_n X.1 X.2.1 dX10_right_94 rfl (lv_at hl 0 rfl) ?_
      refine r_gR X hV fl_X10_32_10 (by decide) dX10_right_95 h (fun v1 h => ?_)
      refine lv_iload X.1 X.2.1 dX10_right_98 (lv_at hl 4 rfl) ?_
      refine r_ia X hV dX10_right_100 h (fun v2 h => ?_)
      refine lv_iconst (v := (-1)) X.1 X.2.1 dX10_right_101 (by decide) ?_
      refine r_eq (tgt := 139) X.1 X.2.1 dX10_right_102 (by decide) h (fun h => ?_) (fun h => ?_)
      · refine lv_iconst (v := 0) X.1 X.2.1 dX10_right_139 (by decide) ?_
        refine lv_iadd X.1 X.2.1 dX10_right_140 ?_
        refine lv_istore_n (lv' := [(3, .int (x3 + 0)), (0, .ref x0), (1, .int x1), (2, .int x2), (4, .int x4)]) X.1 X.2.1 dX10_right_141 rfl hl (by decide) rfl (fun ls hl => ?_)
        refine lv_iinc (v := x4 + 1) (lv' := [(4, .int (x4 + 1)), (3, .int (x3 + 0)), (0, .ref x0), (1, .int x1), (2, .int x2)]) X.1 X.2.1 dX10_right_142 hl (k := 4) rfl rfl (by decide) rfl (fun ls hl => ?_)
        refine lv_goto (tgt := 72) X.1 X.2.1 dX10_right_145 (by decide) ?_
        exact hr72 (σ, x3 + 0, x4 + 1) h _ _ _ hV hF (lv_sub hl [2, 3, 4, 1, 0] rfl)
      · refine lv_aload_n X.1 X.2.1 dX10_right_105 rfl (lv_at hl 0 rfl) ?_
        refine lv_aload_n X.1 X.2.1 dX10_right_106 rfl (lv_at hl 0 rfl) ?_
        refine r_gR X hV fl_X10_32_10 (by decide) dX10_right_107 h (fun v3 h => ?_)
        refine lv_iload X.1 X.2.1 dX10_right_110 (lv_at hl 4 rfl) ?_
        refine r_ia X hV dX10_right_112 h (fun v4 h => ?_)
        refine lv_aload_n X.1 X.2.1 dX10_right_113 rfl (lv_at hl 0 rfl) ?_
        refine r_gR X hV fl_X10_32_10 (by decide) dX10_right_114 h (fun v5 h => ?_)
        refine lv_iload_n X.1 X.2.1 dX10_right_117 rfl (lv_at hl 1 rfl) ?_
        refine r_ia X hV dX10_right_118 h (fun v6 h => ?_)
        obtain ⟨v7, s1, hc, h⟩ := b2_inv h
        refine r_ci (va_runV (C := RX10) (As := [.int v4, .int v6]) (rest := [.int x3]) (cfX X) (c_X10_likeness l hc) (cwV 2 X.2.2.2.2.1 (lw_V q1130 q1132 qs24 q59 q1133) rfl rfl rfl ⟨rfl, yd_X10_likeness⟩ ⟨Nat.le_of_ble_eq_true rfl, Nat.le_of_ble_eq_true rfl⟩) (preV X hV (F_X10_likeness_g hc) rfl) rfl rfl hl.1 rfl (lv_room (Nat.le_of_ble_eq_true rfl)) dX10_right_119 ⟨(Nat.le_of_ble_eq_true rfl), (Nat.le_of_ble_eq_true rfl)⟩) hF (fun H locs hV hF => ?_)
        refine lv_aload_n X.1 X.2.1 dX10_right_122 rfl (lv_at hl 0 rfl) ?_
        refine r_gI X hV fl_X10_22_10 dX10_right_123 h (fun v8 h => ?_)
        refine r_lt (tgt := 139) X.1 X.2.1 dX10_right_126 (by decide) h (fun h => ?_) (fun h => ?_)
        · refine lv_iconst (v := 0) X.1 X.2.1 dX10_right_139 (by decide) ?_
          refine lv_iadd X.1 X.2.1 dX10_right_140 ?_
          refine lv_istore_n (lv' := [(3, .int (x3 + 0)), (0, .ref x0), (1, .int x1), (2, .int x2), (4, .int x4)]) X.1 X.2.1 dX10_right_141 rfl hl (by decide) rfl (fun ls hl => ?_)
          refine lv_iinc (v := x4 + 1) (lv' := [(4, .int (x4 + 1)), (3, .int (x3 + 0)), (0, .ref x0), (1, .int x1), (2, .int x2)]) X.1 X.2.1 dX10_right_142 hl (k := 4) rfl rfl (by decide) rfl (fun ls hl => ?_)
          refine lv_goto (tgt := 72) X.1 X.2.1 dX10_right_145 (by decide) ?_
          exact hr72 (s1, x3 + 0, x4 + 1) h _ _ _ hV hF (lv_sub hl [2, 3, 4, 1, 0] rfl)
        · refine lv_aload_n X.1 X.2.1 dX10_right_129 rfl (lv_at hl 0 rfl) ?_
          refine r_gR X hV fl_X10_35_10 (by decide) dX10_right_130 h (fun v9 h => ?_)
          refine lv_iload X.1 X.2.1 dX10_right_133 (lv_at hl 4 rfl) ?_
          refine r_ia X hV dX10_right_135 h (fun v10 h => ?_)
          refine lv_goto (tgt := 140) X.1 X.2.1 dX10_right_136 (by decide) ?_
          refine lv_iadd X.1 X.2.1 dX10_right_140 ?_
          refine lv_istore_n (lv' := [(3, .int (x3 + v10)), (0, .ref x0), (1, .int x1), (2, .int x2), (4, .int x4)]) X.1 X.2.1 dX10_right_141 rfl hl (by decide) rfl (fun ls hl => ?_)
          refine lv_iinc (v := x4 + 1) (lv' := [(4, .int (x4 + 1)), (3, .int (x3 + v10)), (0, .ref x0), (1, .int x1), (2, .int x2)]) X.1 X.2.1 dX10_right_142 hl (k := 4) rfl rfl (by decide) rfl (fun ls hl => ?_)
          refine lv_goto (tgt := 72) X.1 X.2.1 dX10_right_145 (by decide) ?_
          exact hr72 (s1, x3 + v10, x4 + 1) h _ _ _ hV hF (lv_sub hl [2, 3, 4, 1, 0] rfl)
set_option maxHeartbeats 4000000 in
theorem w_X10_right_72 {p : Program} {l : Launch} {e : Env} {s : State} {m : MethodId} {args : Array Value} {below : List Frame} {meth : Method} {c : Code} {g : Gl} (X : FX g p m c s args meth cX10_right 7 RX10 (some .int) "right") {r : Int32 × Hp} {x0 : Nat} {x1 : Int32} {x2 : Int32}  : ∀ (n : Nat) (st : Hp × Int32 × Int32), L_X10_right_72 x0 x1 x2 n st = some r → ∀ (H : Heap) (locs : List Loc) (ls : Array Slot), HV g st.1 H → FR g locs → lv_has ls 7 [(0, .ref x0), (1, .int x1), (2, .int x2), (3, .int st.2.1), (4, .int st.2.2)] → W p l e rm_X10_right s m args below meth c H locs 0 0 (MQ below (Qi g r) args s 0 0 (frN g)) (F0 m 72 ls []) := by
  intro n
  induction n with
  | zero =>
    intro st h
    rw [L_X10_right_72_0] at h
    cases h
  | succ n ih =>
    intro st h H locs ls hV hF hl
    rw [L_X10_right_72_s] at h
    exact w_X10_right_72_b X  ih h hV hF hl
set_option maxHeartbeats 4000000 in
theorem c_X10_right (l : Launch) {g : Gl} {σ : Hp} {x0 : Nat} {x1 : Int32} {x2 : Int32} {r : Int32 × Hp} (h : F_X10_right σ x0 x1 x2 = some r) : Met l yX10_right (ws_ yX10_right cX10_right 7 (some .int)) rm_X10_right (va_Pc [.ref x0, .int x1, .int x2] (WV g σ)) (Qi g r) 0 0 (frN g) := by
  refine ct_of (by decide) (Nat.le_of_ble_eq_true rfl) ?_
  intro p e s m below meth c ls X hV hl
  have hF : FR g [] := FR_nil
  unfold F_X10_right at h
  have hl : lv_has ls 7 [(0, .ref x0), (1, .int x1), (2, .int x2)] := hl
  have X : FX g p m c s _ meth cX10_right 7 RX10 (some .int) "right" := X
  obtain ⟨-, h⟩ := gd_inv h
  refine lv_iload_n X.1 X.2.1 dX10_right_0 rfl (lv_at hl 1 rfl) ?_
  obtain ⟨v1, s1, hc, h⟩ := b2_inv h
  refine r_ci (va_runS (As := [.int x1]) (rest := []) (cfX X) (c_X10_isCorner l hc) (va_cwS 1 X.2.2.2.2.1 (lw_S q1146 q1147 q59 q1148) rfl rfl rfl yd_X10_isCorner ⟨Nat.le_of_ble_eq_true rfl, Nat.le_of_ble_eq_true rfl⟩) (preS X hV) rfl rfl hl.1 rfl (lv_room (Nat.le_of_ble_eq_true rfl)) dX10_right_1 ⟨(Nat.le_of_ble_eq_true rfl), (Nat.le_of_ble_eq_true rfl)⟩) hF (fun H locs hV hF => ?_)
  refine r_ifne (tgt := 10) X.1 X.2.1 dX10_right_4 (by decide) h (fun h => ?_) (fun h => ?_)
  · refine lv_iload_n X.1 X.2.1 dX10_right_10 rfl (lv_at hl 2 rfl) ?_
    refine lv_iconst (v := 0) X.1 X.2.1 dX10_right_11 (by decide) ?_
    refine lv_iconst (v := 1) X.1 X.2.1 dX10_right_12 (by decide) ?_
    obtain ⟨v2, s2, hc, h⟩ := b2_inv h
    refine r_ci (va_runS (As := [.int x2, .int 0, .int 1]) (rest := []) (cfX X) (c_X10_in l hc) (va_cwS 3 X.2.2.2.2.1 (lw_S q1104 q1105 q59 q1106) rfl rfl rfl yd_X10_in ⟨Nat.le_of_ble_eq_true rfl, Nat.le_of_ble_eq_true rfl⟩) (preS X hV) rfl rfl hl.1 rfl (lv_room (Nat.le_of_ble_eq_true rfl)) dX10_right_13 ⟨(Nat.le_of_ble_eq_true rfl), (Nat.le_of_ble_eq_true rfl)⟩) hF (fun H locs hV hF => ?_)
    refine r_ifne (tgt := 22) X.1 X.2.1 dX10_right_16 (by decide) h (fun h => ?_) (fun h => ?_)
    · refine lv_aload_n X.1 X.2.1 dX10_right_22 rfl (lv_at hl 0 rfl) ?_
      refine r_gR X hV fl_X10_32_10 (by decide) dX10_right_23 h (fun v3 h => ?_)
      refine lv_iload_n X.1 X.2.1 dX10_right_26 rfl (lv_at hl 1 rfl) ?_
      refine r_ia X hV dX10_right_27 h (fun v4 h => ?_)
      refine lv_iconst (v := (-1)) X.1 X.2.1 dX10_right_28 (by decide) ?_
      refine r_ne (tgt := 35) X.1 X.2.1 dX10_right_29 (by decide) h (fun h => ?_) (fun h => ?_)
      · refine lv_aload_n X.1 X.2.1 dX10_right_35 rfl (lv_at hl 0 rfl) ?_
        refine r_gR X hV fl_X10_35_10 (by decide) dX10_right_36 h (fun v5 h => ?_)
        refine lv_iload_n X.1 X.2.1 dX10_right_39 rfl (lv_at hl 1 rfl) ?_
        refine r_ia X hV dX10_right_40 h (fun v6 h => ?_)
        refine lv_aload_n X.1 X.2.1 dX10_right_41 rfl (lv_at hl 0 rfl) ?_
        refine r_gR X hV fl_X10_38_10 (by decide) dX10_right_42 h (fun v7 h => ?_)
        refine lv_iload_n X.1 X.2.1 dX10_right_45 rfl (lv_at hl 1 rfl) ?_
        refine r_ia X hV dX10_right_46 h (fun v8 h => ?_)
        refine lv_iconst (v := (-1)) X.1 X.2.1 dX10_right_47 (by decide) ?_
        refine r_ne (tgt := 55) X.1 X.2.1 dX10_right_48 (by decide) h (fun h => ?_) (fun h => ?_)
        · refine lv_aload_n X.1 X.2.1 dX10_right_55 rfl (lv_at hl 0 rfl) ?_
          refine r_gR X hV fl_X10_41_10 (by decide) dX10_right_56 h (fun v9 h => ?_)
          refine lv_iload_n X.1 X.2.1 dX10_right_59 rfl (lv_at hl 1 rfl) ?_
          refine r_ia X hV dX10_right_60 h (fun v10 h => ?_)
          refine lv_iadd X.1 X.2.1 dX10_right_61 ?_
          refine lv_istore_n (lv' := [(3, .int (v6 + v10)), (0, .ref x0), (1, .int x1), (2, .int x2)]) X.1 X.2.1 dX10_right_62 rfl hl (by decide) rfl (fun ls hl => ?_)
          refine lv_iload_n X.1 X.2.1 dX10_right_63 rfl (lv_at hl 2 rfl) ?_
          refine lv_bipush (v := 6) X.1 X.2.1 dX10_right_64 (by decide) ?_
          refine lv_idiv X.1 X.2.1 dX10_right_66 (by decide) ?_
          refine lv_bipush (v := 6) X.1 X.2.1 dX10_right_67 (by decide) ?_
          refine lv_imul X.1 X.2.1 dX10_right_69 ?_
          refine lv_istore (lv' := [(4, .int ((x1 / 6) * 6)), (3, .int (v6 + v10)), (0, .ref x0), (1, .int x1), (2, .int x2)]) X.1 X.2.1 dX10_right_70 hl (by decide) rfl (fun ls hl => ?_)
          exact w_X10_right_72 X  FU (s2, v6 + v10, (x1 / 6) * 6) h _ _ _ hV hF (lv_sub hl [2, 3, 4, 1, 0] rfl)
        · refine lv_iconst (v := 0) X.1 X.2.1 dX10_right_51 (by decide) ?_
          refine lv_goto (tgt := 61) X.1 X.2.1 dX10_right_52 (by decide) ?_
          refine lv_iadd X.1 X.2.1 dX10_right_61 ?_
          refine lv_istore_n (lv' := [(3, .int (v6 + 0)), (0, .ref x0), (1, .int x1), (2, .int x2)]) X.1 X.2.1 dX10_right_62 rfl hl (by decide) rfl (fun ls hl => ?_)
          refine lv_iload_n X.1 X.2.1 dX10_right_63 rfl (lv_at hl 2 rfl) ?_
          refine lv_bipush (v := 6) X.1 X.2.1 dX10_right_64 (by decide) ?_
          refine lv_idiv X.1 X.2.1 dX10_right_66 (by decide) ?_
          refine lv_bipush (v := 6) X.1 X.2.1 dX10_right_67 (by decide) ?_
          refine lv_imul X.1 X.2.1 dX10_right_69 ?_
          refine lv_istore (lv' := [(4, .int ((x1 / 6) * 6)), (3, .int (v6 + 0)), (0, .ref x0), (1, .int x1), (2, .int x2)]) X.1 X.2.1 dX10_right_70 hl (by decide) rfl (fun ls hl => ?_)
          exact w_X10_right_72 X  FU (s2, v6 + 0, (x1 / 6) * 6) h _ _ _ hV hF (lv_sub hl [2, 3, 4, 1, 0] rfl)
      · refine lv_bipush (v := (-4)) X.1 X.2.1 dX10_right_32 (by decide) ?_
        exact r_iret X hV hF h dX10_right_34
    · refine lv_bipush (v := (-3)) X.1 X.2.1 dX10_right_19 (by decide) ?_
      exact r_iret X hV hF h dX10_right_21
  · refine lv_bipush (v := (-2)) X.1 X.2.1 dX10_right_7 (by decide) ?_
    exact r_iret X hV hF h dX10_right_9
