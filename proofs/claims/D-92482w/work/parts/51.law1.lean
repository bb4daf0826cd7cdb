set_option maxRecDepth 100000
theorem nw_L_7 : NWk RL 7 0 22 := ⟨RX0, TX0, 22, tyX0, rfl, in_X0, tyX0_ok, by decide +kernel, q77, q78, q49⟩
theorem nw_L_10 : NWk RL 10 10 39 := ⟨RX10, TX10, 39, tyX10, rfl, in_X10, tyX10_ok, by decide +kernel, q973, q974, q59⟩
abbrev rm_L_law : Room := { frames := 2048, cells := 723776, slots := 6924776, locals := 84000 }
set_option maxHeartbeats 4000000 in
theorem w_L_law_176 {p : Program} {l : Launch} {e : Env} {s : State} {m : MethodId} {below : List Frame} {meth : Method} {c : Code} {g : Gl} {b L : Nat} {xs : Nat → Int32} {k : Nat} (hk : k < 65) (X : FX g p m c s #[Value.ref b] meth cL_law 4 RL (some .boolean) meth.name) (hS : va_X b L xs s g.2.1) (hb : b < g.1) (hgs : s.heap.size ≤ g.1) {r : Unit} {rec18 : Hp × Int32 → Option (Unit)} {σ : Hp} {x1 : Nat} {x2 : Nat} {x3 : Int32} (hr18 : ∀ (st : Hp × Int32), rec18 st = some r → ∀ (H : Heap) (locs : List Loc) (ls : Array Slot), HV g st.1 H → FR g locs → lv_has ls 4 [(0, .ref b), (1, .ref x1), (2, .ref x2), (3, .int st.2)] → W p l e rm_L_law s m #[Value.ref b] below meth c H locs (275 + 200 * (k + 1)) (2578 + 1500 * (k + 1)) (lw_Z below #[Value.ref b] s) (F0 m 18 ls [])) {H : Heap} {locs : List Loc} {ls : Array Slot} (h : F_L_law_176 L xs rec18 σ x1 x2 x3 = some r) (hV : HV g σ H) (hF : FR g locs) (hl : lv_has ls 4 [(0, .ref b), (1, .ref x1), (2, .ref x2), (3, .int x3)]) : W p l e rm_L_law s m #[Value.ref b] below meth c H locs (275 + 200 * k) (2578 + 1500 * k) (lw_Z below #[Value.ref b] s) (F0 m 176 ls []) := by
  unfold F_L_law_176 at h
  refine lv_aload_n X.1 X.2.1 dL_law_176 rfl (lv_at hl 1 rfl) ?_
  refine lv_aload_n X.1 X.2.1 dL_law_177 rfl (lv_at hl 0 rfl) ?_
  refine lv_iload_n X.1 X.2.1 dL_law_178 rfl (lv_at hl 3 rfl) ?_
  refine lv_iconst (v := 1) X.1 X.2.1 dL_law_179 (by decide) ?_
  refine lv_iadd X.1 X.2.1 dL_law_180 ?_
  refine r_sX X hV hS hb dL_law_181 h (fun v1 h => ?_)
  refine lv_aload_n X.1 X.2.1 dL_law_182 rfl (lv_at hl 0 rfl) ?_
  refine lv_iload_n X.1 X.2.1 dL_law_183 rfl (lv_at hl 3 rfl) ?_
  refine lv_iconst (v := 2) X.1 X.2.1 dL_law_184 (by decide) ?_
  refine lv_iadd X.1 X.2.1 dL_law_185 ?_
  refine r_sX X hV hS hb dL_law_186 h (fun v2 h => ?_)
  obtain ⟨v3, s1, hc, h⟩ := b2_inv h
  refine r_ci (va_runV (C := RX0) (As := [.int v1, .int v2]) (rest := []) (cfX X) (c_X0_door l hc) (cwV 2 X.2.2.2.2.1 (lw_V q323 q324 q325 q49 q326) rfl rfl rfl ⟨rfl, yd_X0_door⟩ ⟨Nat.le_of_ble_eq_true rfl, Nat.le_of_ble_eq_true rfl⟩) (preV X hV (F_X0_door_g hc) rfl) rfl rfl hl.1 rfl (lv_room (Nat.le_of_ble_eq_true rfl)) dL_law_187 ⟨(by simp only [rm_L_law]; omega), (by simp only [rm_L_law]; omega)⟩) hF (fun H locs hV hF => ?_)
  refine lv_aload_n X.1 X.2.1 dL_law_190 rfl (lv_at hl 2 rfl) ?_
  refine lv_aload_n X.1 X.2.1 dL_law_191 rfl (lv_at hl 0 rfl) ?_
  refine lv_iload_n X.1 X.2.1 dL_law_192 rfl (lv_at hl 3 rfl) ?_
  refine lv_iconst (v := 1) X.1 X.2.1 dL_law_193 (by decide) ?_
  refine lv_iadd X.1 X.2.1 dL_law_194 ?_
  refine r_sX X hV hS hb dL_law_195 h (fun v4 h => ?_)
  refine lv_aload_n X.1 X.2.1 dL_law_196 rfl (lv_at hl 0 rfl) ?_
  refine lv_iload_n X.1 X.2.1 dL_law_197 rfl (lv_at hl 3 rfl) ?_
  refine lv_iconst (v := 2) X.1 X.2.1 dL_law_198 (by decide) ?_
  refine lv_iadd X.1 X.2.1 dL_law_199 ?_
  refine r_sX X hV hS hb dL_law_200 h (fun v5 h => ?_)
  obtain ⟨v6, s2, hc, h⟩ := b2_inv h
  refine r_ci (va_runV (C := RX10) (As := [.int v4, .int v5]) (rest := [.int v3]) (cfX X) (c_X10_door l hc) (cwV 2 X.2.2.2.2.1 (lw_V q1097 q1098 q1099 q59 q1100) rfl rfl rfl ⟨rfl, yd_X10_door⟩ ⟨Nat.le_of_ble_eq_true rfl, Nat.le_of_ble_eq_true rfl⟩) (preV X hV (F_X10_door_g hc) rfl) rfl rfl hl.1 rfl (lv_room (Nat.le_of_ble_eq_true rfl)) dL_law_201 ⟨(by simp only [rm_L_law]; omega), (by simp only [rm_L_law]; omega)⟩) hF (fun H locs hV hF => ?_)
  refine r_eq (tgt := 1248) X.1 X.2.1 dL_law_204 (by decide) h (fun h => ?_) (fun h => ?_)
  · refine lv_iinc (v := x3 + 5) (lv' := [(3, .int (x3 + 5)), (0, .ref b), (1, .ref x1), (2, .ref x2)]) X.1 X.2.1 dL_law_1248 hl (k := 3) rfl rfl (by decide) rfl (fun ls hl => ?_)
    refine lv_goto (tgt := 18) X.1 X.2.1 dL_law_1251 (by decide) ?_
    refine W.widen (k := 275 + 200 * (k + 1)) (n := 2578 + 1500 * (k + 1)) (by omega) (by omega) ?_
    exact hr18 (s2, x3 + 5) h _ _ _ hV hF (lv_sub hl [1, 2, 3, 0] rfl)
  · cases h
set_option maxHeartbeats 4000000 in
theorem w_L_law_209 {p : Program} {l : Launch} {e : Env} {s : State} {m : MethodId} {below : List Frame} {meth : Method} {c : Code} {g : Gl} {b L : Nat} {xs : Nat → Int32} {k : Nat} (hk : k < 65) (X : FX g p m c s #[Value.ref b] meth cL_law 4 RL (some .boolean) meth.name) (hS : va_X b L xs s g.2.1) (hb : b < g.1) (hgs : s.heap.size ≤ g.1) {r : Unit} {rec18 : Hp × Int32 → Option (Unit)} {σ : Hp} {x1 : Nat} {x2 : Nat} {x3 : Int32} (hr18 : ∀ (st : Hp × Int32), rec18 st = some r → ∀ (H : Heap) (locs : List Loc) (ls : Array Slot), HV g st.1 H → FR g locs → lv_has ls 4 [(0, .ref b), (1, .ref x1), (2, .ref x2), (3, .int st.2)] → W p l e rm_L_law s m #[Value.ref b] below meth c H locs (275 + 200 * (k + 1)) (2578 + 1500 * (k + 1)) (lw_Z below #[Value.ref b] s) (F0 m 18 ls [])) {H : Heap} {locs : List Loc} {ls : Array Slot} (h : F_L_law_209 L xs rec18 σ x1 x2 x3 = some r) (hV : HV g σ H) (hF : FR g locs) (hl : lv_has ls 4 [(0, .ref b), (1, .ref x1), (2, .ref x2), (3, .int x3)]) : W p l e rm_L_law s m #[Value.ref b] below meth c H locs (275 + 200 * k) (2578 + 1500 * k) (lw_Z below #[Value.ref b] s) (F0 m 209 ls []) := by
  unfold F_L_law_209 at h
  refine lv_aload_n X.1 X.2.1 dL_law_209 rfl (lv_at hl 1 rfl) ?_
  refine lv_aload_n X.1 X.2.1 dL_law_210 rfl (lv_at hl 0 rfl) ?_
  refine lv_iload_n X.1 X.2.1 dL_law_211 rfl (lv_at hl 3 rfl) ?_
  refine lv_iconst (v := 1) X.1 X.2.1 dL_law_212 (by decide) ?_
  refine lv_iadd X.1 X.2.1 dL_law_213 ?_
  refine r_sX X hV hS hb dL_law_214 h (fun v1 h => ?_)
  refine lv_aload_n X.1 X.2.1 dL_law_215 rfl (lv_at hl 0 rfl) ?_
  refine lv_iload_n X.1 X.2.1 dL_law_216 rfl (lv_at hl 3 rfl) ?_
  refine lv_iconst (v := 2) X.1 X.2.1 dL_law_217 (by decide) ?_
  refine lv_iadd X.1 X.2.1 dL_law_218 ?_
  refine r_sX X hV hS hb dL_law_219 h (fun v2 h => ?_)
  obtain ⟨v3, s1, hc, h⟩ := b2_inv h
  refine r_ci (va_runV (C := RX0) (As := [.int v1, .int v2]) (rest := []) (cfX X) (c_X0_away l hc) (cwV 2 X.2.2.2.2.1 (lw_V q334 q335 q336 q49 q337) rfl rfl rfl ⟨rfl, yd_X0_away⟩ ⟨Nat.le_of_ble_eq_true rfl, Nat.le_of_ble_eq_true rfl⟩) (preV X hV (F_X0_away_g hc) rfl) rfl rfl hl.1 rfl (lv_room (Nat.le_of_ble_eq_true rfl)) dL_law_220 ⟨(by simp only [rm_L_law]; omega), (by simp only [rm_L_law]; omega)⟩) hF (fun H locs hV hF => ?_)
  refine lv_aload_n X.1 X.2.1 dL_law_223 rfl (lv_at hl 2 rfl) ?_
  refine lv_aload_n X.1 X.2.1 dL_law_224 rfl (lv_at hl 0 rfl) ?_
  refine lv_iload_n X.1 X.2.1 dL_law_225 rfl (lv_at hl 3 rfl) ?_
  refine lv_iconst (v := 1) X.1 X.2.1 dL_law_226 (by decide) ?_
  refine lv_iadd X.1 X.2.1 dL_law_227 ?_
  refine r_sX X hV hS hb dL_law_228 h (fun v4 h => ?_)
  refine lv_aload_n X.1 X.2.1 dL_law_229 rfl (lv_at hl 0 rfl) ?_
  refine lv_iload_n X.1 X.2.1 dL_law_230 rfl (lv_at hl 3 rfl) ?_
  refine lv_iconst (v := 2) X.1 X.2.1 dL_law_231 (by decide) ?_
  refine lv_iadd X.1 X.2.1 dL_law_232 ?_
  refine r_sX X hV hS hb dL_law_233 h (fun v5 h => ?_)
  obtain ⟨v6, s2, hc, h⟩ := b2_inv h
  refine r_ci (va_runV (C := RX10) (As := [.int v4, .int v5]) (rest := [.int v3]) (cfX X) (c_X10_away l hc) (cwV 2 X.2.2.2.2.1 (lw_V q1111 q1112 q1113 q59 q1114) rfl rfl rfl ⟨rfl, yd_X10_away⟩ ⟨Nat.le_of_ble_eq_true rfl, Nat.le_of_ble_eq_true rfl⟩) (preV X hV (F_X10_away_g hc) rfl) rfl rfl hl.1 rfl (lv_room (Nat.le_of_ble_eq_true rfl)) dL_law_234 ⟨(by simp only [rm_L_law]; omega), (by simp only [rm_L_law]; omega)⟩) hF (fun H locs hV hF => ?_)
  refine r_eq (tgt := 1248) X.1 X.2.1 dL_law_237 (by decide) h (fun h => ?_) (fun h => ?_)
  · refine lv_iinc (v := x3 + 5) (lv' := [(3, .int (x3 + 5)), (0, .ref b), (1, .ref x1), (2, .ref x2)]) X.1 X.2.1 dL_law_1248 hl (k := 3) rfl rfl (by decide) rfl (fun ls hl => ?_)
    refine lv_goto (tgt := 18) X.1 X.2.1 dL_law_1251 (by decide) ?_
    refine W.widen (k := 275 + 200 * (k + 1)) (n := 2578 + 1500 * (k + 1)) (by omega) (by omega) ?_
    exact hr18 (s2, x3 + 5) h _ _ _ hV hF (lv_sub hl [1, 2, 3, 0] rfl)
  · cases h
set_option maxHeartbeats 4000000 in
theorem w_L_law_242 {p : Program} {l : Launch} {e : Env} {s : State} {m : MethodId} {below : List Frame} {meth : Method} {c : Code} {g : Gl} {b L : Nat} {xs : Nat → Int32} {k : Nat} (hk : k < 65) (X : FX g p m c s #[Value.ref b] meth cL_law 4 RL (some .boolean) meth.name) (hS : va_X b L xs s g.2.1) (hb : b < g.1) (hgs : s.heap.size ≤ g.1) {r : Unit} {rec18 : Hp × Int32 → Option (Unit)} {σ : Hp} {x1 : Nat} {x2 : Nat} {x3 : Int32} (hr18 : ∀ (st : Hp × Int32), rec18 st = some r → ∀ (H : Heap) (locs : List Loc) (ls : Array Slot), HV g st.1 H → FR g locs → lv_has ls 4 [(0, .ref b), (1, .ref x1), (2, .ref x2), (3, .int st.2)] → W p l e rm_L_law s m #[Value.ref b] below meth c H locs (275 + 200 * (k + 1)) (2578 + 1500 * (k + 1)) (lw_Z below #[Value.ref b] s) (F0 m 18 ls [])) {H : Heap} {locs : List Loc} {ls : Array Slot} (h : F_L_law_242 L xs rec18 σ x1 x2 x3 = some r) (hV : HV g σ H) (hF : FR g locs) (hl : lv_has ls 4 [(0, .ref b), (1, .ref x1), (2, .ref x2), (3, .int x3)]) : W p l e rm_L_law s m #[Value.ref b] below meth c H locs (275 + 200 * k) (2578 + 1500 * k) (lw_Z below #[Value.ref b] s) (F0 m 242 ls []) := by
  unfold F_L_law_242 at h
  refine lv_aload_n X.1 X.2.1 dL_law_242 rfl (lv_at hl 1 rfl) ?_
  refine lv_aload_n X.1 X.2.1 dL_law_243 rfl (lv_at hl 0 rfl) ?_
  refine lv_iload_n X.1 X.2.1 dL_law_244 rfl (lv_at hl 3 rfl) ?_
  refine lv_iconst (v := 1) X.1 X.2.1 dL_law_245 (by decide) ?_
  refine lv_iadd X.1 X.2.1 dL_law_246 ?_
  refine r_sX X hV hS hb dL_law_247 h (fun v1 h => ?_)
  refine lv_aload_n X.1 X.2.1 dL_law_248 rfl (lv_at hl 0 rfl) ?_
  refine lv_iload_n X.1 X.2.1 dL_law_249 rfl (lv_at hl 3 rfl) ?_
  refine lv_iconst (v := 2) X.1 X.2.1 dL_law_250 (by decide) ?_
  refine lv_iadd X.1 X.2.1 dL_law_251 ?_
  refine r_sX X hV hS hb dL_law_252 h (fun v2 h => ?_)
  obtain ⟨v3, s1, hc, h⟩ := b2_inv h
  refine r_ci (va_runV (C := RX0) (As := [.int v1, .int v2]) (rest := []) (cfX X) (c_X0_marks l hc) (cwV 2 X.2.2.2.2.1 (lw_V q342 q343 q344 q49 q345) rfl rfl rfl ⟨rfl, yd_X0_marks⟩ ⟨Nat.le_of_ble_eq_true rfl, Nat.le_of_ble_eq_true rfl⟩) (preV X hV (F_X0_marks_g hc) rfl) rfl rfl hl.1 rfl (lv_room (Nat.le_of_ble_eq_true rfl)) dL_law_253 ⟨(by simp only [rm_L_law]; omega), (by simp only [rm_L_law]; omega)⟩) hF (fun H locs hV hF => ?_)
  refine lv_aload_n X.1 X.2.1 dL_law_256 rfl (lv_at hl 2 rfl) ?_
  refine lv_aload_n X.1 X.2.1 dL_law_257 rfl (lv_at hl 0 rfl) ?_
  refine lv_iload_n X.1 X.2.1 dL_law_258 rfl (lv_at hl 3 rfl) ?_
  refine lv_iconst (v := 1) X.1 X.2.1 dL_law_259 (by decide) ?_
  refine lv_iadd X.1 X.2.1 dL_law_260 ?_
  refine r_sX X hV hS hb dL_law_261 h (fun v4 h => ?_)
  refine lv_aload_n X.1 X.2.1 dL_law_262 rfl (lv_at hl 0 rfl) ?_
  refine lv_iload_n X.1 X.2.1 dL_law_263 rfl (lv_at hl 3 rfl) ?_
  refine lv_iconst (v := 2) X.1 X.2.1 dL_law_264 (by decide) ?_
  refine lv_iadd X.1 X.2.1 dL_law_265 ?_
  refine r_sX X hV hS hb dL_law_266 h (fun v5 h => ?_)
  obtain ⟨v6, s2, hc, h⟩ := b2_inv h
  refine r_ci (va_runV (C := RX10) (As := [.int v4, .int v5]) (rest := [.int v3]) (cfX X) (c_X10_marks l hc) (cwV 2 X.2.2.2.2.1 (lw_V q1119 q1120 q1121 q59 q1122) rfl rfl rfl ⟨rfl, yd_X10_marks⟩ ⟨Nat.le_of_ble_eq_true rfl, Nat.le_of_ble_eq_true rfl⟩) (preV X hV (F_X10_marks_g hc) rfl) rfl rfl hl.1 rfl (lv_room (Nat.le_of_ble_eq_true rfl)) dL_law_267 ⟨(by simp only [rm_L_law]; omega), (by simp only [rm_L_law]; omega)⟩) hF (fun H locs hV hF => ?_)
  refine r_eq (tgt := 1248) X.1 X.2.1 dL_law_270 (by decide) h (fun h => ?_) (fun h => ?_)
  · refine lv_iinc (v := x3 + 5) (lv' := [(3, .int (x3 + 5)), (0, .ref b), (1, .ref x1), (2, .ref x2)]) X.1 X.2.1 dL_law_1248 hl (k := 3) rfl rfl (by decide) rfl (fun ls hl => ?_)
    refine lv_goto (tgt := 18) X.1 X.2.1 dL_law_1251 (by decide) ?_
    refine W.widen (k := 275 + 200 * (k + 1)) (n := 2578 + 1500 * (k + 1)) (by omega) (by omega) ?_
    exact hr18 (s2, x3 + 5) h _ _ _ hV hF (lv_sub hl [1, 2, 3, 0] rfl)
  · cases h
set_option maxHeartbeats 4000000 in
theorem w_L_law_275 {p : Program} {l : Launch} {e : Env} {s : State} {m : MethodId} {below : List Frame} {meth : Method} {c : Code} {g : Gl} {b L : Nat} {xs : Nat → Int32} {k : Nat} (hk : k < 65) (X : FX g p m c s #[Value.ref b] meth cL_law 4 RL (some .boolean) meth.name) (hS : va_X b L xs s g.2.1) (hb : b < g.1) (hgs : s.heap.size ≤ g.1) {r : Unit} {rec18 : Hp × Int32 → Option (Unit)} {σ : Hp} {x1 : Nat} {x2 : Nat} {x3 : Int32} (hr18 : ∀ (st : Hp × Int32), rec18 st = some r → ∀ (H : Heap) (locs : List Loc) (ls : Array Slot), HV g st.1 H → FR g locs → lv_has ls 4 [(0, .ref b), (1, .ref x1), (2, .ref x2), (3, .int st.2)] → W p l e rm_L_law s m #[Value.ref b] below meth c H locs (275 + 200 * (k + 1)) (2578 + 1500 * (k + 1)) (lw_Z below #[Value.ref b] s) (F0 m 18 ls [])) {H : Heap} {locs : List Loc} {ls : Array Slot} (h : F_L_law_275 L xs rec18 σ x1 x2 x3 = some r) (hV : HV g σ H) (hF : FR g locs) (hl : lv_has ls 4 [(0, .ref b), (1, .ref x1), (2, .ref x2), (3, .int x3)]) : W p l e rm_L_law s m #[Value.ref b] below meth c H locs (275 + 200 * k) (2578 + 1500 * k) (lw_Z below #[Value.ref b] s) (F0 m 275 ls []) := by
  unfold F_L_law_275 at h
  refine lv_aload_n X.1 X.2.1 dL_law_275 rfl (lv_at hl 1 rfl) ?_
  refine lv_aload_n X.1 X.2.1 dL_law_276 rfl (lv_at hl 0 rfl) ?_
  refine lv_iload_n X.1 X.2.1 dL_law_277 rfl (lv_at hl 3 rfl) ?_
  refine lv_iconst (v := 1) X.1 X.2.1 dL_law_278 (by decide) ?_
  refine lv_iadd X.1 X.2.1 dL_law_279 ?_
  refine r_sX X hV hS hb dL_law_280 h (fun v1 h => ?_)
  refine lv_aload_n X.1 X.2.1 dL_law_281 rfl (lv_at hl 0 rfl) ?_
  refine lv_iload_n X.1 X.2.1 dL_law_282 rfl (lv_at hl 3 rfl) ?_
  refine lv_iconst (v := 2) X.1 X.2.1 dL_law_283 (by decide) ?_
  refine lv_iadd X.1 X.2.1 dL_law_284 ?_
  refine r_sX X hV hS hb dL_law_285 h (fun v2 h => ?_)
  obtain ⟨v3, s1, hc, h⟩ := b2_inv h
  refine r_ci (va_runV (C := RX0) (As := [.int v1, .int v2]) (rest := []) (cfX X) (c_X0_like l hc) (cwV 2 X.2.2.2.2.1 (lw_V q351 q352 q353 q49 q354) rfl rfl rfl ⟨rfl, yd_X0_like⟩ ⟨Nat.le_of_ble_eq_true rfl, Nat.le_of_ble_eq_true rfl⟩) (preV X hV (F_X0_like_g hc) rfl) rfl rfl hl.1 rfl (lv_room (Nat.le_of_ble_eq_true rfl)) dL_law_286 ⟨(by simp only [rm_L_law]; omega), (by simp only [rm_L_law]; omega)⟩) hF (fun H locs hV hF => ?_)
  refine lv_aload_n X.1 X.2.1 dL_law_289 rfl (lv_at hl 2 rfl) ?_
  refine lv_aload_n X.1 X.2.1 dL_law_290 rfl (lv_at hl 0 rfl) ?_
  refine lv_iload_n X.1 X.2.1 dL_law_291 rfl (lv_at hl 3 rfl) ?_
  refine lv_iconst (v := 1) X.1 X.2.1 dL_law_292 (by decide) ?_
  refine lv_iadd X.1 X.2.1 dL_law_293 ?_
  refine r_sX X hV hS hb dL_law_294 h (fun v4 h => ?_)
  refine lv_aload_n X.1 X.2.1 dL_law_295 rfl (lv_at hl 0 rfl) ?_
  refine lv_iload_n X.1 X.2.1 dL_law_296 rfl (lv_at hl 3 rfl) ?_
  refine lv_iconst (v := 2) X.1 X.2.1 dL_law_297 (by decide) ?_
  refine lv_iadd X.1 X.2.1 dL_law_298 ?_
  refine r_sX X hV hS hb dL_law_299 h (fun v5 h => ?_)
  obtain ⟨v6, s2, hc, h⟩ := b2_inv h
  refine r_ci (va_runV (C := RX10) (As := [.int v4, .int v5]) (rest := [.int v3]) (cfX X) (c_X10_like l hc) (cwV 2 X.2.2.2.2.1 (lw_V q1126 q1127 q1128 q59 q1129) rfl rfl rfl ⟨rfl, yd_X10_like⟩ ⟨Nat.le_of_ble_eq_true rfl, Nat.le_of_ble_eq_true rfl⟩) (preV X hV (F_X10_like_g hc) rfl) rfl rfl hl.1 rfl (lv_room (Nat.le_of_ble_eq_true rfl)) dL_law_300 ⟨(by simp only [rm_L_law]; omega), (by simp only [rm_L_law]; omega)⟩) hF (fun H locs hV hF => ?_)
  refine r_eq (tgt := 1248) X.1 X.2.1 dL_law_303 (by decide) h (fun h => ?_) (fun h => ?_)
  · refine lv_iinc (v := x3 + 5) (lv' := [(3, .int (x3 + 5)), (0, .ref b), (1, .ref x1), (2, .ref x2)]) X.1 X.2.1 dL_law_1248 hl (k := 3) rfl rfl (by decide) rfl (fun ls hl => ?_)
    refine lv_goto (tgt := 18) X.1 X.2.1 dL_law_1251 (by decide) ?_
    refine W.widen (k := 275 + 200 * (k + 1)) (n := 2578 + 1500 * (k + 1)) (by omega) (by omega) ?_
    exact hr18 (s2, x3 + 5) h _ _ _ hV hF (lv_sub hl [1, 2, 3, 0] rfl)
  · cases h
set_option maxHeartbeats 4000000 in
theorem w_L_law_308 {p : Program} {l : Launch} {e : Env} {s : State} {m : MethodId} {below : List Frame} {meth : Method} {c : Code} {g : Gl} {b L : Nat} {xs : Nat → Int32} {k : Nat} (hk : k < 65) (X : FX g p m c s #[Value.ref b] meth cL_law 4 RL (some .boolean) meth.name) (hS : va_X b L xs s g.2.1) (hb : b < g.1) (hgs : s.heap.size ≤ g.1) {r : Unit} {rec18 : Hp × Int32 → Option (Unit)} {σ : Hp} {x1 : Nat} {x2 : Nat} {x3 : Int32} (hr18 : ∀ (st : Hp × Int32), rec18 st = some r → ∀ (H : Heap) (locs : List Loc) (ls : Array Slot), HV g st.1 H → FR g locs → lv_has ls 4 [(0, .ref b), (1, .ref x1), (2, .ref x2), (3, .int st.2)] → W p l e rm_L_law s m #[Value.ref b] below meth c H locs (275 + 200 * (k + 1)) (2578 + 1500 * (k + 1)) (lw_Z below #[Value.ref b] s) (F0 m 18 ls [])) {H : Heap} {locs : List Loc} {ls : Array Slot} (h : F_L_law_308 L xs rec18 σ x1 x2 x3 = some r) (hV : HV g σ H) (hF : FR g locs) (hl : lv_has ls 4 [(0, .ref b), (1, .ref x1), (2, .ref x2), (3, .int x3)]) : W p l e rm_L_law s m #[Value.ref b] below meth c H locs (275 + 200 * k) (2578 + 1500 * k) (lw_Z below #[Value.ref b] s) (F0 m 308 ls []) := by
  unfold F_L_law_308 at h
  refine lv_aload_n X.1 X.2.1 dL_law_308 rfl (lv_at hl 1 rfl) ?_
  refine lv_aload_n X.1 X.2.1 dL_law_309 rfl (lv_at hl 0 rfl) ?_
  refine lv_iload_n X.1 X.2.1 dL_law_310 rfl (lv_at hl 3 rfl) ?_
  refine lv_iconst (v := 1) X.1 X.2.1 dL_law_311 (by decide) ?_
  refine lv_iadd X.1 X.2.1 dL_law_312 ?_
  refine r_sX X hV hS hb dL_law_313 h (fun v1 h => ?_)
  refine lv_aload_n X.1 X.2.1 dL_law_314 rfl (lv_at hl 0 rfl) ?_
  refine lv_iload_n X.1 X.2.1 dL_law_315 rfl (lv_at hl 3 rfl) ?_
  refine lv_iconst (v := 2) X.1 X.2.1 dL_law_316 (by decide) ?_
  refine lv_iadd X.1 X.2.1 dL_law_317 ?_
  refine r_sX X hV hS hb dL_law_318 h (fun v2 h => ?_)
  obtain ⟨v3, s1, hc, h⟩ := b2_inv h
  refine r_ci (va_runV (C := RX0) (As := [.int v1, .int v2]) (rest := []) (cfX X) (c_X0_set l hc) (cwV 2 X.2.2.2.2.1 (lw_V q365 q366 q367 q49 q368) rfl rfl rfl ⟨rfl, yd_X0_set⟩ ⟨Nat.le_of_ble_eq_true rfl, Nat.le_of_ble_eq_true rfl⟩) (preV X hV (F_X0_set_g hc) rfl) rfl rfl hl.1 rfl (lv_room (Nat.le_of_ble_eq_true rfl)) dL_law_319 ⟨(by simp only [rm_L_law]; omega), (by simp only [rm_L_law]; omega)⟩) hF (fun H locs hV hF => ?_)
  refine lv_aload_n X.1 X.2.1 dL_law_322 rfl (lv_at hl 2 rfl) ?_
  refine lv_aload_n X.1 X.2.1 dL_law_323 rfl (lv_at hl 0 rfl) ?_
  refine lv_iload_n X.1 X.2.1 dL_law_324 rfl (lv_at hl 3 rfl) ?_
  refine lv_iconst (v := 1) X.1 X.2.1 dL_law_325 (by decide) ?_
  refine lv_iadd X.1 X.2.1 dL_law_326 ?_
  refine r_sX X hV hS hb dL_law_327 h (fun v4 h => ?_)
  refine lv_aload_n X.1 X.2.1 dL_law_328 rfl (lv_at hl 0 rfl) ?_
  refine lv_iload_n X.1 X.2.1 dL_law_329 rfl (lv_at hl 3 rfl) ?_
  refine lv_iconst (v := 2) X.1 X.2.1 dL_law_330 (by decide) ?_
  refine lv_iadd X.1 X.2.1 dL_law_331 ?_
  refine r_sX X hV hS hb dL_law_332 h (fun v5 h => ?_)
  obtain ⟨v6, s2, hc, h⟩ := b2_inv h
  refine r_ci (va_runV (C := RX10) (As := [.int v4, .int v5]) (rest := [.int v3]) (cfX X) (c_X10_set l hc) (cwV 2 X.2.2.2.2.1 (lw_V q1134 q1135 q1136 q59 q1137) rfl rfl rfl ⟨rfl, yd_X10_set⟩ ⟨Nat.le_of_ble_eq_true rfl, Nat.le_of_ble_eq_true rfl⟩) (preV X hV (F_X10_set_g hc) rfl) rfl rfl hl.1 rfl (lv_room (Nat.le_of_ble_eq_true rfl)) dL_law_333 ⟨(by simp only [rm_L_law]; omega), (by simp only [rm_L_law]; omega)⟩) hF (fun H locs hV hF => ?_)
  refine r_eq (tgt := 1248) X.1 X.2.1 dL_law_336 (by decide) h (fun h => ?_) (fun h => ?_)
  · refine lv_iinc (v := x3 + 5) (lv' := [(3, .int (x3 + 5)), (0, .ref b), (1, .ref x1), (2, .ref x2)]) X.1 X.2.1 dL_law_1248 hl (k := 3) rfl rfl (by decide) rfl (fun ls hl => ?_)
    refine lv_goto (tgt := 18) X.1 X.2.1 dL_law_1251 (by decide) ?_
    refine W.widen (k := 275 + 200 * (k + 1)) (n := 2578 + 1500 * (k + 1)) (by omega) (by omega) ?_
    exact hr18 (s2, x3 + 5) h _ _ _ hV hF (lv_sub hl [1, 2, 3, 0] rfl)
  · cases h
set_option maxHeartbeats 4000000 in
theorem w_L_law_341 {p : Program} {l : Launch} {e : Env} {s : State} {m : MethodId} {below : List Frame} {meth : Method} {c : Code} {g : Gl} {b L : Nat} {xs : Nat → Int32} {k : Nat} (hk : k < 65) (X : FX g p m c s #[Value.ref b] meth cL_law 4 RL (some .boolean) meth.name) (hS : va_X b L xs s g.2.1) (hb : b < g.1) (hgs : s.heap.size ≤ g.1) {r : Unit} {rec18 : Hp × Int32 → Option (Unit)} {σ : Hp} {x1 : Nat} {x2 : Nat} {x3 : Int32} (hr18 : ∀ (st : Hp × Int32), rec18 st = some r → ∀ (H : Heap) (locs : List Loc) (ls : Array Slot), HV g st.1 H → FR g locs → lv_has ls 4 [(0, .ref b), (1, .ref x1), (2, .ref x2), (3, .int st.2)] → W p l e rm_L_law s m #[Value.ref b] below meth c H locs (275 + 200 * (k + 1)) (2578 + 1500 * (k + 1)) (lw_Z below #[Value.ref b] s) (F0 m 18 ls [])) {H : Heap} {locs : List Loc} {ls : Array Slot} (h : F_L_law_341 L xs rec18 σ x1 x2 x3 = some r) (hV : HV g σ H) (hF : FR g locs) (hl : lv_has ls 4 [(0, .ref b), (1, .ref x1), (2, .ref x2), (3, .int x3)]) : W p l e rm_L_law s m #[Value.ref b] below meth c H locs (275 + 200 * k) (2578 + 1500 * k) (lw_Z below #[Value.ref b] s) (F0 m 341 ls []) := by
  unfold F_L_law_341 at h
  refine lv_aload_n X.1 X.2.1 dL_law_341 rfl (lv_at hl 1 rfl) ?_
  refine lv_aload_n X.1 X.2.1 dL_law_342 rfl (lv_at hl 0 rfl) ?_
  refine lv_iload_n X.1 X.2.1 dL_law_343 rfl (lv_at hl 3 rfl) ?_
  refine lv_iconst (v := 1) X.1 X.2.1 dL_law_344 (by decide) ?_
  refine lv_iadd X.1 X.2.1 dL_law_345 ?_
  refine r_sX X hV hS hb dL_law_346 h (fun v1 h => ?_)
  refine lv_aload_n X.1 X.2.1 dL_law_347 rfl (lv_at hl 0 rfl) ?_
  refine lv_iload_n X.1 X.2.1 dL_law_348 rfl (lv_at hl 3 rfl) ?_
  refine lv_iconst (v := 2) X.1 X.2.1 dL_law_349 (by decide) ?_
  refine lv_iadd X.1 X.2.1 dL_law_350 ?_
  refine r_sX X hV hS hb dL_law_351 h (fun v2 h => ?_)
  obtain ⟨v3, s1, hc, h⟩ := b2_inv h
  refine r_ci (va_runV (C := RX0) (As := [.int v1, .int v2]) (rest := []) (cfX X) (c_X0_fall l hc) (cwV 2 X.2.2.2.2.1 (lw_V q371 q372 q373 q49 q374) rfl rfl rfl ⟨rfl, yd_X0_fall⟩ ⟨Nat.le_of_ble_eq_true rfl, Nat.le_of_ble_eq_true rfl⟩) (preV X hV (F_X0_fall_g hc) rfl) rfl rfl hl.1 rfl (lv_room (Nat.le_of_ble_eq_true rfl)) dL_law_352 ⟨(by simp only [rm_L_law]; omega), (by simp only [rm_L_law]; omega)⟩) hF (fun H locs hV hF => ?_)
  refine lv_aload_n X.1 X.2.1 dL_law_355 rfl (lv_at hl 2 rfl) ?_
  refine lv_aload_n X.1 X.2.1 dL_law_356 rfl (lv_at hl 0 rfl) ?_
  refine lv_iload_n X.1 X.2.1 dL_law_357 rfl (lv_at hl 3 rfl) ?_
  refine lv_iconst (v := 1) X.1 X.2.1 dL_law_358 (by decide) ?_
  refine lv_iadd X.1 X.2.1 dL_law_359 ?_
  refine r_sX X hV hS hb dL_law_360 h (fun v4 h => ?_)
  refine lv_aload_n X.1 X.2.1 dL_law_361 rfl (lv_at hl 0 rfl) ?_
  refine lv_iload_n X.1 X.2.1 dL_law_362 rfl (lv_at hl 3 rfl) ?_
  refine lv_iconst (v := 2) X.1 X.2.1 dL_law_363 (by decide) ?_
  refine lv_iadd X.1 X.2.1 dL_law_364 ?_
  refine r_sX X hV hS hb dL_law_365 h (fun v5 h => ?_)
  obtain ⟨v6, s2, hc, h⟩ := b2_inv h
  refine r_ci (va_runV (C := RX10) (As := [.int v4, .int v5]) (rest := [.int v3]) (cfX X) (c_X10_fall l hc) (cwV 2 X.2.2.2.2.1 (lw_V q1138 q1139 q1140 q59 q1141) rfl rfl rfl ⟨rfl, yd_X10_fall⟩ ⟨Nat.le_of_ble_eq_true rfl, Nat.le_of_ble_eq_true rfl⟩) (preV X hV (F_X10_fall_g hc) rfl) rfl rfl hl.1 rfl (lv_room (Nat.le_of_ble_eq_true rfl)) dL_law_366 ⟨(by simp only [rm_L_law]; omega), (by simp only [rm_L_law]; omega)⟩) hF (fun H locs hV hF => ?_)
  refine r_eq (tgt := 1248) X.1 X.2.1 dL_law_369 (by decide) h (fun h => ?_) (fun h => ?_)
  · refine lv_iinc (v := x3 + 5) (lv' := [(3, .int (x3 + 5)), (0, .ref b), (1, .ref x1), (2, .ref x2)]) X.1 X.2.1 dL_law_1248 hl (k := 3) rfl rfl (by decide) rfl (fun ls hl => ?_)
    refine lv_goto (tgt := 18) X.1 X.2.1 dL_law_1251 (by decide) ?_
    refine W.widen (k := 275 + 200 * (k + 1)) (n := 2578 + 1500 * (k + 1)) (by omega) (by omega) ?_
    exact hr18 (s2, x3 + 5) h _ _ _ hV hF (lv_sub hl [1, 2, 3, 0] rfl)
  · cases h
set_option maxHeartbeats 4000000 in
theorem w_L_law_374 {p : Program} {l : Launch} {e : Env} {s : State} {m : MethodId} {below : List Frame} {meth : Method} {c : Code} {g : Gl} {b L : Nat} {xs : Nat → Int32} {k : Nat} (hk : k < 65) (X : FX g p m c s #[Value.ref b] meth cL_law 4 RL (some .boolean) meth.name) (hS : va_X b L xs s g.2.1) (hb : b < g.1) (hgs : s.heap.size ≤ g.1) {r : Unit} {rec18 : Hp × Int32 → Option (Unit)} {σ : Hp} {x1 : Nat} {x2 : Nat} {x3 : Int32} (hr18 : ∀ (st : Hp × Int32), rec18 st = some r → ∀ (H : Heap) (locs : List Loc) (ls : Array Slot), HV g st.1 H → FR g locs → lv_has ls 4 [(0, .ref b), (1, .ref x1), (2, .ref x2), (3, .int st.2)] → W p l e rm_L_law s m #[Value.ref b] below meth c H locs (275 + 200 * (k + 1)) (2578 + 1500 * (k + 1)) (lw_Z below #[Value.ref b] s) (F0 m 18 ls [])) {H : Heap} {locs : List Loc} {ls : Array Slot} (h : F_L_law_374 L xs rec18 σ x1 x2 x3 = some r) (hV : HV g σ H) (hF : FR g locs) (hl : lv_has ls 4 [(0, .ref b), (1, .ref x1), (2, .ref x2), (3, .int x3)]) : W p l e rm_L_law s m #[Value.ref b] below meth c H locs (275 + 200 * k) (2578 + 1500 * k) (lw_Z below #[Value.ref b] s) (F0 m 374 ls []) := by
  unfold F_L_law_374 at h
  refine lv_aload_n X.1 X.2.1 dL_law_374 rfl (lv_at hl 1 rfl) ?_
  refine lv_aload_n X.1 X.2.1 dL_law_375 rfl (lv_at hl 0 rfl) ?_
  refine lv_iload_n X.1 X.2.1 dL_law_376 rfl (lv_at hl 3 rfl) ?_
  refine lv_iconst (v := 1) X.1 X.2.1 dL_law_377 (by decide) ?_
  refine lv_iadd X.1 X.2.1 dL_law_378 ?_
  refine r_sX X hV hS hb dL_law_379 h (fun v1 h => ?_)
  refine lv_aload_n X.1 X.2.1 dL_law_380 rfl (lv_at hl 0 rfl) ?_
  refine lv_iload_n X.1 X.2.1 dL_law_381 rfl (lv_at hl 3 rfl) ?_
  refine lv_iconst (v := 2) X.1 X.2.1 dL_law_382 (by decide) ?_
  refine lv_iadd X.1 X.2.1 dL_law_383 ?_
  refine r_sX X hV hS hb dL_law_384 h (fun v2 h => ?_)
  obtain ⟨v3, s1, hc, h⟩ := b2_inv h
  refine r_ci (va_runV (C := RX0) (As := [.int v1, .int v2]) (rest := []) (cfX X) (c_X0_put l hc) (cwV 2 X.2.2.2.2.1 (lw_V q377 q378 q379 q49 q380) rfl rfl rfl ⟨rfl, yd_X0_put⟩ ⟨Nat.le_of_ble_eq_true rfl, Nat.le_of_ble_eq_true rfl⟩) (preV X hV (F_X0_put_g hc) rfl) rfl rfl hl.1 rfl (lv_room (Nat.le_of_ble_eq_true rfl)) dL_law_385 ⟨(by simp only [rm_L_law]; omega), (by simp only [rm_L_law]; omega)⟩) hF (fun H locs hV hF => ?_)
  refine lv_aload_n X.1 X.2.1 dL_law_388 rfl (lv_at hl 2 rfl) ?_
  refine lv_aload_n X.1 X.2.1 dL_law_389 rfl (lv_at hl 0 rfl) ?_
  refine lv_iload_n X.1 X.2.1 dL_law_390 rfl (lv_at hl 3 rfl) ?_
  refine lv_iconst (v := 1) X.1 X.2.1 dL_law_391 (by decide) ?_
  refine lv_iadd X.1 X.2.1 dL_law_392 ?_
  refine r_sX X hV hS hb dL_law_393 h (fun v4 h => ?_)
  refine lv_aload_n X.1 X.2.1 dL_law_394 rfl (lv_at hl 0 rfl) ?_
  refine lv_iload_n X.1 X.2.1 dL_law_395 rfl (lv_at hl 3 rfl) ?_
  refine lv_iconst (v := 2) X.1 X.2.1 dL_law_396 (by decide) ?_
  refine lv_iadd X.1 X.2.1 dL_law_397 ?_
  refine r_sX X hV hS hb dL_law_398 h (fun v5 h => ?_)
  obtain ⟨v6, s2, hc, h⟩ := b2_inv h
  refine r_ci (va_runV (C := RX10) (As := [.int v4, .int v5]) (rest := [.int v3]) (cfX X) (c_X10_put l hc) (cwV 2 X.2.2.2.2.1 (lw_V q1142 q1143 q1144 q59 q1145) rfl rfl rfl ⟨rfl, yd_X10_put⟩ ⟨Nat.le_of_ble_eq_true rfl, Nat.le_of_ble_eq_true rfl⟩) (preV X hV (F_X10_put_g hc) rfl) rfl rfl hl.1 rfl (lv_room (Nat.le_of_ble_eq_true rfl)) dL_law_399 ⟨(by simp only [rm_L_law]; omega), (by simp only [rm_L_law]; omega)⟩) hF (fun H locs hV hF => ?_)
  refine r_eq (tgt := 1248) X.1 X.2.1 dL_law_402 (by decide) h (fun h => ?_) (fun h => ?_)
  · refine lv_iinc (v := x3 + 5) (lv' := [(3, .int (x3 + 5)), (0, .ref b), (1, .ref x1), (2, .ref x2)]) X.1 X.2.1 dL_law_1248 hl (k := 3) rfl rfl (by decide) rfl (fun ls hl => ?_)
    refine lv_goto (tgt := 18) X.1 X.2.1 dL_law_1251 (by decide) ?_
    refine W.widen (k := 275 + 200 * (k + 1)) (n := 2578 + 1500 * (k + 1)) (by omega) (by omega) ?_
    exact hr18 (s2, x3 + 5) h _ _ _ hV hF (lv_sub hl [1, 2, 3, 0] rfl)
  · cases h
set_option maxHeartbeats 4000000 in
theorem w_L_law_407 {p : Program} {l : Launch} {e : Env} {s : State} {m : MethodId} {below : List Frame} {meth : Method} {c : Code} {g : Gl} {b L : Nat} {xs : Nat → Int32} {k : Nat} (hk : k < 65) (X : FX g p m c s #[Value.ref b] meth cL_law 4 RL (some .boolean) meth.name) (hS : va_X b L xs s g.2.1) (hb : b < g.1) (hgs : s.heap.size ≤ g.1) {r : Unit} {rec18 : Hp × Int32 → Option (Unit)} {σ : Hp} {x1 : Nat} {x2 : Nat} {x3 : Int32} (hr18 : ∀ (st : Hp × Int32), rec18 st = some r → ∀ (H : Heap) (locs : List Loc) (ls : Array Slot), HV g st.1 H → FR g locs → lv_has ls 4 [(0, .ref b), (1, .ref x1), (2, .ref x2), (3, .int st.2)] → W p l e rm_L_law s m #[Value.ref b] below meth c H locs (275 + 200 * (k + 1)) (2578 + 1500 * (k + 1)) (lw_Z below #[Value.ref b] s) (F0 m 18 ls [])) {H : Heap} {locs : List Loc} {ls : Array Slot} (h : F_L_law_407 L xs rec18 σ x1 x2 x3 = some r) (hV : HV g σ H) (hF : FR g locs) (hl : lv_has ls 4 [(0, .ref b), (1, .ref x1), (2, .ref x2), (3, .int x3)]) : W p l e rm_L_law s m #[Value.ref b] below meth c H locs (275 + 200 * k) (2578 + 1500 * k) (lw_Z below #[Value.ref b] s) (F0 m 407 ls []) := by
  unfold F_L_law_407 at h
  refine lv_aload_n X.1 X.2.1 dL_law_407 rfl (lv_at hl 1 rfl) ?_
  refine lv_aload_n X.1 X.2.1 dL_law_408 rfl (lv_at hl 0 rfl) ?_
  refine lv_iload_n X.1 X.2.1 dL_law_409 rfl (lv_at hl 3 rfl) ?_
  refine lv_iconst (v := 1) X.1 X.2.1 dL_law_410 (by decide) ?_
  refine lv_iadd X.1 X.2.1 dL_law_411 ?_
  refine r_sX X hV hS hb dL_law_412 h (fun v1 h => ?_)
  obtain ⟨v2, s1, hc, h⟩ := b2_inv h
  refine r_ci (va_runV (C := RX0) (As := [.int v1]) (rest := []) (cfX X) (c_X0_clear l hc) (cwV 1 X.2.2.2.2.1 (lw_V q402 q403 q404 q49 q405) rfl rfl rfl ⟨rfl, yd_X0_clear⟩ ⟨Nat.le_of_ble_eq_true rfl, Nat.le_of_ble_eq_true rfl⟩) (preV X hV (F_X0_clear_g hc) rfl) rfl rfl hl.1 rfl (lv_room (Nat.le_of_ble_eq_true rfl)) dL_law_413 ⟨(by simp only [rm_L_law]; omega), (by simp only [rm_L_law]; omega)⟩) hF (fun H locs hV hF => ?_)
  refine lv_aload_n X.1 X.2.1 dL_law_416 rfl (lv_at hl 2 rfl) ?_
  refine lv_aload_n X.1 X.2.1 dL_law_417 rfl (lv_at hl 0 rfl) ?_
  refine lv_iload_n X.1 X.2.1 dL_law_418 rfl (lv_at hl 3 rfl) ?_
  refine lv_iconst (v := 1) X.1 X.2.1 dL_law_419 (by decide) ?_
  refine lv_iadd X.1 X.2.1 dL_law_420 ?_
  refine r_sX X hV hS hb dL_law_421 h (fun v3 h => ?_)
  obtain ⟨v4, s2, hc, h⟩ := b2_inv h
  refine r_ci (va_runV (C := RX10) (As := [.int v3]) (rest := [.int v2]) (cfX X) (c_X10_clear l hc) (cwV 1 X.2.2.2.2.1 (lw_V q1153 q1154 q1155 q59 q1156) rfl rfl rfl ⟨rfl, yd_X10_clear⟩ ⟨Nat.le_of_ble_eq_true rfl, Nat.le_of_ble_eq_true rfl⟩) (preV X hV (F_X10_clear_g hc) rfl) rfl rfl hl.1 rfl (lv_room (Nat.le_of_ble_eq_true rfl)) dL_law_422 ⟨(by simp only [rm_L_law]; omega), (by simp only [rm_L_law]; omega)⟩) hF (fun H locs hV hF => ?_)
  refine r_eq (tgt := 1248) X.1 X.2.1 dL_law_425 (by decide) h (fun h => ?_) (fun h => ?_)
  · refine lv_iinc (v := x3 + 5) (lv' := [(3, .int (x3 + 5)), (0, .ref b), (1, .ref x1), (2, .ref x2)]) X.1 X.2.1 dL_law_1248 hl (k := 3) rfl rfl (by decide) rfl (fun ls hl => ?_)
    refine lv_goto (tgt := 18) X.1 X.2.1 dL_law_1251 (by decide) ?_
    refine W.widen (k := 275 + 200 * (k + 1)) (n := 2578 + 1500 * (k + 1)) (by omega) (by omega) ?_
    exact hr18 (s2, x3 + 5) h _ _ _ hV hF (lv_sub hl [1, 2, 3, 0] rfl)
  · cases h
set_option maxHeartbeats 4000000 in
theorem w_L_law_430 {p : Program} {l : Launch} {e : Env} {s : State} {m : MethodId} {below : List Frame} {meth : Method} {c : Code} {g : Gl} {b L : Nat} {xs : Nat → Int32} {k : Nat} (hk : k < 65) (X : FX g p m c s #[Value.ref b] meth cL_law 4 RL (some .boolean) meth.name) (hS : va_X b L xs s g.2.1) (hb : b < g.1) (hgs : s.heap.size ≤ g.1) {r : Unit} {rec18 : Hp × Int32 → Option (Unit)} {σ : Hp} {x1 : Nat} {x2 : Nat} {x3 : Int32} (hr18 : ∀ (st : Hp × Int32), rec18 st = some r → ∀ (H : Heap) (locs : List Loc) (ls : Array Slot), HV g st.1 H → FR g locs → lv_has ls 4 [(0, .ref b), (1, .ref x1), (2, .ref x2), (3, .int st.2)] → W p l e rm_L_law s m #[Value.ref b] below meth c H locs (275 + 200 * (k + 1)) (2578 + 1500 * (k + 1)) (lw_Z below #[Value.ref b] s) (F0 m 18 ls [])) {H : Heap} {locs : List Loc} {ls : Array Slot} (h : F_L_law_430 L xs rec18 σ x1 x2 x3 = some r) (hV : HV g σ H) (hF : FR g locs) (hl : lv_has ls 4 [(0, .ref b), (1, .ref x1), (2, .ref x2), (3, .int x3)]) : W p l e rm_L_law s m #[Value.ref b] below meth c H locs (275 + 200 * k) (2578 + 1500 * k) (lw_Z below #[Value.ref b] s) (F0 m 430 ls []) := by
  unfold F_L_law_430 at h
  refine lv_aload_n X.1 X.2.1 dL_law_430 rfl (lv_at hl 1 rfl) ?_
  refine lv_aload_n X.1 X.2.1 dL_law_431 rfl (lv_at hl 0 rfl) ?_
  refine lv_iload_n X.1 X.2.1 dL_law_432 rfl (lv_at hl 3 rfl) ?_
  refine lv_iconst (v := 1) X.1 X.2.1 dL_law_433 (by decide) ?_
  refine lv_iadd X.1 X.2.1 dL_law_434 ?_
  refine r_sX X hV hS hb dL_law_435 h (fun v1 h => ?_)
  refine lv_aload_n X.1 X.2.1 dL_law_436 rfl (lv_at hl 0 rfl) ?_
  refine lv_iload_n X.1 X.2.1 dL_law_437 rfl (lv_at hl 3 rfl) ?_
  refine lv_iconst (v := 2) X.1 X.2.1 dL_law_438 (by decide) ?_
  refine lv_iadd X.1 X.2.1 dL_law_439 ?_
  refine r_sX X hV hS hb dL_law_440 h (fun v2 h => ?_)
  obtain ⟨v3, s1, hc, h⟩ := b2_inv h
  refine r_ci (va_runV (C := RX0) (As := [.int v1, .int v2]) (rest := []) (cfX X) (c_X0_corner l hc) (cwV 2 X.2.2.2.2.1 (lw_V q414 q415 q416 q49 q417) rfl rfl rfl ⟨rfl, yd_X0_corner⟩ ⟨Nat.le_of_ble_eq_true rfl, Nat.le_of_ble_eq_true rfl⟩) (preV X hV (F_X0_corner_g hc) rfl) rfl rfl hl.1 rfl (lv_room (Nat.le_of_ble_eq_true rfl)) dL_law_441 ⟨(by simp only [rm_L_law]; omega), (by simp only [rm_L_law]; omega)⟩) hF (fun H locs hV hF => ?_)
  refine lv_aload_n X.1 X.2.1 dL_law_444 rfl (lv_at hl 2 rfl) ?_
  refine lv_aload_n X.1 X.2.1 dL_law_445 rfl (lv_at hl 0 rfl) ?_
  refine lv_iload_n X.1 X.2.1 dL_law_446 rfl (lv_at hl 3 rfl) ?_
  refine lv_iconst (v := 1) X.1 X.2.1 dL_law_447 (by decide) ?_
  refine lv_iadd X.1 X.2.1 dL_law_448 ?_
  refine r_sX X hV hS hb dL_law_449 h (fun v4 h => ?_)
  refine lv_aload_n X.1 X.2.1 dL_law_450 rfl (lv_at hl 0 rfl) ?_
  refine lv_iload_n X.1 X.2.1 dL_law_451 rfl (lv_at hl 3 rfl) ?_
  refine lv_iconst (v := 2) X.1 X.2.1 dL_law_452 (by decide) ?_
  refine lv_iadd X.1 X.2.1 dL_law_453 ?_
  refine r_sX X hV hS hb dL_law_454 h (fun v5 h => ?_)
  obtain ⟨v6, s2, hc, h⟩ := b2_inv h
  refine r_ci (va_runV (C := RX10) (As := [.int v4, .int v5]) (rest := [.int v3]) (cfX X) (c_X10_corner l hc) (cwV 2 X.2.2.2.2.1 (lw_V q1157 q1158 q1159 q59 q1160) rfl rfl rfl ⟨rfl, yd_X10_corner⟩ ⟨Nat.le_of_ble_eq_true rfl, Nat.le_of_ble_eq_true rfl⟩) (preV X hV (F_X10_corner_g hc) rfl) rfl rfl hl.1 rfl (lv_room (Nat.le_of_ble_eq_true rfl)) dL_law_455 ⟨(by simp only [rm_L_law]; omega), (by simp only [rm_L_law]; omega)⟩) hF (fun H locs hV hF => ?_)
  refine r_eq (tgt := 1248) X.1 X.2.1 dL_law_458 (by decide) h (fun h => ?_) (fun h => ?_)
  · refine lv_iinc (v := x3 + 5) (lv' := [(3, .int (x3 + 5)), (0, .ref b), (1, .ref x1), (2, .ref x2)]) X.1 X.2.1 dL_law_1248 hl (k := 3) rfl rfl (by decide) rfl (fun ls hl => ?_)
    refine lv_goto (tgt := 18) X.1 X.2.1 dL_law_1251 (by decide) ?_
    refine W.widen (k := 275 + 200 * (k + 1)) (n := 2578 + 1500 * (k + 1)) (by omega) (by omega) ?_
    exact hr18 (s2, x3 + 5) h _ _ _ hV hF (lv_sub hl [1, 2, 3, 0] rfl)
  · cases h
set_option maxHeartbeats 4000000 in
theorem w_L_law_463 {p : Program} {l : Launch} {e : Env} {s : State} {m : MethodId} {below : List Frame} {meth : Method} {c : Code} {g : Gl} {b L : Nat} {xs : Nat → Int32} {k : Nat} (hk : k < 65) (X : FX g p m c s #[Value.ref b] meth cL_law 4 RL (some .boolean) meth.name) (hS : va_X b L xs s g.2.1) (hb : b < g.1) (hgs : s.heap.size ≤ g.1) {r : Unit} {rec18 : Hp × Int32 → Option (Unit)} {σ : Hp} {x1 : Nat} {x2 : Nat} {x3 : Int32} (hr18 : ∀ (st : Hp × Int32), rec18 st = some r → ∀ (H : Heap) (locs : List Loc) (ls : Array Slot), HV g st.1 H → FR g locs → lv_has ls 4 [(0, .ref b), (1, .ref x1), (2, .ref x2), (3, .int st.2)] → W p l e rm_L_law s m #[Value.ref b] below meth c H locs (275 + 200 * (k + 1)) (2578 + 1500 * (k + 1)) (lw_Z below #[Value.ref b] s) (F0 m 18 ls [])) {H : Heap} {locs : List Loc} {ls : Array Slot} (h : F_L_law_463 L xs rec18 σ x1 x2 x3 = some r) (hV : HV g σ H) (hF : FR g locs) (hl : lv_has ls 4 [(0, .ref b), (1, .ref x1), (2, .ref x2), (3, .int x3)]) : W p l e rm_L_law s m #[Value.ref b] below meth c H locs (275 + 200 * k) (2578 + 1500 * k) (lw_Z below #[Value.ref b] s) (F0 m 463 ls []) := by
  unfold F_L_law_463 at h
  refine lv_aload_n X.1 X.2.1 dL_law_463 rfl (lv_at hl 1 rfl) ?_
  refine lv_aload_n X.1 X.2.1 dL_law_464 rfl (lv_at hl 0 rfl) ?_
  refine lv_iload_n X.1 X.2.1 dL_law_465 rfl (lv_at hl 3 rfl) ?_
  refine lv_iconst (v := 1) X.1 X.2.1 dL_law_466 (by decide) ?_
  refine lv_iadd X.1 X.2.1 dL_law_467 ?_
  refine r_sX X hV hS hb dL_law_468 h (fun v1 h => ?_)
  obtain ⟨v2, s1, hc, h⟩ := b2_inv h
  refine r_ci (va_runV (C := RX0) (As := [.int v1]) (rest := []) (cfX X) (c_X0_where l hc) (cwV 1 X.2.2.2.2.1 (lw_V q423 q424 q425 q49 q426) rfl rfl rfl ⟨rfl, yd_X0_where⟩ ⟨Nat.le_of_ble_eq_true rfl, Nat.le_of_ble_eq_true rfl⟩) (preV X hV (F_X0_where_g hc) rfl) rfl rfl hl.1 rfl (lv_room (Nat.le_of_ble_eq_true rfl)) dL_law_469 ⟨(by simp only [rm_L_law]; omega), (by simp only [rm_L_law]; omega)⟩) hF (fun H locs hV hF => ?_)
  refine lv_aload_n X.1 X.2.1 dL_law_472 rfl (lv_at hl 2 rfl) ?_
  refine lv_aload_n X.1 X.2.1 dL_law_473 rfl (lv_at hl 0 rfl) ?_
  refine lv_iload_n X.1 X.2.1 dL_law_474 rfl (lv_at hl 3 rfl) ?_
  refine lv_iconst (v := 1) X.1 X.2.1 dL_law_475 (by decide) ?_
  refine lv_iadd X.1 X.2.1 dL_law_476 ?_
  refine r_sX X hV hS hb dL_law_477 h (fun v3 h => ?_)
  obtain ⟨v4, s2, hc, h⟩ := b2_inv h
  refine r_ci (va_runV (C := RX10) (As := [.int v3]) (rest := [.int v2]) (cfX X) (c_X10_where l hc) (cwV 1 X.2.2.2.2.1 (lw_V q1161 q1162 q1163 q59 q1164) rfl rfl rfl ⟨rfl, yd_X10_where⟩ ⟨Nat.le_of_ble_eq_true rfl, Nat.le_of_ble_eq_true rfl⟩) (preV X hV (F_X10_where_g hc) rfl) rfl rfl hl.1 rfl (lv_room (Nat.le_of_ble_eq_true rfl)) dL_law_478 ⟨(by simp only [rm_L_law]; omega), (by simp only [rm_L_law]; omega)⟩) hF (fun H locs hV hF => ?_)
  refine r_eq (tgt := 1248) X.1 X.2.1 dL_law_481 (by decide) h (fun h => ?_) (fun h => ?_)
  · refine lv_iinc (v := x3 + 5) (lv' := [(3, .int (x3 + 5)), (0, .ref b), (1, .ref x1), (2, .ref x2)]) X.1 X.2.1 dL_law_1248 hl (k := 3) rfl rfl (by decide) rfl (fun ls hl => ?_)
    refine lv_goto (tgt := 18) X.1 X.2.1 dL_law_1251 (by decide) ?_
    refine W.widen (k := 275 + 200 * (k + 1)) (n := 2578 + 1500 * (k + 1)) (by omega) (by omega) ?_
    exact hr18 (s2, x3 + 5) h _ _ _ hV hF (lv_sub hl [1, 2, 3, 0] rfl)
  · cases h
set_option maxHeartbeats 4000000 in
theorem w_L_law_486 {p : Program} {l : Launch} {e : Env} {s : State} {m : MethodId} {below : List Frame} {meth : Method} {c : Code} {g : Gl} {b L : Nat} {xs : Nat → Int32} {k : Nat} (hk : k < 65) (X : FX g p m c s #[Value.ref b] meth cL_law 4 RL (some .boolean) meth.name) (hS : va_X b L xs s g.2.1) (hb : b < g.1) (hgs : s.heap.size ≤ g.1) {r : Unit} {rec18 : Hp × Int32 → Option (Unit)} {σ : Hp} {x1 : Nat} {x2 : Nat} {x3 : Int32} (hr18 : ∀ (st : Hp × Int32), rec18 st = some r → ∀ (H : Heap) (locs : List Loc) (ls : Array Slot), HV g st.1 H → FR g locs → lv_has ls 4 [(0, .ref b), (1, .ref x1), (2, .ref x2), (3, .int st.2)] → W p l e rm_L_law s m #[Value.ref b] below meth c H locs (275 + 200 * (k + 1)) (2578 + 1500 * (k + 1)) (lw_Z below #[Value.ref b] s) (F0 m 18 ls [])) {H : Heap} {locs : List Loc} {ls : Array Slot} (h : F_L_law_486 L xs rec18 σ x1 x2 x3 = some r) (hV : HV g σ H) (hF : FR g locs) (hl : lv_has ls 4 [(0, .ref b), (1, .ref x1), (2, .ref x2), (3, .int x3)]) : W p l e rm_L_law s m #[Value.ref b] below meth c H locs (275 + 200 * k) (2578 + 1500 * k) (lw_Z below #[Value.ref b] s) (F0 m 486 ls []) := by
  unfold F_L_law_486 at h
  refine lv_aload_n X.1 X.2.1 dL_law_486 rfl (lv_at hl 1 rfl) ?_
  refine lv_aload_n X.1 X.2.1 dL_law_487 rfl (lv_at hl 0 rfl) ?_
  refine lv_iload_n X.1 X.2.1 dL_law_488 rfl (lv_at hl 3 rfl) ?_
  refine lv_iconst (v := 1) X.1 X.2.1 dL_law_489 (by decide) ?_
  refine lv_iadd X.1 X.2.1 dL_law_490 ?_
  refine r_sX X hV hS hb dL_law_491 h (fun v1 h => ?_)
  obtain ⟨v2, s1, hc, h⟩ := b2_inv h
  refine r_ci (va_runV (C := RX0) (As := [.int v1]) (rest := []) (cfX X) (c_X0_days l hc) (cwV 1 X.2.2.2.2.1 (lw_V q427 q428 q429 q49 q430) rfl rfl rfl ⟨rfl, yd_X0_days⟩ ⟨Nat.le_of_ble_eq_true rfl, Nat.le_of_ble_eq_true rfl⟩) (preV X hV (F_X0_days_g hc) rfl) rfl rfl hl.1 rfl (lv_room (Nat.le_of_ble_eq_true rfl)) dL_law_492 ⟨(by simp only [rm_L_law]; omega), (by simp only [rm_L_law]; omega)⟩) hF (fun H locs hV hF => ?_)
  refine lv_aload_n X.1 X.2.1 dL_law_495 rfl (lv_at hl 2 rfl) ?_
  refine lv_aload_n X.1 X.2.1 dL_law_496 rfl (lv_at hl 0 rfl) ?_
  refine lv_iload_n X.1 X.2.1 dL_law_497 rfl (lv_at hl 3 rfl) ?_
  refine lv_iconst (v := 1) X.1 X.2.1 dL_law_498 (by decide) ?_
  refine lv_iadd X.1 X.2.1 dL_law_499 ?_
  refine r_sX X hV hS hb dL_law_500 h (fun v3 h => ?_)
  obtain ⟨v4, s2, hc, h⟩ := b2_inv h
  refine r_ci (va_runV (C := RX10) (As := [.int v3]) (rest := [.int v2]) (cfX X) (c_X10_days l hc) (cwV 1 X.2.2.2.2.1 (lw_V q1165 q1166 q1167 q59 q1168) rfl rfl rfl ⟨rfl, yd_X10_days⟩ ⟨Nat.le_of_ble_eq_true rfl, Nat.le_of_ble_eq_true rfl⟩) (preV X hV (F_X10_days_g hc) rfl) rfl rfl hl.1 rfl (lv_room (Nat.le_of_ble_eq_true rfl)) dL_law_501 ⟨(by simp only [rm_L_law]; omega), (by simp only [rm_L_law]; omega)⟩) hF (fun H locs hV hF => ?_)
  refine r_eq (tgt := 1248) X.1 X.2.1 dL_law_504 (by decide) h (fun h => ?_) (fun h => ?_)
  · refine lv_iinc (v := x3 + 5) (lv' := [(3, .int (x3 + 5)), (0, .ref b), (1, .ref x1), (2, .ref x2)]) X.1 X.2.1 dL_law_1248 hl (k := 3) rfl rfl (by decide) rfl (fun ls hl => ?_)
    refine lv_goto (tgt := 18) X.1 X.2.1 dL_law_1251 (by decide) ?_
    refine W.widen (k := 275 + 200 * (k + 1)) (n := 2578 + 1500 * (k + 1)) (by omega) (by omega) ?_
    exact hr18 (s2, x3 + 5) h _ _ _ hV hF (lv_sub hl [1, 2, 3, 0] rfl)
  · cases h
set_option maxHeartbeats 4000000 in
theorem w_L_law_509 {p : Program} {l : Launch} {e : Env} {s : State} {m : MethodId} {below : List Frame} {meth : Method} {c : Code} {g : Gl} {b L : Nat} {xs : Nat → Int32} {k : Nat} (hk : k < 65) (X : FX g p m c s #[Value.ref b] meth cL_law 4 RL (some .boolean) meth.name) (hS : va_X b L xs s g.2.1) (hb : b < g.1) (hgs : s.heap.size ≤ g.1) {r : Unit} {rec18 : Hp × Int32 → Option (Unit)} {σ : Hp} {x1 : Nat} {x2 : Nat} {x3 : Int32} (hr18 : ∀ (st : Hp × Int32), rec18 st = some r → ∀ (H : Heap) (locs : List Loc) (ls : Array Slot), HV g st.1 H → FR g locs → lv_has ls 4 [(0, .ref b), (1, .ref x1), (2, .ref x2), (3, .int st.2)] → W p l e rm_L_law s m #[Value.ref b] below meth c H locs (275 + 200 * (k + 1)) (2578 + 1500 * (k + 1)) (lw_Z below #[Value.ref b] s) (F0 m 18 ls [])) {H : Heap} {locs : List Loc} {ls : Array Slot} (h : F_L_law_509 L xs rec18 σ x1 x2 x3 = some r) (hV : HV g σ H) (hF : FR g locs) (hl : lv_has ls 4 [(0, .ref b), (1, .ref x1), (2, .ref x2), (3, .int x3)]) : W p l e rm_L_law s m #[Value.ref b] below meth c H locs (275 + 200 * k) (2578 + 1500 * k) (lw_Z below #[Value.ref b] s) (F0 m 509 ls []) := by
  unfold F_L_law_509 at h
  refine lv_aload_n X.1 X.2.1 dL_law_509 rfl (lv_at hl 1 rfl) ?_
  refine lv_aload_n X.1 X.2.1 dL_law_510 rfl (lv_at hl 0 rfl) ?_
  refine lv_iload_n X.1 X.2.1 dL_law_511 rfl (lv_at hl 3 rfl) ?_
  refine lv_iconst (v := 1) X.1 X.2.1 dL_law_512 (by decide) ?_
  refine lv_iadd X.1 X.2.1 dL_law_513 ?_
  refine r_sX X hV hS hb dL_law_514 h (fun v1 h => ?_)
  obtain ⟨v2, s1, hc, h⟩ := b2_inv h
  refine r_ci (va_runV (C := RX0) (As := [.int v1]) (rest := []) (cfX X) (c_X0_walk l hc) (cwV 1 X.2.2.2.2.1 (lw_V q461 q462 q463 q49 q464) rfl rfl rfl ⟨rfl, yd_X0_walk⟩ ⟨Nat.le_of_ble_eq_true rfl, Nat.le_of_ble_eq_true rfl⟩) (preV X hV (F_X0_walk_g hc) rfl) rfl rfl hl.1 rfl (lv_room (Nat.le_of_ble_eq_true rfl)) dL_law_515 ⟨(by simp only [rm_L_law]; omega), (by simp only [rm_L_law]; omega)⟩) hF (fun H locs hV hF => ?_)
  refine lv_aload_n X.1 X.2.1 dL_law_518 rfl (lv_at hl 2 rfl) ?_
  refine lv_aload_n X.1 X.2.1 dL_law_519 rfl (lv_at hl 0 rfl) ?_
  refine lv_iload_n X.1 X.2.1 dL_law_520 rfl (lv_at hl 3 rfl) ?_
  refine lv_iconst (v := 1) X.1 X.2.1 dL_law_521 (by decide) ?_
  refine lv_iadd X.1 X.2.1 dL_law_522 ?_
  refine r_sX X hV hS hb dL_law_523 h (fun v3 h => ?_)
  obtain ⟨v4, s2, hc, h⟩ := b2_inv h
  refine r_ci (va_runV (C := RX10) (As := [.int v3]) (rest := [.int v2]) (cfX X) (c_X10_walk l hc) (cwV 1 X.2.2.2.2.1 (lw_V q1181 q1182 q1183 q59 q1184) rfl rfl rfl ⟨rfl, yd_X10_walk⟩ ⟨Nat.le_of_ble_eq_true rfl, Nat.le_of_ble_eq_true rfl⟩) (preV X hV (F_X10_walk_g hc) rfl) rfl rfl hl.1 rfl (lv_room (Nat.le_of_ble_eq_true rfl)) dL_law_524 ⟨(by simp only [rm_L_law]; omega), (by simp only [rm_L_law]; omega)⟩) hF (fun H locs hV hF => ?_)
  refine r_eq (tgt := 1248) X.1 X.2.1 dL_law_527 (by decide) h (fun h => ?_) (fun h => ?_)
  · refine lv_iinc (v := x3 + 5) (lv' := [(3, .int (x3 + 5)), (0, .ref b), (1, .ref x1), (2, .ref x2)]) X.1 X.2.1 dL_law_1248 hl (k := 3) rfl rfl (by decide) rfl (fun ls hl => ?_)
    refine lv_goto (tgt := 18) X.1 X.2.1 dL_law_1251 (by decide) ?_
    refine W.widen (k := 275 + 200 * (k + 1)) (n := 2578 + 1500 * (k + 1)) (by omega) (by omega) ?_
    exact hr18 (s2, x3 + 5) h _ _ _ hV hF (lv_sub hl [1, 2, 3, 0] rfl)
  · cases h
set_option maxHeartbeats 4000000 in
theorem w_L_law_532 {p : Program} {l : Launch} {e : Env} {s : State} {m : MethodId} {below : List Frame} {meth : Method} {c : Code} {g : Gl} {b L : Nat} {xs : Nat → Int32} {k : Nat} (hk : k < 65) (X : FX g p m c s #[Value.ref b] meth cL_law 4 RL (some .boolean) meth.name) (hS : va_X b L xs s g.2.1) (hb : b < g.1) (hgs : s.heap.size ≤ g.1) {r : Unit} {rec18 : Hp × Int32 → Option (Unit)} {σ : Hp} {x1 : Nat} {x2 : Nat} {x3 : Int32} (hr18 : ∀ (st : Hp × Int32), rec18 st = some r → ∀ (H : Heap) (locs : List Loc) (ls : Array Slot), HV g st.1 H → FR g locs → lv_has ls 4 [(0, .ref b), (1, .ref x1), (2, .ref x2), (3, .int st.2)] → W p l e rm_L_law s m #[Value.ref b] below meth c H locs (275 + 200 * (k + 1)) (2578 + 1500 * (k + 1)) (lw_Z below #[Value.ref b] s) (F0 m 18 ls [])) {H : Heap} {locs : List Loc} {ls : Array Slot} (h : F_L_law_532 L xs rec18 σ x1 x2 x3 = some r) (hV : HV g σ H) (hF : FR g locs) (hl : lv_has ls 4 [(0, .ref b), (1, .ref x1), (2, .ref x2), (3, .int x3)]) : W p l e rm_L_law s m #[Value.ref b] below meth c H locs (275 + 200 * k) (2578 + 1500 * k) (lw_Z below #[Value.ref b] s) (F0 m 532 ls []) := by
  unfold F_L_law_532 at h
  refine lv_aload_n X.1 X.2.1 dL_law_532 rfl (lv_at hl 1 rfl) ?_
  refine lv_aload_n X.1 X.2.1 dL_law_533 rfl (lv_at hl 0 rfl) ?_
  refine lv_iload_n X.1 X.2.1 dL_law_534 rfl (lv_at hl 3 rfl) ?_
  refine lv_iconst (v := 1) X.1 X.2.1 dL_law_535 (by decide) ?_
  refine lv_iadd X.1 X.2.1 dL_law_536 ?_
  refine r_sX X hV hS hb dL_law_537 h (fun v1 h => ?_)
  refine lv_i2l (v := (v1 : Int32).toInt64) X.1 X.2.1 dL_law_538 rfl ?_
  refine lv_bipush (v := 32) X.1 X.2.1 dL_law_539 (by decide) ?_
  refine lv_lshl (v := ((v1 : Int32).toInt64) <<< ((32 : Int32).toInt64 &&& 63)) X.1 X.2.1 dL_law_541 rfl ?_
  refine lv_aload_n X.1 X.2.1 dL_law_542 rfl (lv_at hl 0 rfl) ?_
  refine lv_iload_n X.1 X.2.1 dL_law_543 rfl (lv_at hl 3 rfl) ?_
  refine lv_iconst (v := 2) X.1 X.2.1 dL_law_544 (by decide) ?_
  refine lv_iadd X.1 X.2.1 dL_law_545 ?_
  refine r_sX X hV hS hb dL_law_546 h (fun v2 h => ?_)
  refine lv_i2l (v := (v2 : Int32).toInt64) X.1 X.2.1 dL_law_547 rfl ?_
  refine lv_ldc2 (v := 4294967295) X.1 X.2.1 X.2.2.2.1 (X.2.2.2.2.1 _ q1363) dL_law_548 ?_
  refine lv_land X.1 X.2.1 dL_law_551 ?_
  refine lv_lor X.1 X.2.1 dL_law_552 ?_
  refine lv_aload_n X.1 X.2.1 dL_law_553 rfl (lv_at hl 0 rfl) ?_
  refine lv_iload_n X.1 X.2.1 dL_law_554 rfl (lv_at hl 3 rfl) ?_
  refine lv_iconst (v := 3) X.1 X.2.1 dL_law_555 (by decide) ?_
  refine lv_iadd X.1 X.2.1 dL_law_556 ?_
  refine r_sX X hV hS hb dL_law_557 h (fun v3 h => ?_)
  obtain ⟨v4, s1, hc, h⟩ := b2_inv h
  refine r_ci (va_runV (C := RX0) (As := [.long ((((v1 : Int32).toInt64) <<< ((32 : Int32).toInt64 &&& 63)) ||| (((v2 : Int32).toInt64) &&& 4294967295)), .int v3]) (rest := []) (cfX X) (c_X0_write l hc) (cwV 2 X.2.2.2.2.1 (lw_V q469 q470 q471 q49 q472) rfl rfl rfl ⟨rfl, yd_X0_write⟩ ⟨Nat.le_of_ble_eq_true rfl, Nat.le_of_ble_eq_true rfl⟩) (preV X hV (F_X0_write_g hc) rfl) rfl rfl hl.1 rfl (lv_room (Nat.le_of_ble_eq_true rfl)) dL_law_558 ⟨(by simp only [rm_L_law]; omega), (by simp only [rm_L_law]; omega)⟩) hF (fun H locs hV hF => ?_)
  refine lv_aload_n X.1 X.2.1 dL_law_561 rfl (lv_at hl 2 rfl) ?_
  refine lv_aload_n X.1 X.2.1 dL_law_562 rfl (lv_at hl 0 rfl) ?_
  refine lv_iload_n X.1 X.2.1 dL_law_563 rfl (lv_at hl 3 rfl) ?_
  refine lv_iconst (v := 1) X.1 X.2.1 dL_law_564 (by decide) ?_
  refine lv_iadd X.1 X.2.1 dL_law_565 ?_
  refine r_sX X hV hS hb dL_law_566 h (fun v5 h => ?_)
  refine lv_i2l (v := (v5 : Int32).toInt64) X.1 X.2.1 dL_law_567 rfl ?_
  refine lv_bipush (v := 32) X.1 X.2.1 dL_law_568 (by decide) ?_
  refine lv_lshl (v := ((v5 : Int32).toInt64) <<< ((32 : Int32).toInt64 &&& 63)) X.1 X.2.1 dL_law_570 rfl ?_
  refine lv_aload_n X.1 X.2.1 dL_law_571 rfl (lv_at hl 0 rfl) ?_
  refine lv_iload_n X.1 X.2.1 dL_law_572 rfl (lv_at hl 3 rfl) ?_
  refine lv_iconst (v := 2) X.1 X.2.1 dL_law_573 (by decide) ?_
  refine lv_iadd X.1 X.2.1 dL_law_574 ?_
  refine r_sX X hV hS hb dL_law_575 h (fun v6 h => ?_)
  refine lv_i2l (v := (v6 : Int32).toInt64) X.1 X.2.1 dL_law_576 rfl ?_
  refine lv_ldc2 (v := 4294967295) X.1 X.2.1 X.2.2.2.1 (X.2.2.2.2.1 _ q1363) dL_law_577 ?_
  refine lv_land X.1 X.2.1 dL_law_580 ?_
  refine lv_lor X.1 X.2.1 dL_law_581 ?_
  refine lv_aload_n X.1 X.2.1 dL_law_582 rfl (lv_at hl 0 rfl) ?_
  refine lv_iload_n X.1 X.2.1 dL_law_583 rfl (lv_at hl 3 rfl) ?_
  refine lv_iconst (v := 3) X.1 X.2.1 dL_law_584 (by decide) ?_
  refine lv_iadd X.1 X.2.1 dL_law_585 ?_
  refine r_sX X hV hS hb dL_law_586 h (fun v7 h => ?_)
  obtain ⟨v8, s2, hc, h⟩ := b2_inv h
  refine r_ci (va_runV (C := RX10) (As := [.long ((((v5 : Int32).toInt64) <<< ((32 : Int32).toInt64 &&& 63)) ||| (((v6 : Int32).toInt64) &&& 4294967295)), .int v7]) (rest := [.int v4]) (cfX X) (c_X10_write l hc) (cwV 2 X.2.2.2.2.1 (lw_V q1189 q1190 q1191 q59 q1192) rfl rfl rfl ⟨rfl, yd_X10_write⟩ ⟨Nat.le_of_ble_eq_true rfl, Nat.le_of_ble_eq_true rfl⟩) (preV X hV (F_X10_write_g hc) rfl) rfl rfl hl.1 rfl (lv_room (Nat.le_of_ble_eq_true rfl)) dL_law_587 ⟨(by simp only [rm_L_law]; omega), (by simp only [rm_L_law]; omega)⟩) hF (fun H locs hV hF => ?_)
  refine r_eq (tgt := 1248) X.1 X.2.1 dL_law_590 (by decide) h (fun h => ?_) (fun h => ?_)
  · refine lv_iinc (v := x3 + 5) (lv' := [(3, .int (x3 + 5)), (0, .ref b), (1, .ref x1), (2, .ref x2)]) X.1 X.2.1 dL_law_1248 hl (k := 3) rfl rfl (by decide) rfl (fun ls hl => ?_)
    refine lv_goto (tgt := 18) X.1 X.2.1 dL_law_1251 (by decide) ?_
    refine W.widen (k := 275 + 200 * (k + 1)) (n := 2578 + 1500 * (k + 1)) (by omega) (by omega) ?_
    exact hr18 (s2, x3 + 5) h _ _ _ hV hF (lv_sub hl [1, 2, 3, 0] rfl)
  · cases h
set_option maxHeartbeats 4000000 in
theorem w_L_law_595 {p : Program} {l : Launch} {e : Env} {s : State} {m : MethodId} {below : List Frame} {meth : Method} {c : Code} {g : Gl} {b L : Nat} {xs : Nat → Int32} {k : Nat} (hk : k < 65) (X : FX g p m c s #[Value.ref b] meth cL_law 4 RL (some .boolean) meth.name) (hS : va_X b L xs s g.2.1) (hb : b < g.1) (hgs : s.heap.size ≤ g.1) {r : Unit} {rec18 : Hp × Int32 → Option (Unit)} {σ : Hp} {x1 : Nat} {x2 : Nat} {x3 : Int32} (hr18 : ∀ (st : Hp × Int32), rec18 st = some r → ∀ (H : Heap) (locs : List Loc) (ls : Array Slot), HV g st.1 H → FR g locs → lv_has ls 4 [(0, .ref b), (1, .ref x1), (2, .ref x2), (3, .int st.2)] → W p l e rm_L_law s m #[Value.ref b] below meth c H locs (275 + 200 * (k + 1)) (2578 + 1500 * (k + 1)) (lw_Z below #[Value.ref b] s) (F0 m 18 ls [])) {H : Heap} {locs : List Loc} {ls : Array Slot} (h : F_L_law_595 L xs rec18 σ x1 x2 x3 = some r) (hV : HV g σ H) (hF : FR g locs) (hl : lv_has ls 4 [(0, .ref b), (1, .ref x1), (2, .ref x2), (3, .int x3)]) : W p l e rm_L_law s m #[Value.ref b] below meth c H locs (275 + 200 * k) (2578 + 1500 * k) (lw_Z below #[Value.ref b] s) (F0 m 595 ls []) := by
  unfold F_L_law_595 at h
  refine lv_aload_n X.1 X.2.1 dL_law_595 rfl (lv_at hl 1 rfl) ?_
  obtain ⟨v1, s1, hc, h⟩ := b2_inv h
  refine r_ci (va_runV (C := RX0) (As := []) (rest := []) (cfX X) (c_X0_erase l hc) (cwV 0 X.2.2.2.2.1 (lw_V q473 q474 q475 q49 q476) rfl rfl rfl ⟨rfl, yd_X0_erase⟩ ⟨Nat.le_of_ble_eq_true rfl, Nat.le_of_ble_eq_true rfl⟩) (preV X hV (F_X0_erase_g hc) rfl) rfl rfl hl.1 rfl (lv_room (Nat.le_of_ble_eq_true rfl)) dL_law_596 ⟨(by simp only [rm_L_law]; omega), (by simp only [rm_L_law]; omega)⟩) hF (fun H locs hV hF => ?_)
  refine lv_aload_n X.1 X.2.1 dL_law_599 rfl (lv_at hl 2 rfl) ?_
  obtain ⟨v2, s2, hc, h⟩ := b2_inv h
  refine r_ci (va_runV (C := RX10) (As := []) (rest := [.int v1]) (cfX X) (c_X10_erase l hc) (cwV 0 X.2.2.2.2.1 (lw_V q1194 q1195 q1196 q59 q1197) rfl rfl rfl ⟨rfl, yd_X10_erase⟩ ⟨Nat.le_of_ble_eq_true rfl, Nat.le_of_ble_eq_true rfl⟩) (preV X hV (F_X10_erase_g hc) rfl) rfl rfl hl.1 rfl (lv_room (Nat.le_of_ble_eq_true rfl)) dL_law_600 ⟨(by simp only [rm_L_law]; omega), (by simp only [rm_L_law]; omega)⟩) hF (fun H locs hV hF => ?_)
  refine r_eq (tgt := 1248) X.1 X.2.1 dL_law_603 (by decide) h (fun h => ?_) (fun h => ?_)
  · refine lv_iinc (v := x3 + 5) (lv' := [(3, .int (x3 + 5)), (0, .ref b), (1, .ref x1), (2, .ref x2)]) X.1 X.2.1 dL_law_1248 hl (k := 3) rfl rfl (by decide) rfl (fun ls hl => ?_)
    refine lv_goto (tgt := 18) X.1 X.2.1 dL_law_1251 (by decide) ?_
    refine W.widen (k := 275 + 200 * (k + 1)) (n := 2578 + 1500 * (k + 1)) (by omega) (by omega) ?_
    exact hr18 (s2, x3 + 5) h _ _ _ hV hF (lv_sub hl [1, 2, 3, 0] rfl)
  · cases h
set_option maxHeartbeats 4000000 in
theorem w_L_law_608 {p : Program} {l : Launch} {e : Env} {s : State} {m : MethodId} {below : List Frame} {meth : Method} {c : Code} {g : Gl} {b L : Nat} {xs : Nat → Int32} {k : Nat} (hk : k < 65) (X : FX g p m c s #[Value.ref b] meth cL_law 4 RL (some .boolean) meth.name) (hS : va_X b L xs s g.2.1) (hb : b < g.1) (hgs : s.heap.size ≤ g.1) {r : Unit} {rec18 : Hp × Int32 → Option (Unit)} {σ : Hp} {x1 : Nat} {x2 : Nat} {x3 : Int32} (hr18 : ∀ (st : Hp × Int32), rec18 st = some r → ∀ (H : Heap) (locs : List Loc) (ls : Array Slot), HV g st.1 H → FR g locs → lv_has ls 4 [(0, .ref b), (1, .ref x1), (2, .ref x2), (3, .int st.2)] → W p l e rm_L_law s m #[Value.ref b] below meth c H locs (275 + 200 * (k + 1)) (2578 + 1500 * (k + 1)) (lw_Z below #[Value.ref b] s) (F0 m 18 ls [])) {H : Heap} {locs : List Loc} {ls : Array Slot} (h : F_L_law_608 L xs rec18 σ x1 x2 x3 = some r) (hV : HV g σ H) (hF : FR g locs) (hl : lv_has ls 4 [(0, .ref b), (1, .ref x1), (2, .ref x2), (3, .int x3)]) : W p l e rm_L_law s m #[Value.ref b] below meth c H locs (275 + 200 * k) (2578 + 1500 * k) (lw_Z below #[Value.ref b] s) (F0 m 608 ls []) := by
  unfold F_L_law_608 at h
  refine lv_aload_n X.1 X.2.1 dL_law_608 rfl (lv_at hl 1 rfl) ?_
  obtain ⟨v1, s1, hc, h⟩ := b2_inv h
  refine r_ci (runVW (As := []) (rest := []) X (c_X0_fault l hc) q480 q477 q478 q479 q49 rfl rfl yd_X0_fault ⟨Nat.le_of_ble_eq_true rfl, Nat.le_of_ble_eq_true rfl⟩ (preV X hV (F_X0_fault_g hc) rfl) rfl hl.1 (Nat.le_of_ble_eq_true rfl) dL_law_609 ⟨(by simp only [rm_L_law]; omega), (by simp only [rm_L_law]; omega)⟩) hF (fun H locs hV hF => ?_)
  refine lv_aload_n X.1 X.2.1 dL_law_612 rfl (lv_at hl 2 rfl) ?_
  obtain ⟨v2, s2, hc, h⟩ := b2_inv h
  refine r_ci (va_runV (C := RX10) (As := []) (rest := [.int v1]) (cfX X) (c_X10_fault l hc) (cwV 0 X.2.2.2.2.1 (lw_V q1198 q1199 q1200 q59 q1201) rfl rfl rfl ⟨rfl, yd_X10_fault⟩ ⟨Nat.le_of_ble_eq_true rfl, Nat.le_of_ble_eq_true rfl⟩) (preV X hV (F_X10_fault_g hc) rfl) rfl rfl hl.1 rfl (lv_room (Nat.le_of_ble_eq_true rfl)) dL_law_613 ⟨(by simp only [rm_L_law]; omega), (by simp only [rm_L_law]; omega)⟩) hF (fun H locs hV hF => ?_)
  refine r_eq (tgt := 1248) X.1 X.2.1 dL_law_616 (by decide) h (fun h => ?_) (fun h => ?_)
  · refine lv_iinc (v := x3 + 5) (lv' := [(3, .int (x3 + 5)), (0, .ref b), (1, .ref x1), (2, .ref x2)]) X.1 X.2.1 dL_law_1248 hl (k := 3) rfl rfl (by decide) rfl (fun ls hl => ?_)
    refine lv_goto (tgt := 18) X.1 X.2.1 dL_law_1251 (by decide) ?_
    refine W.widen (k := 275 + 200 * (k + 1)) (n := 2578 + 1500 * (k + 1)) (by omega) (by omega) ?_
    exact hr18 (s2, x3 + 5) h _ _ _ hV hF (lv_sub hl [1, 2, 3, 0] rfl)
  · cases h
set_option maxHeartbeats 4000000 in
theorem w_L_law_621 {p : Program} {l : Launch} {e : Env} {s : State} {m : MethodId} {below : List Frame} {meth : Method} {c : Code} {g : Gl} {b L : Nat} {xs : Nat → Int32} {k : Nat} (hk : k < 65) (X : FX g p m c s #[Value.ref b] meth cL_law 4 RL (some .boolean) meth.name) (hS : va_X b L xs s g.2.1) (hb : b < g.1) (hgs : s.heap.size ≤ g.1) {r : Unit} {rec18 : Hp × Int32 → Option (Unit)} {σ : Hp} {x1 : Nat} {x2 : Nat} {x3 : Int32} (hr18 : ∀ (st : Hp × Int32), rec18 st = some r → ∀ (H : Heap) (locs : List Loc) (ls : Array Slot), HV g st.1 H → FR g locs → lv_has ls 4 [(0, .ref b), (1, .ref x1), (2, .ref x2), (3, .int st.2)] → W p l e rm_L_law s m #[Value.ref b] below meth c H locs (275 + 200 * (k + 1)) (2578 + 1500 * (k + 1)) (lw_Z below #[Value.ref b] s) (F0 m 18 ls [])) {H : Heap} {locs : List Loc} {ls : Array Slot} (h : F_L_law_621 L xs rec18 σ x1 x2 x3 = some r) (hV : HV g σ H) (hF : FR g locs) (hl : lv_has ls 4 [(0, .ref b), (1, .ref x1), (2, .ref x2), (3, .int x3)]) : W p l e rm_L_law s m #[Value.ref b] below meth c H locs (275 + 200 * k) (2578 + 1500 * k) (lw_Z below #[Value.ref b] s) (F0 m 621 ls []) := by
  unfold F_L_law_621 at h
  refine lv_aload_n X.1 X.2.1 dL_law_621 rfl (lv_at hl 1 rfl) ?_
  obtain ⟨v1, s1, hc, h⟩ := b2_inv h
  refine r_ci (va_runV (C := RX0) (As := []) (rest := []) (cfX X) (c_X0_rules l hc) (cwV 0 X.2.2.2.2.1 (lw_V q687 q688 q689 q49 q690) rfl rfl rfl ⟨rfl, yd_X0_rules⟩ ⟨Nat.le_of_ble_eq_true rfl, Nat.le_of_ble_eq_true rfl⟩) (preV X hV (F_X0_rules_g hc) rfl) rfl rfl hl.1 rfl (lv_room (Nat.le_of_ble_eq_true rfl)) dL_law_622 ⟨(by simp only [rm_L_law]; omega), (by simp only [rm_L_law]; omega)⟩) hF (fun H locs hV hF => ?_)
  refine lv_aload_n X.1 X.2.1 dL_law_625 rfl (lv_at hl 2 rfl) ?_
  obtain ⟨v2, s2, hc, h⟩ := b2_inv h
  refine r_ci (va_runV (C := RX10) (As := []) (rest := [.int v1]) (cfX X) (c_X10_rules l hc) (cwV 0 X.2.2.2.2.1 (lw_V q1237 q1238 q1239 q59 q1240) rfl rfl rfl ⟨rfl, yd_X10_rules⟩ ⟨Nat.le_of_ble_eq_true rfl, Nat.le_of_ble_eq_true rfl⟩) (preV X hV (F_X10_rules_g hc) rfl) rfl rfl hl.1 rfl (lv_room (Nat.le_of_ble_eq_true rfl)) dL_law_626 ⟨(by simp only [rm_L_law]; omega), (by simp only [rm_L_law]; omega)⟩) hF (fun H locs hV hF => ?_)
  refine r_eq (tgt := 1248) X.1 X.2.1 dL_law_629 (by decide) h (fun h => ?_) (fun h => ?_)
  · refine lv_iinc (v := x3 + 5) (lv' := [(3, .int (x3 + 5)), (0, .ref b), (1, .ref x1), (2, .ref x2)]) X.1 X.2.1 dL_law_1248 hl (k := 3) rfl rfl (by decide) rfl (fun ls hl => ?_)
    refine lv_goto (tgt := 18) X.1 X.2.1 dL_law_1251 (by decide) ?_
    refine W.widen (k := 275 + 200 * (k + 1)) (n := 2578 + 1500 * (k + 1)) (by omega) (by omega) ?_
    exact hr18 (s2, x3 + 5) h _ _ _ hV hF (lv_sub hl [1, 2, 3, 0] rfl)
  · cases h
