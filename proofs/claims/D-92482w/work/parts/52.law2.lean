set_option maxRecDepth 100000
set_option maxHeartbeats 4000000 in
theorem w_L_law_634 {p : Program} {l : Launch} {e : Env} {s : State} {m : MethodId} {below : List Frame} {meth : Method} {c : Code} {g : Gl} {b L : Nat} {xs : Nat → Int32} {k : Nat} (hk : k < 65) (X : FX g p m c s #[Value.ref b] meth cL_law 4 RL (some .boolean) meth.name) (hS : va_X b L xs s g.2.1) (hb : b < g.1) (hgs : s.heap.size ≤ g.1) {r : Unit} {rec18 : Hp × Int32 → Option (Unit)} {σ : Hp} {x1 : Nat} {x2 : Nat} {x3 : Int32} (hr18 : ∀ (st : Hp × Int32), rec18 st = some r → ∀ (H : Heap) (locs : List Loc) (ls : Array Slot), HV g st.1 H → FR g locs → lv_has ls 4 [(0, .ref b), (1, .ref x1), (2, .ref x2), (3, .int st.2)] → W p l e rm_L_law s m #[Value.ref b] below meth c H locs (275 + 200 * (k + 1)) (2578 + 1500 * (k + 1)) (lw_Z below #[Value.ref b] s) (F0 m 18 ls [])) {H : Heap} {locs : List Loc} {ls : Array Slot} (h : F_L_law_634 L xs rec18 σ x1 x2 x3 = some r) (hV : HV g σ H) (hF : FR g locs) (hl : lv_has ls 4 [(0, .ref b), (1, .ref x1), (2, .ref x2), (3, .int x3)]) : W p l e rm_L_law s m #[Value.ref b] below meth c H locs (275 + 200 * k) (2578 + 1500 * k) (lw_Z below #[Value.ref b] s) (F0 m 634 ls []) := by
  unfold F_L_law_634 at h
  refine lv_aload_n X.1 X.2.1 dL_law_634 rfl (lv_at hl 1 rfl) ?_
  refine lv_aload_n X.1 X.2.1 dL_law_635 rfl (lv_at hl 0 rfl) ?_
  refine lv_iload_n X.1 X.2.1 dL_law_636 rfl (lv_at hl 3 rfl) ?_
  refine lv_iconst (v := 1) X.1 X.2.1 dL_law_637 (by decide) ?_
  refine lv_iadd X.1 X.2.1 dL_law_638 ?_
  refine r_sX X hV hS hb dL_law_639 h (fun v1 h => ?_)
  refine lv_aload_n X.1 X.2.1 dL_law_640 rfl (lv_at hl 0 rfl) ?_
  refine lv_iload_n X.1 X.2.1 dL_law_641 rfl (lv_at hl 3 rfl) ?_
  refine lv_iconst (v := 2) X.1 X.2.1 dL_law_642 (by decide) ?_
  refine lv_iadd X.1 X.2.1 dL_law_643 ?_
  refine r_sX X hV hS hb dL_law_644 h (fun v2 h => ?_)
  obtain ⟨v3, s1, hc, h⟩ := b2_inv h
  refine r_ci (va_runV (C := RX0) (As := [.int v1, .int v2]) (rest := []) (cfX X) (c_X0_bars l hc) (cwV 2 X.2.2.2.2.1 (lw_V q692 q693 q694 q49 q695) rfl rfl rfl ⟨rfl, yd_X0_bars⟩ ⟨Nat.le_of_ble_eq_true rfl, Nat.le_of_ble_eq_true rfl⟩) (preV X hV (F_X0_bars_g hc) rfl) rfl rfl hl.1 rfl (lv_room (Nat.le_of_ble_eq_true rfl)) dL_law_645 ⟨(by simp only [rm_L_law]; omega), (by simp only [rm_L_law]; omega)⟩) hF (fun H locs hV hF => ?_)
  refine lv_aload_n X.1 X.2.1 dL_law_648 rfl (lv_at hl 2 rfl) ?_
  refine lv_aload_n X.1 X.2.1 dL_law_649 rfl (lv_at hl 0 rfl) ?_
  refine lv_iload_n X.1 X.2.1 dL_law_650 rfl (lv_at hl 3 rfl) ?_
  refine lv_iconst (v := 1) X.1 X.2.1 dL_law_651 (by decide) ?_
  refine lv_iadd X.1 X.2.1 dL_law_652 ?_
  refine r_sX X hV hS hb dL_law_653 h (fun v4 h => ?_)
  refine lv_aload_n X.1 X.2.1 dL_law_654 rfl (lv_at hl 0 rfl) ?_
  refine lv_iload_n X.1 X.2.1 dL_law_655 rfl (lv_at hl 3 rfl) ?_
  refine lv_iconst (v := 2) X.1 X.2.1 dL_law_656 (by decide) ?_
  refine lv_iadd X.1 X.2.1 dL_law_657 ?_
  refine r_sX X hV hS hb dL_law_658 h (fun v5 h => ?_)
  obtain ⟨v6, s2, hc, h⟩ := b2_inv h
  refine r_ci (va_runV (C := RX10) (As := [.int v4, .int v5]) (rest := [.int v3]) (cfX X) (c_X10_bars l hc) (cwV 2 X.2.2.2.2.1 (lw_V q1241 q1242 q1243 q59 q1244) rfl rfl rfl ⟨rfl, yd_X10_bars⟩ ⟨Nat.le_of_ble_eq_true rfl, Nat.le_of_ble_eq_true rfl⟩) (preV X hV (F_X10_bars_g hc) rfl) rfl rfl hl.1 rfl (lv_room (Nat.le_of_ble_eq_true rfl)) dL_law_659 ⟨(by simp only [rm_L_law]; omega), (by simp only [rm_L_law]; omega)⟩) hF (fun H locs hV hF => ?_)
  refine r_eq (tgt := 1248) X.1 X.2.1 dL_law_662 (by decide) h (fun h => ?_) (fun h => ?_)
  · refine lv_iinc (v := x3 + 5) (lv' := [(3, .int (x3 + 5)), (0, .ref b), (1, .ref x1), (2, .ref x2)]) X.1 X.2.1 dL_law_1248 hl (k := 3) rfl rfl (by decide) rfl (fun ls hl => ?_)
    refine lv_goto (tgt := 18) X.1 X.2.1 dL_law_1251 (by decide) ?_
    refine W.widen (k := 275 + 200 * (k + 1)) (n := 2578 + 1500 * (k + 1)) (by omega) (by omega) ?_
    exact hr18 (s2, x3 + 5) h _ _ _ hV hF (lv_sub hl [1, 2, 3, 0] rfl)
  · cases h
set_option maxHeartbeats 4000000 in
theorem w_L_law_667 {p : Program} {l : Launch} {e : Env} {s : State} {m : MethodId} {below : List Frame} {meth : Method} {c : Code} {g : Gl} {b L : Nat} {xs : Nat → Int32} {k : Nat} (hk : k < 65) (X : FX g p m c s #[Value.ref b] meth cL_law 4 RL (some .boolean) meth.name) (hS : va_X b L xs s g.2.1) (hb : b < g.1) (hgs : s.heap.size ≤ g.1) {r : Unit} {rec18 : Hp × Int32 → Option (Unit)} {σ : Hp} {x1 : Nat} {x2 : Nat} {x3 : Int32} (hr18 : ∀ (st : Hp × Int32), rec18 st = some r → ∀ (H : Heap) (locs : List Loc) (ls : Array Slot), HV g st.1 H → FR g locs → lv_has ls 4 [(0, .ref b), (1, .ref x1), (2, .ref x2), (3, .int st.2)] → W p l e rm_L_law s m #[Value.ref b] below meth c H locs (275 + 200 * (k + 1)) (2578 + 1500 * (k + 1)) (lw_Z below #[Value.ref b] s) (F0 m 18 ls [])) {H : Heap} {locs : List Loc} {ls : Array Slot} (h : F_L_law_667 L xs rec18 σ x1 x2 x3 = some r) (hV : HV g σ H) (hF : FR g locs) (hl : lv_has ls 4 [(0, .ref b), (1, .ref x1), (2, .ref x2), (3, .int x3)]) : W p l e rm_L_law s m #[Value.ref b] below meth c H locs (275 + 200 * k) (2578 + 1500 * k) (lw_Z below #[Value.ref b] s) (F0 m 667 ls []) := by
  unfold F_L_law_667 at h
  refine lv_aload_n X.1 X.2.1 dL_law_667 rfl (lv_at hl 1 rfl) ?_
  obtain ⟨v1, s1, hc, h⟩ := b2_inv h
  refine r_ci (va_runV (C := RX0) (As := []) (rest := []) (cfX X) (c_X0_due l hc) (cwV 0 X.2.2.2.2.1 (lw_V q740 q741 q742 q49 q743) rfl rfl rfl ⟨rfl, yd_X0_due⟩ ⟨Nat.le_of_ble_eq_true rfl, Nat.le_of_ble_eq_true rfl⟩) (preV X hV (F_X0_due_g hc) rfl) rfl rfl hl.1 rfl (lv_room (Nat.le_of_ble_eq_true rfl)) dL_law_668 ⟨(by simp only [rm_L_law]; omega), (by simp only [rm_L_law]; omega)⟩) hF (fun H locs hV hF => ?_)
  refine lv_aload_n X.1 X.2.1 dL_law_671 rfl (lv_at hl 2 rfl) ?_
  obtain ⟨v2, s2, hc, h⟩ := b2_inv h
  refine r_ci (va_runV (C := RX10) (As := []) (rest := [.int v1]) (cfX X) (c_X10_due l hc) (cwV 0 X.2.2.2.2.1 (lw_V q1257 q1258 q1259 q59 q1260) rfl rfl rfl ⟨rfl, yd_X10_due⟩ ⟨Nat.le_of_ble_eq_true rfl, Nat.le_of_ble_eq_true rfl⟩) (preV X hV (F_X10_due_g hc) rfl) rfl rfl hl.1 rfl (lv_room (Nat.le_of_ble_eq_true rfl)) dL_law_672 ⟨(by simp only [rm_L_law]; omega), (by simp only [rm_L_law]; omega)⟩) hF (fun H locs hV hF => ?_)
  refine r_eq (tgt := 1248) X.1 X.2.1 dL_law_675 (by decide) h (fun h => ?_) (fun h => ?_)
  · refine lv_iinc (v := x3 + 5) (lv' := [(3, .int (x3 + 5)), (0, .ref b), (1, .ref x1), (2, .ref x2)]) X.1 X.2.1 dL_law_1248 hl (k := 3) rfl rfl (by decide) rfl (fun ls hl => ?_)
    refine lv_goto (tgt := 18) X.1 X.2.1 dL_law_1251 (by decide) ?_
    refine W.widen (k := 275 + 200 * (k + 1)) (n := 2578 + 1500 * (k + 1)) (by omega) (by omega) ?_
    exact hr18 (s2, x3 + 5) h _ _ _ hV hF (lv_sub hl [1, 2, 3, 0] rfl)
  · cases h
set_option maxHeartbeats 4000000 in
theorem w_L_law_680 {p : Program} {l : Launch} {e : Env} {s : State} {m : MethodId} {below : List Frame} {meth : Method} {c : Code} {g : Gl} {b L : Nat} {xs : Nat → Int32} {k : Nat} (hk : k < 65) (X : FX g p m c s #[Value.ref b] meth cL_law 4 RL (some .boolean) meth.name) (hS : va_X b L xs s g.2.1) (hb : b < g.1) (hgs : s.heap.size ≤ g.1) {r : Unit} {rec18 : Hp × Int32 → Option (Unit)} {σ : Hp} {x1 : Nat} {x2 : Nat} {x3 : Int32} (hr18 : ∀ (st : Hp × Int32), rec18 st = some r → ∀ (H : Heap) (locs : List Loc) (ls : Array Slot), HV g st.1 H → FR g locs → lv_has ls 4 [(0, .ref b), (1, .ref x1), (2, .ref x2), (3, .int st.2)] → W p l e rm_L_law s m #[Value.ref b] below meth c H locs (275 + 200 * (k + 1)) (2578 + 1500 * (k + 1)) (lw_Z below #[Value.ref b] s) (F0 m 18 ls [])) {H : Heap} {locs : List Loc} {ls : Array Slot} (h : F_L_law_680 L xs rec18 σ x1 x2 x3 = some r) (hV : HV g σ H) (hF : FR g locs) (hl : lv_has ls 4 [(0, .ref b), (1, .ref x1), (2, .ref x2), (3, .int x3)]) : W p l e rm_L_law s m #[Value.ref b] below meth c H locs (275 + 200 * k) (2578 + 1500 * k) (lw_Z below #[Value.ref b] s) (F0 m 680 ls []) := by
  unfold F_L_law_680 at h
  refine lv_aload_n X.1 X.2.1 dL_law_680 rfl (lv_at hl 1 rfl) ?_
  refine lv_aload_n X.1 X.2.1 dL_law_681 rfl (lv_at hl 0 rfl) ?_
  refine lv_iload_n X.1 X.2.1 dL_law_682 rfl (lv_at hl 3 rfl) ?_
  refine lv_iconst (v := 1) X.1 X.2.1 dL_law_683 (by decide) ?_
  refine lv_iadd X.1 X.2.1 dL_law_684 ?_
  refine r_sX X hV hS hb dL_law_685 h (fun v1 h => ?_)
  refine lv_i2l (v := (v1 : Int32).toInt64) X.1 X.2.1 dL_law_686 rfl ?_
  refine lv_bipush (v := 32) X.1 X.2.1 dL_law_687 (by decide) ?_
  refine lv_lshl (v := ((v1 : Int32).toInt64) <<< ((32 : Int32).toInt64 &&& 63)) X.1 X.2.1 dL_law_689 rfl ?_
  refine lv_aload_n X.1 X.2.1 dL_law_690 rfl (lv_at hl 0 rfl) ?_
  refine lv_iload_n X.1 X.2.1 dL_law_691 rfl (lv_at hl 3 rfl) ?_
  refine lv_iconst (v := 2) X.1 X.2.1 dL_law_692 (by decide) ?_
  refine lv_iadd X.1 X.2.1 dL_law_693 ?_
  refine r_sX X hV hS hb dL_law_694 h (fun v2 h => ?_)
  refine lv_i2l (v := (v2 : Int32).toInt64) X.1 X.2.1 dL_law_695 rfl ?_
  refine lv_ldc2 (v := 4294967295) X.1 X.2.1 X.2.2.2.1 (X.2.2.2.2.1 _ q1363) dL_law_696 ?_
  refine lv_land X.1 X.2.1 dL_law_699 ?_
  refine lv_lor X.1 X.2.1 dL_law_700 ?_
  refine lv_aload_n X.1 X.2.1 dL_law_701 rfl (lv_at hl 0 rfl) ?_
  refine lv_iload_n X.1 X.2.1 dL_law_702 rfl (lv_at hl 3 rfl) ?_
  refine lv_iconst (v := 3) X.1 X.2.1 dL_law_703 (by decide) ?_
  refine lv_iadd X.1 X.2.1 dL_law_704 ?_
  refine r_sX X hV hS hb dL_law_705 h (fun v3 h => ?_)
  refine lv_aload_n X.1 X.2.1 dL_law_706 rfl (lv_at hl 0 rfl) ?_
  refine lv_iload_n X.1 X.2.1 dL_law_707 rfl (lv_at hl 3 rfl) ?_
  refine lv_iconst (v := 4) X.1 X.2.1 dL_law_708 (by decide) ?_
  refine lv_iadd X.1 X.2.1 dL_law_709 ?_
  refine r_sX X hV hS hb dL_law_710 h (fun v4 h => ?_)
  obtain ⟨v5, s1, hc, h⟩ := b2_inv h
  refine r_ci (va_runV (C := RX0) (As := [.long ((((v1 : Int32).toInt64) <<< ((32 : Int32).toInt64 &&& 63)) ||| (((v2 : Int32).toInt64) &&& 4294967295)), .int v3, .int v4]) (rest := []) (cfX X) (c_X0_laid l hc) (cwV 3 X.2.2.2.2.1 (lw_V q755 q756 q757 q49 q758) rfl rfl rfl ⟨rfl, yd_X0_laid⟩ ⟨Nat.le_of_ble_eq_true rfl, Nat.le_of_ble_eq_true rfl⟩) (preV X hV (F_X0_laid_g hc) rfl) rfl rfl hl.1 rfl (lv_room (Nat.le_of_ble_eq_true rfl)) dL_law_711 ⟨(by simp only [rm_L_law]; omega), (by simp only [rm_L_law]; omega)⟩) hF (fun H locs hV hF => ?_)
  refine lv_aload_n X.1 X.2.1 dL_law_714 rfl (lv_at hl 2 rfl) ?_
  refine lv_aload_n X.1 X.2.1 dL_law_715 rfl (lv_at hl 0 rfl) ?_
  refine lv_iload_n X.1 X.2.1 dL_law_716 rfl (lv_at hl 3 rfl) ?_
  refine lv_iconst (v := 1) X.1 X.2.1 dL_law_717 (by decide) ?_
  refine lv_iadd X.1 X.2.1 dL_law_718 ?_
  refine r_sX X hV hS hb dL_law_719 h (fun v6 h => ?_)
  refine lv_i2l (v := (v6 : Int32).toInt64) X.1 X.2.1 dL_law_720 rfl ?_
  refine lv_bipush (v := 32) X.1 X.2.1 dL_law_721 (by decide) ?_
  refine lv_lshl (v := ((v6 : Int32).toInt64) <<< ((32 : Int32).toInt64 &&& 63)) X.1 X.2.1 dL_law_723 rfl ?_
  refine lv_aload_n X.1 X.2.1 dL_law_724 rfl (lv_at hl 0 rfl) ?_
  refine lv_iload_n X.1 X.2.1 dL_law_725 rfl (lv_at hl 3 rfl) ?_
  refine lv_iconst (v := 2) X.1 X.2.1 dL_law_726 (by decide) ?_
  refine lv_iadd X.1 X.2.1 dL_law_727 ?_
  refine r_sX X hV hS hb dL_law_728 h (fun v7 h => ?_)
  refine lv_i2l (v := (v7 : Int32).toInt64) X.1 X.2.1 dL_law_729 rfl ?_
  refine lv_ldc2 (v := 4294967295) X.1 X.2.1 X.2.2.2.1 (X.2.2.2.2.1 _ q1363) dL_law_730 ?_
  refine lv_land X.1 X.2.1 dL_law_733 ?_
  refine lv_lor X.1 X.2.1 dL_law_734 ?_
  refine lv_aload_n X.1 X.2.1 dL_law_735 rfl (lv_at hl 0 rfl) ?_
  refine lv_iload_n X.1 X.2.1 dL_law_736 rfl (lv_at hl 3 rfl) ?_
  refine lv_iconst (v := 3) X.1 X.2.1 dL_law_737 (by decide) ?_
  refine lv_iadd X.1 X.2.1 dL_law_738 ?_
  refine r_sX X hV hS hb dL_law_739 h (fun v8 h => ?_)
  refine lv_aload_n X.1 X.2.1 dL_law_740 rfl (lv_at hl 0 rfl) ?_
  refine lv_iload_n X.1 X.2.1 dL_law_741 rfl (lv_at hl 3 rfl) ?_
  refine lv_iconst (v := 4) X.1 X.2.1 dL_law_742 (by decide) ?_
  refine lv_iadd X.1 X.2.1 dL_law_743 ?_
  refine r_sX X hV hS hb dL_law_744 h (fun v9 h => ?_)
  obtain ⟨v10, s2, hc, h⟩ := b2_inv h
  refine r_ci (va_runV (C := RX10) (As := [.long ((((v6 : Int32).toInt64) <<< ((32 : Int32).toInt64 &&& 63)) ||| (((v7 : Int32).toInt64) &&& 4294967295)), .int v8, .int v9]) (rest := [.int v5]) (cfX X) (c_X10_laid l hc) (cwV 3 X.2.2.2.2.1 (lw_V q1261 q1262 q1263 q59 q1264) rfl rfl rfl ⟨rfl, yd_X10_laid⟩ ⟨Nat.le_of_ble_eq_true rfl, Nat.le_of_ble_eq_true rfl⟩) (preV X hV (F_X10_laid_g hc) rfl) rfl rfl hl.1 rfl (lv_room (Nat.le_of_ble_eq_true rfl)) dL_law_745 ⟨(by simp only [rm_L_law]; omega), (by simp only [rm_L_law]; omega)⟩) hF (fun H locs hV hF => ?_)
  refine r_eq (tgt := 1248) X.1 X.2.1 dL_law_748 (by decide) h (fun h => ?_) (fun h => ?_)
  · refine lv_iinc (v := x3 + 5) (lv' := [(3, .int (x3 + 5)), (0, .ref b), (1, .ref x1), (2, .ref x2)]) X.1 X.2.1 dL_law_1248 hl (k := 3) rfl rfl (by decide) rfl (fun ls hl => ?_)
    refine lv_goto (tgt := 18) X.1 X.2.1 dL_law_1251 (by decide) ?_
    refine W.widen (k := 275 + 200 * (k + 1)) (n := 2578 + 1500 * (k + 1)) (by omega) (by omega) ?_
    exact hr18 (s2, x3 + 5) h _ _ _ hV hF (lv_sub hl [1, 2, 3, 0] rfl)
  · cases h
set_option maxHeartbeats 4000000 in
theorem w_L_law_753 {p : Program} {l : Launch} {e : Env} {s : State} {m : MethodId} {below : List Frame} {meth : Method} {c : Code} {g : Gl} {b L : Nat} {xs : Nat → Int32} {k : Nat} (hk : k < 65) (X : FX g p m c s #[Value.ref b] meth cL_law 4 RL (some .boolean) meth.name) (hS : va_X b L xs s g.2.1) (hb : b < g.1) (hgs : s.heap.size ≤ g.1) {r : Unit} {rec18 : Hp × Int32 → Option (Unit)} {σ : Hp} {x1 : Nat} {x2 : Nat} {x3 : Int32} (hr18 : ∀ (st : Hp × Int32), rec18 st = some r → ∀ (H : Heap) (locs : List Loc) (ls : Array Slot), HV g st.1 H → FR g locs → lv_has ls 4 [(0, .ref b), (1, .ref x1), (2, .ref x2), (3, .int st.2)] → W p l e rm_L_law s m #[Value.ref b] below meth c H locs (275 + 200 * (k + 1)) (2578 + 1500 * (k + 1)) (lw_Z below #[Value.ref b] s) (F0 m 18 ls [])) {H : Heap} {locs : List Loc} {ls : Array Slot} (h : F_L_law_753 L xs rec18 σ x1 x2 x3 = some r) (hV : HV g σ H) (hF : FR g locs) (hl : lv_has ls 4 [(0, .ref b), (1, .ref x1), (2, .ref x2), (3, .int x3)]) : W p l e rm_L_law s m #[Value.ref b] below meth c H locs (275 + 200 * k) (2578 + 1500 * k) (lw_Z below #[Value.ref b] s) (F0 m 753 ls []) := by
  unfold F_L_law_753 at h
  refine lv_aload_n X.1 X.2.1 dL_law_753 rfl (lv_at hl 1 rfl) ?_
  refine lv_aload_n X.1 X.2.1 dL_law_754 rfl (lv_at hl 0 rfl) ?_
  refine lv_iload_n X.1 X.2.1 dL_law_755 rfl (lv_at hl 3 rfl) ?_
  refine lv_iconst (v := 1) X.1 X.2.1 dL_law_756 (by decide) ?_
  refine lv_iadd X.1 X.2.1 dL_law_757 ?_
  refine r_sX X hV hS hb dL_law_758 h (fun v1 h => ?_)
  obtain ⟨v2, s1, hc, h⟩ := b2_inv h
  refine r_ci (va_runV (C := RX0) (As := [.int v1]) (rest := []) (cfX X) (c_X0_cost l hc) (cwV 1 X.2.2.2.2.1 (lw_V q850 q851 q852 q49 q853) rfl rfl rfl ⟨rfl, yd_X0_cost⟩ ⟨Nat.le_of_ble_eq_true rfl, Nat.le_of_ble_eq_true rfl⟩) (preV X hV (F_X0_cost_g hc) rfl) rfl rfl hl.1 rfl (lv_room (Nat.le_of_ble_eq_true rfl)) dL_law_759 ⟨(by simp only [rm_L_law]; omega), (by simp only [rm_L_law]; omega)⟩) hF (fun H locs hV hF => ?_)
  refine lv_aload_n X.1 X.2.1 dL_law_762 rfl (lv_at hl 2 rfl) ?_
  refine lv_aload_n X.1 X.2.1 dL_law_763 rfl (lv_at hl 0 rfl) ?_
  refine lv_iload_n X.1 X.2.1 dL_law_764 rfl (lv_at hl 3 rfl) ?_
  refine lv_iconst (v := 1) X.1 X.2.1 dL_law_765 (by decide) ?_
  refine lv_iadd X.1 X.2.1 dL_law_766 ?_
  refine r_sX X hV hS hb dL_law_767 h (fun v3 h => ?_)
  obtain ⟨v4, s2, hc, h⟩ := b2_inv h
  refine r_ci (va_runV (C := RX10) (As := [.int v3]) (rest := [.int v2]) (cfX X) (c_X10_cost l hc) (cwV 1 X.2.2.2.2.1 (lw_V q1282 q1283 q1284 q59 q1285) rfl rfl rfl ⟨rfl, yd_X10_cost⟩ ⟨Nat.le_of_ble_eq_true rfl, Nat.le_of_ble_eq_true rfl⟩) (preV X hV (F_X10_cost_g hc) rfl) rfl rfl hl.1 rfl (lv_room (Nat.le_of_ble_eq_true rfl)) dL_law_768 ⟨(by simp only [rm_L_law]; omega), (by simp only [rm_L_law]; omega)⟩) hF (fun H locs hV hF => ?_)
  refine r_eq (tgt := 1248) X.1 X.2.1 dL_law_771 (by decide) h (fun h => ?_) (fun h => ?_)
  · refine lv_iinc (v := x3 + 5) (lv' := [(3, .int (x3 + 5)), (0, .ref b), (1, .ref x1), (2, .ref x2)]) X.1 X.2.1 dL_law_1248 hl (k := 3) rfl rfl (by decide) rfl (fun ls hl => ?_)
    refine lv_goto (tgt := 18) X.1 X.2.1 dL_law_1251 (by decide) ?_
    refine W.widen (k := 275 + 200 * (k + 1)) (n := 2578 + 1500 * (k + 1)) (by omega) (by omega) ?_
    exact hr18 (s2, x3 + 5) h _ _ _ hV hF (lv_sub hl [1, 2, 3, 0] rfl)
  · cases h
set_option maxHeartbeats 4000000 in
theorem w_L_law_776 {p : Program} {l : Launch} {e : Env} {s : State} {m : MethodId} {below : List Frame} {meth : Method} {c : Code} {g : Gl} {b L : Nat} {xs : Nat → Int32} {k : Nat} (hk : k < 65) (X : FX g p m c s #[Value.ref b] meth cL_law 4 RL (some .boolean) meth.name) (hS : va_X b L xs s g.2.1) (hb : b < g.1) (hgs : s.heap.size ≤ g.1) {r : Unit} {rec18 : Hp × Int32 → Option (Unit)} {σ : Hp} {x1 : Nat} {x2 : Nat} {x3 : Int32} (hr18 : ∀ (st : Hp × Int32), rec18 st = some r → ∀ (H : Heap) (locs : List Loc) (ls : Array Slot), HV g st.1 H → FR g locs → lv_has ls 4 [(0, .ref b), (1, .ref x1), (2, .ref x2), (3, .int st.2)] → W p l e rm_L_law s m #[Value.ref b] below meth c H locs (275 + 200 * (k + 1)) (2578 + 1500 * (k + 1)) (lw_Z below #[Value.ref b] s) (F0 m 18 ls [])) {H : Heap} {locs : List Loc} {ls : Array Slot} (h : F_L_law_776 L xs rec18 σ x1 x2 x3 = some r) (hV : HV g σ H) (hF : FR g locs) (hl : lv_has ls 4 [(0, .ref b), (1, .ref x1), (2, .ref x2), (3, .int x3)]) : W p l e rm_L_law s m #[Value.ref b] below meth c H locs (275 + 200 * k) (2578 + 1500 * k) (lw_Z below #[Value.ref b] s) (F0 m 776 ls []) := by
  unfold F_L_law_776 at h
  refine lv_aload_n X.1 X.2.1 dL_law_776 rfl (lv_at hl 1 rfl) ?_
  refine lv_aload_n X.1 X.2.1 dL_law_777 rfl (lv_at hl 0 rfl) ?_
  refine lv_iload_n X.1 X.2.1 dL_law_778 rfl (lv_at hl 3 rfl) ?_
  refine lv_iconst (v := 1) X.1 X.2.1 dL_law_779 (by decide) ?_
  refine lv_iadd X.1 X.2.1 dL_law_780 ?_
  refine r_sX X hV hS hb dL_law_781 h (fun v1 h => ?_)
  refine lv_aload_n X.1 X.2.1 dL_law_782 rfl (lv_at hl 0 rfl) ?_
  refine lv_iload_n X.1 X.2.1 dL_law_783 rfl (lv_at hl 3 rfl) ?_
  refine lv_iconst (v := 2) X.1 X.2.1 dL_law_784 (by decide) ?_
  refine lv_iadd X.1 X.2.1 dL_law_785 ?_
  refine r_sX X hV hS hb dL_law_786 h (fun v2 h => ?_)
  refine lv_aload_n X.1 X.2.1 dL_law_787 rfl (lv_at hl 0 rfl) ?_
  refine lv_iload_n X.1 X.2.1 dL_law_788 rfl (lv_at hl 3 rfl) ?_
  refine lv_iconst (v := 3) X.1 X.2.1 dL_law_789 (by decide) ?_
  refine lv_iadd X.1 X.2.1 dL_law_790 ?_
  refine r_sX X hV hS hb dL_law_791 h (fun v3 h => ?_)
  obtain ⟨v4, s1, hc, h⟩ := b2_inv h
  refine r_ci (va_runV (C := RX0) (As := [.int v1, .int v2, .int v3]) (rest := []) (cfX X) (c_X0_plan l hc) (cwV 3 X.2.2.2.2.1 (lw_V q858 q859 q860 q49 q861) rfl rfl rfl ⟨rfl, yd_X0_plan⟩ ⟨Nat.le_of_ble_eq_true rfl, Nat.le_of_ble_eq_true rfl⟩) (preV X hV (F_X0_plan_g hc) rfl) rfl rfl hl.1 rfl (lv_room (Nat.le_of_ble_eq_true rfl)) dL_law_792 ⟨(by simp only [rm_L_law]; omega), (by simp only [rm_L_law]; omega)⟩) hF (fun H locs hV hF => ?_)
  refine lv_aload_n X.1 X.2.1 dL_law_795 rfl (lv_at hl 2 rfl) ?_
  refine lv_aload_n X.1 X.2.1 dL_law_796 rfl (lv_at hl 0 rfl) ?_
  refine lv_iload_n X.1 X.2.1 dL_law_797 rfl (lv_at hl 3 rfl) ?_
  refine lv_iconst (v := 1) X.1 X.2.1 dL_law_798 (by decide) ?_
  refine lv_iadd X.1 X.2.1 dL_law_799 ?_
  refine r_sX X hV hS hb dL_law_800 h (fun v5 h => ?_)
  refine lv_aload_n X.1 X.2.1 dL_law_801 rfl (lv_at hl 0 rfl) ?_
  refine lv_iload_n X.1 X.2.1 dL_law_802 rfl (lv_at hl 3 rfl) ?_
  refine lv_iconst (v := 2) X.1 X.2.1 dL_law_803 (by decide) ?_
  refine lv_iadd X.1 X.2.1 dL_law_804 ?_
  refine r_sX X hV hS hb dL_law_805 h (fun v6 h => ?_)
  refine lv_aload_n X.1 X.2.1 dL_law_806 rfl (lv_at hl 0 rfl) ?_
  refine lv_iload_n X.1 X.2.1 dL_law_807 rfl (lv_at hl 3 rfl) ?_
  refine lv_iconst (v := 3) X.1 X.2.1 dL_law_808 (by decide) ?_
  refine lv_iadd X.1 X.2.1 dL_law_809 ?_
  refine r_sX X hV hS hb dL_law_810 h (fun v7 h => ?_)
  obtain ⟨v8, s2, hc, h⟩ := b2_inv h
  refine r_ci (va_runV (C := RX10) (As := [.int v5, .int v6, .int v7]) (rest := [.int v4]) (cfX X) (c_X10_plan l hc) (cwV 3 X.2.2.2.2.1 (lw_V q1290 q1291 q1292 q59 q1293) rfl rfl rfl ⟨rfl, yd_X10_plan⟩ ⟨Nat.le_of_ble_eq_true rfl, Nat.le_of_ble_eq_true rfl⟩) (preV X hV (F_X10_plan_g hc) rfl) rfl rfl hl.1 rfl (lv_room (Nat.le_of_ble_eq_true rfl)) dL_law_811 ⟨(by simp only [rm_L_law]; omega), (by simp only [rm_L_law]; omega)⟩) hF (fun H locs hV hF => ?_)
  refine r_eq (tgt := 1248) X.1 X.2.1 dL_law_814 (by decide) h (fun h => ?_) (fun h => ?_)
  · refine lv_iinc (v := x3 + 5) (lv' := [(3, .int (x3 + 5)), (0, .ref b), (1, .ref x1), (2, .ref x2)]) X.1 X.2.1 dL_law_1248 hl (k := 3) rfl rfl (by decide) rfl (fun ls hl => ?_)
    refine lv_goto (tgt := 18) X.1 X.2.1 dL_law_1251 (by decide) ?_
    refine W.widen (k := 275 + 200 * (k + 1)) (n := 2578 + 1500 * (k + 1)) (by omega) (by omega) ?_
    exact hr18 (s2, x3 + 5) h _ _ _ hV hF (lv_sub hl [1, 2, 3, 0] rfl)
  · cases h
set_option maxHeartbeats 4000000 in
theorem w_L_law_819 {p : Program} {l : Launch} {e : Env} {s : State} {m : MethodId} {below : List Frame} {meth : Method} {c : Code} {g : Gl} {b L : Nat} {xs : Nat → Int32} {k : Nat} (hk : k < 65) (X : FX g p m c s #[Value.ref b] meth cL_law 4 RL (some .boolean) meth.name) (hS : va_X b L xs s g.2.1) (hb : b < g.1) (hgs : s.heap.size ≤ g.1) {r : Unit} {rec18 : Hp × Int32 → Option (Unit)} {σ : Hp} {x1 : Nat} {x2 : Nat} {x3 : Int32} (hr18 : ∀ (st : Hp × Int32), rec18 st = some r → ∀ (H : Heap) (locs : List Loc) (ls : Array Slot), HV g st.1 H → FR g locs → lv_has ls 4 [(0, .ref b), (1, .ref x1), (2, .ref x2), (3, .int st.2)] → W p l e rm_L_law s m #[Value.ref b] below meth c H locs (275 + 200 * (k + 1)) (2578 + 1500 * (k + 1)) (lw_Z below #[Value.ref b] s) (F0 m 18 ls [])) {H : Heap} {locs : List Loc} {ls : Array Slot} (h : F_L_law_819 L xs rec18 σ x1 x2 x3 = some r) (hV : HV g σ H) (hF : FR g locs) (hl : lv_has ls 4 [(0, .ref b), (1, .ref x1), (2, .ref x2), (3, .int x3)]) : W p l e rm_L_law s m #[Value.ref b] below meth c H locs (275 + 200 * k) (2578 + 1500 * k) (lw_Z below #[Value.ref b] s) (F0 m 819 ls []) := by
  unfold F_L_law_819 at h
  refine lv_aload_n X.1 X.2.1 dL_law_819 rfl (lv_at hl 1 rfl) ?_
  refine lv_aload_n X.1 X.2.1 dL_law_820 rfl (lv_at hl 0 rfl) ?_
  refine lv_iload_n X.1 X.2.1 dL_law_821 rfl (lv_at hl 3 rfl) ?_
  refine lv_iconst (v := 1) X.1 X.2.1 dL_law_822 (by decide) ?_
  refine lv_iadd X.1 X.2.1 dL_law_823 ?_
  refine r_sX X hV hS hb dL_law_824 h (fun v1 h => ?_)
  refine lv_aload_n X.1 X.2.1 dL_law_825 rfl (lv_at hl 0 rfl) ?_
  refine lv_iload_n X.1 X.2.1 dL_law_826 rfl (lv_at hl 3 rfl) ?_
  refine lv_iconst (v := 2) X.1 X.2.1 dL_law_827 (by decide) ?_
  refine lv_iadd X.1 X.2.1 dL_law_828 ?_
  refine r_sX X hV hS hb dL_law_829 h (fun v2 h => ?_)
  refine lv_aload_n X.1 X.2.1 dL_law_830 rfl (lv_at hl 0 rfl) ?_
  refine lv_iload_n X.1 X.2.1 dL_law_831 rfl (lv_at hl 3 rfl) ?_
  refine lv_iconst (v := 3) X.1 X.2.1 dL_law_832 (by decide) ?_
  refine lv_iadd X.1 X.2.1 dL_law_833 ?_
  refine r_sX X hV hS hb dL_law_834 h (fun v3 h => ?_)
  obtain ⟨v4, s1, hc, h⟩ := b2_inv h
  refine r_ci (va_runV (C := RX0) (As := [.int v1, .int v2, .int v3]) (rest := []) (cfX X) (c_X0_judge l hc) (cwV 3 X.2.2.2.2.1 (lw_V q902 q903 q904 q49 q905) rfl rfl rfl ⟨rfl, yd_X0_judge⟩ ⟨Nat.le_of_ble_eq_true rfl, Nat.le_of_ble_eq_true rfl⟩) (preV X hV (F_X0_judge_g hc) rfl) rfl rfl hl.1 rfl (lv_room (Nat.le_of_ble_eq_true rfl)) dL_law_835 ⟨(by simp only [rm_L_law]; omega), (by simp only [rm_L_law]; omega)⟩) hF (fun H locs hV hF => ?_)
  refine lv_aload_n X.1 X.2.1 dL_law_838 rfl (lv_at hl 2 rfl) ?_
  refine lv_aload_n X.1 X.2.1 dL_law_839 rfl (lv_at hl 0 rfl) ?_
  refine lv_iload_n X.1 X.2.1 dL_law_840 rfl (lv_at hl 3 rfl) ?_
  refine lv_iconst (v := 1) X.1 X.2.1 dL_law_841 (by decide) ?_
  refine lv_iadd X.1 X.2.1 dL_law_842 ?_
  refine r_sX X hV hS hb dL_law_843 h (fun v5 h => ?_)
  refine lv_aload_n X.1 X.2.1 dL_law_844 rfl (lv_at hl 0 rfl) ?_
  refine lv_iload_n X.1 X.2.1 dL_law_845 rfl (lv_at hl 3 rfl) ?_
  refine lv_iconst (v := 2) X.1 X.2.1 dL_law_846 (by decide) ?_
  refine lv_iadd X.1 X.2.1 dL_law_847 ?_
  refine r_sX X hV hS hb dL_law_848 h (fun v6 h => ?_)
  refine lv_aload_n X.1 X.2.1 dL_law_849 rfl (lv_at hl 0 rfl) ?_
  refine lv_iload_n X.1 X.2.1 dL_law_850 rfl (lv_at hl 3 rfl) ?_
  refine lv_iconst (v := 3) X.1 X.2.1 dL_law_851 (by decide) ?_
  refine lv_iadd X.1 X.2.1 dL_law_852 ?_
  refine r_sX X hV hS hb dL_law_853 h (fun v7 h => ?_)
  obtain ⟨v8, s2, hc, h⟩ := b2_inv h
  refine r_ci (va_runV (C := RX10) (As := [.int v5, .int v6, .int v7]) (rest := [.int v4]) (cfX X) (c_X10_judge l hc) (cwV 3 X.2.2.2.2.1 (lw_V q1305 q1306 q1307 q59 q1308) rfl rfl rfl ⟨rfl, yd_X10_judge⟩ ⟨Nat.le_of_ble_eq_true rfl, Nat.le_of_ble_eq_true rfl⟩) (preV X hV (F_X10_judge_g hc) rfl) rfl rfl hl.1 rfl (lv_room (Nat.le_of_ble_eq_true rfl)) dL_law_854 ⟨(by simp only [rm_L_law]; omega), (by simp only [rm_L_law]; omega)⟩) hF (fun H locs hV hF => ?_)
  refine r_eq (tgt := 1248) X.1 X.2.1 dL_law_857 (by decide) h (fun h => ?_) (fun h => ?_)
  · refine lv_iinc (v := x3 + 5) (lv' := [(3, .int (x3 + 5)), (0, .ref b), (1, .ref x1), (2, .ref x2)]) X.1 X.2.1 dL_law_1248 hl (k := 3) rfl rfl (by decide) rfl (fun ls hl => ?_)
    refine lv_goto (tgt := 18) X.1 X.2.1 dL_law_1251 (by decide) ?_
    refine W.widen (k := 275 + 200 * (k + 1)) (n := 2578 + 1500 * (k + 1)) (by omega) (by omega) ?_
    exact hr18 (s2, x3 + 5) h _ _ _ hV hF (lv_sub hl [1, 2, 3, 0] rfl)
  · cases h
set_option maxHeartbeats 4000000 in
theorem w_L_law_862 {p : Program} {l : Launch} {e : Env} {s : State} {m : MethodId} {below : List Frame} {meth : Method} {c : Code} {g : Gl} {b L : Nat} {xs : Nat → Int32} {k : Nat} (hk : k < 65) (X : FX g p m c s #[Value.ref b] meth cL_law 4 RL (some .boolean) meth.name) (hS : va_X b L xs s g.2.1) (hb : b < g.1) (hgs : s.heap.size ≤ g.1) {r : Unit} {rec18 : Hp × Int32 → Option (Unit)} {σ : Hp} {x1 : Nat} {x2 : Nat} {x3 : Int32} (hr18 : ∀ (st : Hp × Int32), rec18 st = some r → ∀ (H : Heap) (locs : List Loc) (ls : Array Slot), HV g st.1 H → FR g locs → lv_has ls 4 [(0, .ref b), (1, .ref x1), (2, .ref x2), (3, .int st.2)] → W p l e rm_L_law s m #[Value.ref b] below meth c H locs (275 + 200 * (k + 1)) (2578 + 1500 * (k + 1)) (lw_Z below #[Value.ref b] s) (F0 m 18 ls [])) {H : Heap} {locs : List Loc} {ls : Array Slot} (h : F_L_law_862 L xs rec18 σ x1 x2 x3 = some r) (hV : HV g σ H) (hF : FR g locs) (hl : lv_has ls 4 [(0, .ref b), (1, .ref x1), (2, .ref x2), (3, .int x3)]) : W p l e rm_L_law s m #[Value.ref b] below meth c H locs (275 + 200 * k) (2578 + 1500 * k) (lw_Z below #[Value.ref b] s) (F0 m 862 ls []) := by
  unfold F_L_law_862 at h
  refine lv_aload_n X.1 X.2.1 dL_law_862 rfl (lv_at hl 1 rfl) ?_
  refine lv_aload_n X.1 X.2.1 dL_law_863 rfl (lv_at hl 0 rfl) ?_
  refine lv_iload_n X.1 X.2.1 dL_law_864 rfl (lv_at hl 3 rfl) ?_
  refine lv_iconst (v := 1) X.1 X.2.1 dL_law_865 (by decide) ?_
  refine lv_iadd X.1 X.2.1 dL_law_866 ?_
  refine r_sX X hV hS hb dL_law_867 h (fun v1 h => ?_)
  refine lv_aload_n X.1 X.2.1 dL_law_868 rfl (lv_at hl 0 rfl) ?_
  refine lv_iload_n X.1 X.2.1 dL_law_869 rfl (lv_at hl 3 rfl) ?_
  refine lv_iconst (v := 2) X.1 X.2.1 dL_law_870 (by decide) ?_
  refine lv_iadd X.1 X.2.1 dL_law_871 ?_
  refine r_sX X hV hS hb dL_law_872 h (fun v2 h => ?_)
  obtain ⟨v3, s1, hc, h⟩ := b2_inv h
  refine r_ci (va_runV (C := RX0) (As := [.int v1, .int v2]) (rest := []) (cfX X) (c_X0_right l hc) (cwV 2 X.2.2.2.2.1 (lw_V q906 q907 q908 q49 q909) rfl rfl rfl ⟨rfl, yd_X0_right⟩ ⟨Nat.le_of_ble_eq_true rfl, Nat.le_of_ble_eq_true rfl⟩) (preV X hV (F_X0_right_g hc) rfl) rfl rfl hl.1 rfl (lv_room (Nat.le_of_ble_eq_true rfl)) dL_law_873 ⟨(by simp only [rm_L_law]; omega), (by simp only [rm_L_law]; omega)⟩) hF (fun H locs hV hF => ?_)
  refine lv_aload_n X.1 X.2.1 dL_law_876 rfl (lv_at hl 2 rfl) ?_
  refine lv_aload_n X.1 X.2.1 dL_law_877 rfl (lv_at hl 0 rfl) ?_
  refine lv_iload_n X.1 X.2.1 dL_law_878 rfl (lv_at hl 3 rfl) ?_
  refine lv_iconst (v := 1) X.1 X.2.1 dL_law_879 (by decide) ?_
  refine lv_iadd X.1 X.2.1 dL_law_880 ?_
  refine r_sX X hV hS hb dL_law_881 h (fun v4 h => ?_)
  refine lv_aload_n X.1 X.2.1 dL_law_882 rfl (lv_at hl 0 rfl) ?_
  refine lv_iload_n X.1 X.2.1 dL_law_883 rfl (lv_at hl 3 rfl) ?_
  refine lv_iconst (v := 2) X.1 X.2.1 dL_law_884 (by decide) ?_
  refine lv_iadd X.1 X.2.1 dL_law_885 ?_
  refine r_sX X hV hS hb dL_law_886 h (fun v5 h => ?_)
  obtain ⟨v6, s2, hc, h⟩ := b2_inv h
  refine r_ci (va_runV (C := RX10) (As := [.int v4, .int v5]) (rest := [.int v3]) (cfX X) (c_X10_right l hc) (cwV 2 X.2.2.2.2.1 (lw_V q1309 q1310 q1311 q59 q1312) rfl rfl rfl ⟨rfl, yd_X10_right⟩ ⟨Nat.le_of_ble_eq_true rfl, Nat.le_of_ble_eq_true rfl⟩) (preV X hV (F_X10_right_g hc) rfl) rfl rfl hl.1 rfl (lv_room (Nat.le_of_ble_eq_true rfl)) dL_law_887 ⟨(by simp only [rm_L_law]; omega), (by simp only [rm_L_law]; omega)⟩) hF (fun H locs hV hF => ?_)
  refine r_eq (tgt := 1248) X.1 X.2.1 dL_law_890 (by decide) h (fun h => ?_) (fun h => ?_)
  · refine lv_iinc (v := x3 + 5) (lv' := [(3, .int (x3 + 5)), (0, .ref b), (1, .ref x1), (2, .ref x2)]) X.1 X.2.1 dL_law_1248 hl (k := 3) rfl rfl (by decide) rfl (fun ls hl => ?_)
    refine lv_goto (tgt := 18) X.1 X.2.1 dL_law_1251 (by decide) ?_
    refine W.widen (k := 275 + 200 * (k + 1)) (n := 2578 + 1500 * (k + 1)) (by omega) (by omega) ?_
    exact hr18 (s2, x3 + 5) h _ _ _ hV hF (lv_sub hl [1, 2, 3, 0] rfl)
  · cases h
set_option maxHeartbeats 4000000 in
theorem w_L_law_895 {p : Program} {l : Launch} {e : Env} {s : State} {m : MethodId} {below : List Frame} {meth : Method} {c : Code} {g : Gl} {b L : Nat} {xs : Nat → Int32} {k : Nat} (hk : k < 65) (X : FX g p m c s #[Value.ref b] meth cL_law 4 RL (some .boolean) meth.name) (hS : va_X b L xs s g.2.1) (hb : b < g.1) (hgs : s.heap.size ≤ g.1) {r : Unit} {rec18 : Hp × Int32 → Option (Unit)} {σ : Hp} {x1 : Nat} {x2 : Nat} {x3 : Int32} (hr18 : ∀ (st : Hp × Int32), rec18 st = some r → ∀ (H : Heap) (locs : List Loc) (ls : Array Slot), HV g st.1 H → FR g locs → lv_has ls 4 [(0, .ref b), (1, .ref x1), (2, .ref x2), (3, .int st.2)] → W p l e rm_L_law s m #[Value.ref b] below meth c H locs (275 + 200 * (k + 1)) (2578 + 1500 * (k + 1)) (lw_Z below #[Value.ref b] s) (F0 m 18 ls [])) {H : Heap} {locs : List Loc} {ls : Array Slot} (h : F_L_law_895 L xs rec18 σ x1 x2 x3 = some r) (hV : HV g σ H) (hF : FR g locs) (hl : lv_has ls 4 [(0, .ref b), (1, .ref x1), (2, .ref x2), (3, .int x3)]) : W p l e rm_L_law s m #[Value.ref b] below meth c H locs (275 + 200 * k) (2578 + 1500 * k) (lw_Z below #[Value.ref b] s) (F0 m 895 ls []) := by
  unfold F_L_law_895 at h
  refine lv_aload_n X.1 X.2.1 dL_law_895 rfl (lv_at hl 1 rfl) ?_
  refine lv_aload_n X.1 X.2.1 dL_law_896 rfl (lv_at hl 0 rfl) ?_
  refine lv_iload_n X.1 X.2.1 dL_law_897 rfl (lv_at hl 3 rfl) ?_
  refine lv_iconst (v := 1) X.1 X.2.1 dL_law_898 (by decide) ?_
  refine lv_iadd X.1 X.2.1 dL_law_899 ?_
  refine r_sX X hV hS hb dL_law_900 h (fun v1 h => ?_)
  refine lv_aload_n X.1 X.2.1 dL_law_901 rfl (lv_at hl 0 rfl) ?_
  refine lv_iload_n X.1 X.2.1 dL_law_902 rfl (lv_at hl 3 rfl) ?_
  refine lv_iconst (v := 2) X.1 X.2.1 dL_law_903 (by decide) ?_
  refine lv_iadd X.1 X.2.1 dL_law_904 ?_
  refine r_sX X hV hS hb dL_law_905 h (fun v2 h => ?_)
  obtain ⟨v3, s1, hc, h⟩ := b2_inv h
  refine r_ci (va_runV (C := RX0) (As := [.int v1, .int v2]) (rest := []) (cfX X) (c_X0_causes l hc) (cwV 2 X.2.2.2.2.1 (lw_V q911 q912 q913 q49 q914) rfl rfl rfl ⟨rfl, yd_X0_causes⟩ ⟨Nat.le_of_ble_eq_true rfl, Nat.le_of_ble_eq_true rfl⟩) (preV X hV (F_X0_causes_g hc) rfl) rfl rfl hl.1 rfl (lv_room (Nat.le_of_ble_eq_true rfl)) dL_law_906 ⟨(by simp only [rm_L_law]; omega), (by simp only [rm_L_law]; omega)⟩) hF (fun H locs hV hF => ?_)
  refine lv_aload_n X.1 X.2.1 dL_law_909 rfl (lv_at hl 2 rfl) ?_
  refine lv_aload_n X.1 X.2.1 dL_law_910 rfl (lv_at hl 0 rfl) ?_
  refine lv_iload_n X.1 X.2.1 dL_law_911 rfl (lv_at hl 3 rfl) ?_
  refine lv_iconst (v := 1) X.1 X.2.1 dL_law_912 (by decide) ?_
  refine lv_iadd X.1 X.2.1 dL_law_913 ?_
  refine r_sX X hV hS hb dL_law_914 h (fun v4 h => ?_)
  refine lv_aload_n X.1 X.2.1 dL_law_915 rfl (lv_at hl 0 rfl) ?_
  refine lv_iload_n X.1 X.2.1 dL_law_916 rfl (lv_at hl 3 rfl) ?_
  refine lv_iconst (v := 2) X.1 X.2.1 dL_law_917 (by decide) ?_
  refine lv_iadd X.1 X.2.1 dL_law_918 ?_
  refine r_sX X hV hS hb dL_law_919 h (fun v5 h => ?_)
  obtain ⟨v6, s2, hc, h⟩ := b2_inv h
  refine r_ci (va_runV (C := RX10) (As := [.int v4, .int v5]) (rest := [.int v3]) (cfX X) (c_X10_causes l hc) (cwV 2 X.2.2.2.2.1 (lw_V q1313 q1314 q1315 q59 q1316) rfl rfl rfl ⟨rfl, yd_X10_causes⟩ ⟨Nat.le_of_ble_eq_true rfl, Nat.le_of_ble_eq_true rfl⟩) (preV X hV (F_X10_causes_g hc) rfl) rfl rfl hl.1 rfl (lv_room (Nat.le_of_ble_eq_true rfl)) dL_law_920 ⟨(by simp only [rm_L_law]; omega), (by simp only [rm_L_law]; omega)⟩) hF (fun H locs hV hF => ?_)
  refine r_eq (tgt := 1248) X.1 X.2.1 dL_law_923 (by decide) h (fun h => ?_) (fun h => ?_)
  · refine lv_iinc (v := x3 + 5) (lv' := [(3, .int (x3 + 5)), (0, .ref b), (1, .ref x1), (2, .ref x2)]) X.1 X.2.1 dL_law_1248 hl (k := 3) rfl rfl (by decide) rfl (fun ls hl => ?_)
    refine lv_goto (tgt := 18) X.1 X.2.1 dL_law_1251 (by decide) ?_
    refine W.widen (k := 275 + 200 * (k + 1)) (n := 2578 + 1500 * (k + 1)) (by omega) (by omega) ?_
    exact hr18 (s2, x3 + 5) h _ _ _ hV hF (lv_sub hl [1, 2, 3, 0] rfl)
  · cases h
set_option maxHeartbeats 4000000 in
theorem w_L_law_928 {p : Program} {l : Launch} {e : Env} {s : State} {m : MethodId} {below : List Frame} {meth : Method} {c : Code} {g : Gl} {b L : Nat} {xs : Nat → Int32} {k : Nat} (hk : k < 65) (X : FX g p m c s #[Value.ref b] meth cL_law 4 RL (some .boolean) meth.name) (hS : va_X b L xs s g.2.1) (hb : b < g.1) (hgs : s.heap.size ≤ g.1) {r : Unit} {rec18 : Hp × Int32 → Option (Unit)} {σ : Hp} {x1 : Nat} {x2 : Nat} {x3 : Int32} (hr18 : ∀ (st : Hp × Int32), rec18 st = some r → ∀ (H : Heap) (locs : List Loc) (ls : Array Slot), HV g st.1 H → FR g locs → lv_has ls 4 [(0, .ref b), (1, .ref x1), (2, .ref x2), (3, .int st.2)] → W p l e rm_L_law s m #[Value.ref b] below meth c H locs (275 + 200 * (k + 1)) (2578 + 1500 * (k + 1)) (lw_Z below #[Value.ref b] s) (F0 m 18 ls [])) {H : Heap} {locs : List Loc} {ls : Array Slot} (h : F_L_law_928 L xs rec18 σ x1 x2 x3 = some r) (hV : HV g σ H) (hF : FR g locs) (hl : lv_has ls 4 [(0, .ref b), (1, .ref x1), (2, .ref x2), (3, .int x3)]) : W p l e rm_L_law s m #[Value.ref b] below meth c H locs (275 + 200 * k) (2578 + 1500 * k) (lw_Z below #[Value.ref b] s) (F0 m 928 ls []) := by
  unfold F_L_law_928 at h
  refine lv_aload_n X.1 X.2.1 dL_law_928 rfl (lv_at hl 1 rfl) ?_
  refine lv_aload_n X.1 X.2.1 dL_law_929 rfl (lv_at hl 0 rfl) ?_
  refine lv_iload_n X.1 X.2.1 dL_law_930 rfl (lv_at hl 3 rfl) ?_
  refine lv_iconst (v := 1) X.1 X.2.1 dL_law_931 (by decide) ?_
  refine lv_iadd X.1 X.2.1 dL_law_932 ?_
  refine r_sX X hV hS hb dL_law_933 h (fun v1 h => ?_)
  refine lv_aload_n X.1 X.2.1 dL_law_934 rfl (lv_at hl 0 rfl) ?_
  refine lv_iload_n X.1 X.2.1 dL_law_935 rfl (lv_at hl 3 rfl) ?_
  refine lv_iconst (v := 2) X.1 X.2.1 dL_law_936 (by decide) ?_
  refine lv_iadd X.1 X.2.1 dL_law_937 ?_
  refine r_sX X hV hS hb dL_law_938 h (fun v2 h => ?_)
  obtain ⟨v3, s1, hc, h⟩ := b2_inv h
  refine r_ci (va_runV (C := RX0) (As := [.int v1, .int v2]) (rest := []) (cfX X) (c_X0_asked l hc) (cwV 2 X.2.2.2.2.1 (lw_V q915 q916 q917 q49 q918) rfl rfl rfl ⟨rfl, yd_X0_asked⟩ ⟨Nat.le_of_ble_eq_true rfl, Nat.le_of_ble_eq_true rfl⟩) (preV X hV (F_X0_asked_g hc) rfl) rfl rfl hl.1 rfl (lv_room (Nat.le_of_ble_eq_true rfl)) dL_law_939 ⟨(by simp only [rm_L_law]; omega), (by simp only [rm_L_law]; omega)⟩) hF (fun H locs hV hF => ?_)
  refine lv_aload_n X.1 X.2.1 dL_law_942 rfl (lv_at hl 2 rfl) ?_
  refine lv_aload_n X.1 X.2.1 dL_law_943 rfl (lv_at hl 0 rfl) ?_
  refine lv_iload_n X.1 X.2.1 dL_law_944 rfl (lv_at hl 3 rfl) ?_
  refine lv_iconst (v := 1) X.1 X.2.1 dL_law_945 (by decide) ?_
  refine lv_iadd X.1 X.2.1 dL_law_946 ?_
  refine r_sX X hV hS hb dL_law_947 h (fun v4 h => ?_)
  refine lv_aload_n X.1 X.2.1 dL_law_948 rfl (lv_at hl 0 rfl) ?_
  refine lv_iload_n X.1 X.2.1 dL_law_949 rfl (lv_at hl 3 rfl) ?_
  refine lv_iconst (v := 2) X.1 X.2.1 dL_law_950 (by decide) ?_
  refine lv_iadd X.1 X.2.1 dL_law_951 ?_
  refine r_sX X hV hS hb dL_law_952 h (fun v5 h => ?_)
  obtain ⟨v6, s2, hc, h⟩ := b2_inv h
  refine r_ci (va_runV (C := RX10) (As := [.int v4, .int v5]) (rest := [.int v3]) (cfX X) (c_X10_asked l hc) (cwV 2 X.2.2.2.2.1 (lw_V q1317 q1318 q1319 q59 q1320) rfl rfl rfl ⟨rfl, yd_X10_asked⟩ ⟨Nat.le_of_ble_eq_true rfl, Nat.le_of_ble_eq_true rfl⟩) (preV X hV (F_X10_asked_g hc) rfl) rfl rfl hl.1 rfl (lv_room (Nat.le_of_ble_eq_true rfl)) dL_law_953 ⟨(by simp only [rm_L_law]; omega), (by simp only [rm_L_law]; omega)⟩) hF (fun H locs hV hF => ?_)
  refine r_eq (tgt := 1248) X.1 X.2.1 dL_law_956 (by decide) h (fun h => ?_) (fun h => ?_)
  · refine lv_iinc (v := x3 + 5) (lv' := [(3, .int (x3 + 5)), (0, .ref b), (1, .ref x1), (2, .ref x2)]) X.1 X.2.1 dL_law_1248 hl (k := 3) rfl rfl (by decide) rfl (fun ls hl => ?_)
    refine lv_goto (tgt := 18) X.1 X.2.1 dL_law_1251 (by decide) ?_
    refine W.widen (k := 275 + 200 * (k + 1)) (n := 2578 + 1500 * (k + 1)) (by omega) (by omega) ?_
    exact hr18 (s2, x3 + 5) h _ _ _ hV hF (lv_sub hl [1, 2, 3, 0] rfl)
  · cases h
set_option maxHeartbeats 4000000 in
theorem w_L_law_961 {p : Program} {l : Launch} {e : Env} {s : State} {m : MethodId} {below : List Frame} {meth : Method} {c : Code} {g : Gl} {b L : Nat} {xs : Nat → Int32} {k : Nat} (hk : k < 65) (X : FX g p m c s #[Value.ref b] meth cL_law 4 RL (some .boolean) meth.name) (hS : va_X b L xs s g.2.1) (hb : b < g.1) (hgs : s.heap.size ≤ g.1) {r : Unit} {rec18 : Hp × Int32 → Option (Unit)} {σ : Hp} {x1 : Nat} {x2 : Nat} {x3 : Int32} (hr18 : ∀ (st : Hp × Int32), rec18 st = some r → ∀ (H : Heap) (locs : List Loc) (ls : Array Slot), HV g st.1 H → FR g locs → lv_has ls 4 [(0, .ref b), (1, .ref x1), (2, .ref x2), (3, .int st.2)] → W p l e rm_L_law s m #[Value.ref b] below meth c H locs (275 + 200 * (k + 1)) (2578 + 1500 * (k + 1)) (lw_Z below #[Value.ref b] s) (F0 m 18 ls [])) {H : Heap} {locs : List Loc} {ls : Array Slot} (h : F_L_law_961 L xs rec18 σ x1 x2 x3 = some r) (hV : HV g σ H) (hF : FR g locs) (hl : lv_has ls 4 [(0, .ref b), (1, .ref x1), (2, .ref x2), (3, .int x3)]) : W p l e rm_L_law s m #[Value.ref b] below meth c H locs (275 + 200 * k) (2578 + 1500 * k) (lw_Z below #[Value.ref b] s) (F0 m 961 ls []) := by
  unfold F_L_law_961 at h
  refine lv_aload_n X.1 X.2.1 dL_law_961 rfl (lv_at hl 1 rfl) ?_
  refine lv_aload_n X.1 X.2.1 dL_law_962 rfl (lv_at hl 0 rfl) ?_
  refine lv_iload_n X.1 X.2.1 dL_law_963 rfl (lv_at hl 3 rfl) ?_
  refine lv_iconst (v := 1) X.1 X.2.1 dL_law_964 (by decide) ?_
  refine lv_iadd X.1 X.2.1 dL_law_965 ?_
  refine r_sX X hV hS hb dL_law_966 h (fun v1 h => ?_)
  refine lv_aload_n X.1 X.2.1 dL_law_967 rfl (lv_at hl 0 rfl) ?_
  refine lv_iload_n X.1 X.2.1 dL_law_968 rfl (lv_at hl 3 rfl) ?_
  refine lv_iconst (v := 2) X.1 X.2.1 dL_law_969 (by decide) ?_
  refine lv_iadd X.1 X.2.1 dL_law_970 ?_
  refine r_sX X hV hS hb dL_law_971 h (fun v2 h => ?_)
  obtain ⟨v3, s1, hc, h⟩ := b2_inv h
  refine r_ci (va_runV (C := RX0) (As := [.int v1, .int v2]) (rest := []) (cfX X) (c_X0_beside l hc) (cwV 2 X.2.2.2.2.1 (lw_V q919 q920 q921 q49 q922) rfl rfl rfl ⟨rfl, yd_X0_beside⟩ ⟨Nat.le_of_ble_eq_true rfl, Nat.le_of_ble_eq_true rfl⟩) (preV X hV (F_X0_beside_g hc) rfl) rfl rfl hl.1 rfl (lv_room (Nat.le_of_ble_eq_true rfl)) dL_law_972 ⟨(by simp only [rm_L_law]; omega), (by simp only [rm_L_law]; omega)⟩) hF (fun H locs hV hF => ?_)
  refine lv_aload_n X.1 X.2.1 dL_law_975 rfl (lv_at hl 2 rfl) ?_
  refine lv_aload_n X.1 X.2.1 dL_law_976 rfl (lv_at hl 0 rfl) ?_
  refine lv_iload_n X.1 X.2.1 dL_law_977 rfl (lv_at hl 3 rfl) ?_
  refine lv_iconst (v := 1) X.1 X.2.1 dL_law_978 (by decide) ?_
  refine lv_iadd X.1 X.2.1 dL_law_979 ?_
  refine r_sX X hV hS hb dL_law_980 h (fun v4 h => ?_)
  refine lv_aload_n X.1 X.2.1 dL_law_981 rfl (lv_at hl 0 rfl) ?_
  refine lv_iload_n X.1 X.2.1 dL_law_982 rfl (lv_at hl 3 rfl) ?_
  refine lv_iconst (v := 2) X.1 X.2.1 dL_law_983 (by decide) ?_
  refine lv_iadd X.1 X.2.1 dL_law_984 ?_
  refine r_sX X hV hS hb dL_law_985 h (fun v5 h => ?_)
  obtain ⟨v6, s2, hc, h⟩ := b2_inv h
  refine r_ci (va_runV (C := RX10) (As := [.int v4, .int v5]) (rest := [.int v3]) (cfX X) (c_X10_beside l hc) (cwV 2 X.2.2.2.2.1 (lw_V q1321 q1322 q1323 q59 q1324) rfl rfl rfl ⟨rfl, yd_X10_beside⟩ ⟨Nat.le_of_ble_eq_true rfl, Nat.le_of_ble_eq_true rfl⟩) (preV X hV (F_X10_beside_g hc) rfl) rfl rfl hl.1 rfl (lv_room (Nat.le_of_ble_eq_true rfl)) dL_law_986 ⟨(by simp only [rm_L_law]; omega), (by simp only [rm_L_law]; omega)⟩) hF (fun H locs hV hF => ?_)
  refine r_eq (tgt := 1248) X.1 X.2.1 dL_law_989 (by decide) h (fun h => ?_) (fun h => ?_)
  · refine lv_iinc (v := x3 + 5) (lv' := [(3, .int (x3 + 5)), (0, .ref b), (1, .ref x1), (2, .ref x2)]) X.1 X.2.1 dL_law_1248 hl (k := 3) rfl rfl (by decide) rfl (fun ls hl => ?_)
    refine lv_goto (tgt := 18) X.1 X.2.1 dL_law_1251 (by decide) ?_
    refine W.widen (k := 275 + 200 * (k + 1)) (n := 2578 + 1500 * (k + 1)) (by omega) (by omega) ?_
    exact hr18 (s2, x3 + 5) h _ _ _ hV hF (lv_sub hl [1, 2, 3, 0] rfl)
  · cases h
set_option maxHeartbeats 4000000 in
theorem w_L_law_994 {p : Program} {l : Launch} {e : Env} {s : State} {m : MethodId} {below : List Frame} {meth : Method} {c : Code} {g : Gl} {b L : Nat} {xs : Nat → Int32} {k : Nat} (hk : k < 65) (X : FX g p m c s #[Value.ref b] meth cL_law 4 RL (some .boolean) meth.name) (hS : va_X b L xs s g.2.1) (hb : b < g.1) (hgs : s.heap.size ≤ g.1) {r : Unit} {rec18 : Hp × Int32 → Option (Unit)} {σ : Hp} {x1 : Nat} {x2 : Nat} {x3 : Int32} (hr18 : ∀ (st : Hp × Int32), rec18 st = some r → ∀ (H : Heap) (locs : List Loc) (ls : Array Slot), HV g st.1 H → FR g locs → lv_has ls 4 [(0, .ref b), (1, .ref x1), (2, .ref x2), (3, .int st.2)] → W p l e rm_L_law s m #[Value.ref b] below meth c H locs (275 + 200 * (k + 1)) (2578 + 1500 * (k + 1)) (lw_Z below #[Value.ref b] s) (F0 m 18 ls [])) {H : Heap} {locs : List Loc} {ls : Array Slot} (h : F_L_law_994 L xs rec18 σ x1 x2 x3 = some r) (hV : HV g σ H) (hF : FR g locs) (hl : lv_has ls 4 [(0, .ref b), (1, .ref x1), (2, .ref x2), (3, .int x3)]) : W p l e rm_L_law s m #[Value.ref b] below meth c H locs (275 + 200 * k) (2578 + 1500 * k) (lw_Z below #[Value.ref b] s) (F0 m 994 ls []) := by
  unfold F_L_law_994 at h
  refine lv_aload_n X.1 X.2.1 dL_law_994 rfl (lv_at hl 1 rfl) ?_
  refine lv_aload_n X.1 X.2.1 dL_law_995 rfl (lv_at hl 0 rfl) ?_
  refine lv_iload_n X.1 X.2.1 dL_law_996 rfl (lv_at hl 3 rfl) ?_
  refine lv_iconst (v := 1) X.1 X.2.1 dL_law_997 (by decide) ?_
  refine lv_iadd X.1 X.2.1 dL_law_998 ?_
  refine r_sX X hV hS hb dL_law_999 h (fun v1 h => ?_)
  refine lv_aload_n X.1 X.2.1 dL_law_1000 rfl (lv_at hl 0 rfl) ?_
  refine lv_iload_n X.1 X.2.1 dL_law_1001 rfl (lv_at hl 3 rfl) ?_
  refine lv_iconst (v := 2) X.1 X.2.1 dL_law_1002 (by decide) ?_
  refine lv_iadd X.1 X.2.1 dL_law_1003 ?_
  refine r_sX X hV hS hb dL_law_1004 h (fun v2 h => ?_)
  refine lv_aload_n X.1 X.2.1 dL_law_1005 rfl (lv_at hl 0 rfl) ?_
  refine lv_iload_n X.1 X.2.1 dL_law_1006 rfl (lv_at hl 3 rfl) ?_
  refine lv_iconst (v := 3) X.1 X.2.1 dL_law_1007 (by decide) ?_
  refine lv_iadd X.1 X.2.1 dL_law_1008 ?_
  refine r_sX X hV hS hb dL_law_1009 h (fun v3 h => ?_)
  refine r_ifeq (tgt := 1017) X.1 X.2.1 dL_law_1010 (by decide) h (fun h => ?_) (fun h => ?_)
  · refine lv_iconst (v := 0) X.1 X.2.1 dL_law_1017 (by decide) ?_
    obtain ⟨v4, s1, hc, h⟩ := b2_inv h
    refine r_ci (va_runV (C := RX0) (As := [.int v1, .int v2, .int 0]) (rest := []) (cfX X) (c_X0_answer l hc) (cwV 3 X.2.2.2.2.1 (lw_V q923 q924 q925 q49 q926) rfl rfl rfl ⟨rfl, yd_X0_answer⟩ ⟨Nat.le_of_ble_eq_true rfl, Nat.le_of_ble_eq_true rfl⟩) (preV X hV (F_X0_answer_g hc) rfl) rfl rfl hl.1 rfl (lv_room (Nat.le_of_ble_eq_true rfl)) dL_law_1018 ⟨(by simp only [rm_L_law]; omega), (by simp only [rm_L_law]; omega)⟩) hF (fun H locs hV hF => ?_)
    refine lv_aload_n X.1 X.2.1 dL_law_1021 rfl (lv_at hl 2 rfl) ?_
    refine lv_aload_n X.1 X.2.1 dL_law_1022 rfl (lv_at hl 0 rfl) ?_
    refine lv_iload_n X.1 X.2.1 dL_law_1023 rfl (lv_at hl 3 rfl) ?_
    refine lv_iconst (v := 1) X.1 X.2.1 dL_law_1024 (by decide) ?_
    refine lv_iadd X.1 X.2.1 dL_law_1025 ?_
    refine r_sX X hV hS hb dL_law_1026 h (fun v5 h => ?_)
    refine lv_aload_n X.1 X.2.1 dL_law_1027 rfl (lv_at hl 0 rfl) ?_
    refine lv_iload_n X.1 X.2.1 dL_law_1028 rfl (lv_at hl 3 rfl) ?_
    refine lv_iconst (v := 2) X.1 X.2.1 dL_law_1029 (by decide) ?_
    refine lv_iadd X.1 X.2.1 dL_law_1030 ?_
    refine r_sX X hV hS hb dL_law_1031 h (fun v6 h => ?_)
    refine lv_aload_n X.1 X.2.1 dL_law_1032 rfl (lv_at hl 0 rfl) ?_
    refine lv_iload_n X.1 X.2.1 dL_law_1033 rfl (lv_at hl 3 rfl) ?_
    refine lv_iconst (v := 3) X.1 X.2.1 dL_law_1034 (by decide) ?_
    refine lv_iadd X.1 X.2.1 dL_law_1035 ?_
    refine r_sX X hV hS hb dL_law_1036 h (fun v7 h => ?_)
    refine r_ifeq (tgt := 1044) X.1 X.2.1 dL_law_1037 (by decide) h (fun h => ?_) (fun h => ?_)
    · refine lv_iconst (v := 0) X.1 X.2.1 dL_law_1044 (by decide) ?_
      obtain ⟨v8, s2, hc, h⟩ := b2_inv h
      refine r_ci (va_runV (C := RX10) (As := [.int v5, .int v6, .int 0]) (rest := [.int v4]) (cfX X) (c_X10_answer l hc) (cwV 3 X.2.2.2.2.1 (lw_V q1325 q1326 q1327 q59 q1328) rfl rfl rfl ⟨rfl, yd_X10_answer⟩ ⟨Nat.le_of_ble_eq_true rfl, Nat.le_of_ble_eq_true rfl⟩) (preV X hV (F_X10_answer_g hc) rfl) rfl rfl hl.1 rfl (lv_room (Nat.le_of_ble_eq_true rfl)) dL_law_1045 ⟨(by simp only [rm_L_law]; omega), (by simp only [rm_L_law]; omega)⟩) hF (fun H locs hV hF => ?_)
      refine r_eq (tgt := 1248) X.1 X.2.1 dL_law_1048 (by decide) h (fun h => ?_) (fun h => ?_)
      · refine lv_iinc (v := x3 + 5) (lv' := [(3, .int (x3 + 5)), (0, .ref b), (1, .ref x1), (2, .ref x2)]) X.1 X.2.1 dL_law_1248 hl (k := 3) rfl rfl (by decide) rfl (fun ls hl => ?_)
        refine lv_goto (tgt := 18) X.1 X.2.1 dL_law_1251 (by decide) ?_
        refine W.widen (k := 275 + 200 * (k + 1)) (n := 2578 + 1500 * (k + 1)) (by omega) (by omega) ?_
        exact hr18 (s2, x3 + 5) h _ _ _ hV hF (lv_sub hl [1, 2, 3, 0] rfl)
      · cases h
    · refine lv_iconst (v := 1) X.1 X.2.1 dL_law_1040 (by decide) ?_
      refine lv_goto (tgt := 1045) X.1 X.2.1 dL_law_1041 (by decide) ?_
      obtain ⟨v9, s3, hc, h⟩ := b2_inv h
      refine r_ci (va_runV (C := RX10) (As := [.int v5, .int v6, .int 1]) (rest := [.int v4]) (cfX X) (c_X10_answer l hc) (cwV 3 X.2.2.2.2.1 (lw_V q1325 q1326 q1327 q59 q1328) rfl rfl rfl ⟨rfl, yd_X10_answer⟩ ⟨Nat.le_of_ble_eq_true rfl, Nat.le_of_ble_eq_true rfl⟩) (preV X hV (F_X10_answer_g hc) rfl) rfl rfl hl.1 rfl (lv_room (Nat.le_of_ble_eq_true rfl)) dL_law_1045 ⟨(by simp only [rm_L_law]; omega), (by simp only [rm_L_law]; omega)⟩) hF (fun H locs hV hF => ?_)
      refine r_eq (tgt := 1248) X.1 X.2.1 dL_law_1048 (by decide) h (fun h => ?_) (fun h => ?_)
      · refine lv_iinc (v := x3 + 5) (lv' := [(3, .int (x3 + 5)), (0, .ref b), (1, .ref x1), (2, .ref x2)]) X.1 X.2.1 dL_law_1248 hl (k := 3) rfl rfl (by decide) rfl (fun ls hl => ?_)
        refine lv_goto (tgt := 18) X.1 X.2.1 dL_law_1251 (by decide) ?_
        refine W.widen (k := 275 + 200 * (k + 1)) (n := 2578 + 1500 * (k + 1)) (by omega) (by omega) ?_
        exact hr18 (s3, x3 + 5) h _ _ _ hV hF (lv_sub hl [1, 2, 3, 0] rfl)
      · cases h
  · refine lv_iconst (v := 1) X.1 X.2.1 dL_law_1013 (by decide) ?_
    refine lv_goto (tgt := 1018) X.1 X.2.1 dL_law_1014 (by decide) ?_
    obtain ⟨v10, s4, hc, h⟩ := b2_inv h
    refine r_ci (va_runV (C := RX0) (As := [.int v1, .int v2, .int 1]) (rest := []) (cfX X) (c_X0_answer l hc) (cwV 3 X.2.2.2.2.1 (lw_V q923 q924 q925 q49 q926) rfl rfl rfl ⟨rfl, yd_X0_answer⟩ ⟨Nat.le_of_ble_eq_true rfl, Nat.le_of_ble_eq_true rfl⟩) (preV X hV (F_X0_answer_g hc) rfl) rfl rfl hl.1 rfl (lv_room (Nat.le_of_ble_eq_true rfl)) dL_law_1018 ⟨(by simp only [rm_L_law]; omega), (by simp only [rm_L_law]; omega)⟩) hF (fun H locs hV hF => ?_)
    refine lv_aload_n X.1 X.2.1 dL_law_1021 rfl (lv_at hl 2 rfl) ?_
    refine lv_aload_n X.1 X.2.1 dL_law_1022 rfl (lv_at hl 0 rfl) ?_
    refine lv_iload_n X.1 X.2.1 dL_law_1023 rfl (lv_at hl 3 rfl) ?_
    refine lv_iconst (v := 1) X.1 X.2.1 dL_law_1024 (by decide) ?_
    refine lv_iadd X.1 X.2.1 dL_law_1025 ?_
    refine r_sX X hV hS hb dL_law_1026 h (fun v11 h => ?_)
    refine lv_aload_n X.1 X.2.1 dL_law_1027 rfl (lv_at hl 0 rfl) ?_
    refine lv_iload_n X.1 X.2.1 dL_law_1028 rfl (lv_at hl 3 rfl) ?_
    refine lv_iconst (v := 2) X.1 X.2.1 dL_law_1029 (by decide) ?_
    refine lv_iadd X.1 X.2.1 dL_law_1030 ?_
    refine r_sX X hV hS hb dL_law_1031 h (fun v12 h => ?_)
    refine lv_aload_n X.1 X.2.1 dL_law_1032 rfl (lv_at hl 0 rfl) ?_
    refine lv_iload_n X.1 X.2.1 dL_law_1033 rfl (lv_at hl 3 rfl) ?_
    refine lv_iconst (v := 3) X.1 X.2.1 dL_law_1034 (by decide) ?_
    refine lv_iadd X.1 X.2.1 dL_law_1035 ?_
    refine r_sX X hV hS hb dL_law_1036 h (fun v13 h => ?_)
    refine r_ifeq (tgt := 1044) X.1 X.2.1 dL_law_1037 (by decide) h (fun h => ?_) (fun h => ?_)
    · refine lv_iconst (v := 0) X.1 X.2.1 dL_law_1044 (by decide) ?_
      obtain ⟨v14, s5, hc, h⟩ := b2_inv h
      refine r_ci (va_runV (C := RX10) (As := [.int v11, .int v12, .int 0]) (rest := [.int v10]) (cfX X) (c_X10_answer l hc) (cwV 3 X.2.2.2.2.1 (lw_V q1325 q1326 q1327 q59 q1328) rfl rfl rfl ⟨rfl, yd_X10_answer⟩ ⟨Nat.le_of_ble_eq_true rfl, Nat.le_of_ble_eq_true rfl⟩) (preV X hV (F_X10_answer_g hc) rfl) rfl rfl hl.1 rfl (lv_room (Nat.le_of_ble_eq_true rfl)) dL_law_1045 ⟨(by simp only [rm_L_law]; omega), (by simp only [rm_L_law]; omega)⟩) hF (fun H locs hV hF => ?_)
      refine r_eq (tgt := 1248) X.1 X.2.1 dL_law_1048 (by decide) h (fun h => ?_) (fun h => ?_)
      · refine lv_iinc (v := x3 + 5) (lv' := [(3, .int (x3 + 5)), (0, .ref b), (1, .ref x1), (2, .ref x2)]) X.1 X.2.1 dL_law_1248 hl (k := 3) rfl rfl (by decide) rfl (fun ls hl => ?_)
        refine lv_goto (tgt := 18) X.1 X.2.1 dL_law_1251 (by decide) ?_
        refine W.widen (k := 275 + 200 * (k + 1)) (n := 2578 + 1500 * (k + 1)) (by omega) (by omega) ?_
        exact hr18 (s5, x3 + 5) h _ _ _ hV hF (lv_sub hl [1, 2, 3, 0] rfl)
      · cases h
    · refine lv_iconst (v := 1) X.1 X.2.1 dL_law_1040 (by decide) ?_
      refine lv_goto (tgt := 1045) X.1 X.2.1 dL_law_1041 (by decide) ?_
      obtain ⟨v15, s6, hc, h⟩ := b2_inv h
      refine r_ci (va_runV (C := RX10) (As := [.int v11, .int v12, .int 1]) (rest := [.int v10]) (cfX X) (c_X10_answer l hc) (cwV 3 X.2.2.2.2.1 (lw_V q1325 q1326 q1327 q59 q1328) rfl rfl rfl ⟨rfl, yd_X10_answer⟩ ⟨Nat.le_of_ble_eq_true rfl, Nat.le_of_ble_eq_true rfl⟩) (preV X hV (F_X10_answer_g hc) rfl) rfl rfl hl.1 rfl (lv_room (Nat.le_of_ble_eq_true rfl)) dL_law_1045 ⟨(by simp only [rm_L_law]; omega), (by simp only [rm_L_law]; omega)⟩) hF (fun H locs hV hF => ?_)
      refine r_eq (tgt := 1248) X.1 X.2.1 dL_law_1048 (by decide) h (fun h => ?_) (fun h => ?_)
      · refine lv_iinc (v := x3 + 5) (lv' := [(3, .int (x3 + 5)), (0, .ref b), (1, .ref x1), (2, .ref x2)]) X.1 X.2.1 dL_law_1248 hl (k := 3) rfl rfl (by decide) rfl (fun ls hl => ?_)
        refine lv_goto (tgt := 18) X.1 X.2.1 dL_law_1251 (by decide) ?_
        refine W.widen (k := 275 + 200 * (k + 1)) (n := 2578 + 1500 * (k + 1)) (by omega) (by omega) ?_
        exact hr18 (s6, x3 + 5) h _ _ _ hV hF (lv_sub hl [1, 2, 3, 0] rfl)
      · cases h
set_option maxHeartbeats 4000000 in
theorem w_L_law_1053 {p : Program} {l : Launch} {e : Env} {s : State} {m : MethodId} {below : List Frame} {meth : Method} {c : Code} {g : Gl} {b L : Nat} {xs : Nat → Int32} {k : Nat} (hk : k < 65) (X : FX g p m c s #[Value.ref b] meth cL_law 4 RL (some .boolean) meth.name) (hS : va_X b L xs s g.2.1) (hb : b < g.1) (hgs : s.heap.size ≤ g.1) {r : Unit} {rec18 : Hp × Int32 → Option (Unit)} {σ : Hp} {x1 : Nat} {x2 : Nat} {x3 : Int32} (hr18 : ∀ (st : Hp × Int32), rec18 st = some r → ∀ (H : Heap) (locs : List Loc) (ls : Array Slot), HV g st.1 H → FR g locs → lv_has ls 4 [(0, .ref b), (1, .ref x1), (2, .ref x2), (3, .int st.2)] → W p l e rm_L_law s m #[Value.ref b] below meth c H locs (275 + 200 * (k + 1)) (2578 + 1500 * (k + 1)) (lw_Z below #[Value.ref b] s) (F0 m 18 ls [])) {H : Heap} {locs : List Loc} {ls : Array Slot} (h : F_L_law_1053 L xs rec18 σ x1 x2 x3 = some r) (hV : HV g σ H) (hF : FR g locs) (hl : lv_has ls 4 [(0, .ref b), (1, .ref x1), (2, .ref x2), (3, .int x3)]) : W p l e rm_L_law s m #[Value.ref b] below meth c H locs (275 + 200 * k) (2578 + 1500 * k) (lw_Z below #[Value.ref b] s) (F0 m 1053 ls []) := by
  unfold F_L_law_1053 at h
  refine lv_aload_n X.1 X.2.1 dL_law_1053 rfl (lv_at hl 1 rfl) ?_
  refine lv_aload_n X.1 X.2.1 dL_law_1054 rfl (lv_at hl 0 rfl) ?_
  refine lv_iload_n X.1 X.2.1 dL_law_1055 rfl (lv_at hl 3 rfl) ?_
  refine lv_iconst (v := 1) X.1 X.2.1 dL_law_1056 (by decide) ?_
  refine lv_iadd X.1 X.2.1 dL_law_1057 ?_
  refine r_sX X hV hS hb dL_law_1058 h (fun v1 h => ?_)
  refine lv_aload_n X.1 X.2.1 dL_law_1059 rfl (lv_at hl 0 rfl) ?_
  refine lv_iload_n X.1 X.2.1 dL_law_1060 rfl (lv_at hl 3 rfl) ?_
  refine lv_iconst (v := 2) X.1 X.2.1 dL_law_1061 (by decide) ?_
  refine lv_iadd X.1 X.2.1 dL_law_1062 ?_
  refine r_sX X hV hS hb dL_law_1063 h (fun v2 h => ?_)
  obtain ⟨v3, s1, hc, h⟩ := b2_inv h
  refine r_ci (va_runV (C := RX0) (As := [.int v1, .int v2]) (rest := []) (cfX X) (c_X0_pupil l hc) (cwV 2 X.2.2.2.2.1 (lw_V q931 q932 q933 q49 q934) rfl rfl rfl ⟨rfl, yd_X0_pupil⟩ ⟨Nat.le_of_ble_eq_true rfl, Nat.le_of_ble_eq_true rfl⟩) (preV X hV (F_X0_pupil_g hc) rfl) rfl rfl hl.1 rfl (lv_room (Nat.le_of_ble_eq_true rfl)) dL_law_1064 ⟨(by simp only [rm_L_law]; omega), (by simp only [rm_L_law]; omega)⟩) hF (fun H locs hV hF => ?_)
  refine lv_aload_n X.1 X.2.1 dL_law_1067 rfl (lv_at hl 2 rfl) ?_
  refine lv_aload_n X.1 X.2.1 dL_law_1068 rfl (lv_at hl 0 rfl) ?_
  refine lv_iload_n X.1 X.2.1 dL_law_1069 rfl (lv_at hl 3 rfl) ?_
  refine lv_iconst (v := 1) X.1 X.2.1 dL_law_1070 (by decide) ?_
  refine lv_iadd X.1 X.2.1 dL_law_1071 ?_
  refine r_sX X hV hS hb dL_law_1072 h (fun v4 h => ?_)
  refine lv_aload_n X.1 X.2.1 dL_law_1073 rfl (lv_at hl 0 rfl) ?_
  refine lv_iload_n X.1 X.2.1 dL_law_1074 rfl (lv_at hl 3 rfl) ?_
  refine lv_iconst (v := 2) X.1 X.2.1 dL_law_1075 (by decide) ?_
  refine lv_iadd X.1 X.2.1 dL_law_1076 ?_
  refine r_sX X hV hS hb dL_law_1077 h (fun v5 h => ?_)
  obtain ⟨v6, s2, hc, h⟩ := b2_inv h
  refine r_ci (va_runV (C := RX10) (As := [.int v4, .int v5]) (rest := [.int v3]) (cfX X) (c_X10_pupil l hc) (cwV 2 X.2.2.2.2.1 (lw_V q1332 q1333 q1334 q59 q1335) rfl rfl rfl ⟨rfl, yd_X10_pupil⟩ ⟨Nat.le_of_ble_eq_true rfl, Nat.le_of_ble_eq_true rfl⟩) (preV X hV (F_X10_pupil_g hc) rfl) rfl rfl hl.1 rfl (lv_room (Nat.le_of_ble_eq_true rfl)) dL_law_1078 ⟨(by simp only [rm_L_law]; omega), (by simp only [rm_L_law]; omega)⟩) hF (fun H locs hV hF => ?_)
  refine r_eq (tgt := 1248) X.1 X.2.1 dL_law_1081 (by decide) h (fun h => ?_) (fun h => ?_)
  · refine lv_iinc (v := x3 + 5) (lv' := [(3, .int (x3 + 5)), (0, .ref b), (1, .ref x1), (2, .ref x2)]) X.1 X.2.1 dL_law_1248 hl (k := 3) rfl rfl (by decide) rfl (fun ls hl => ?_)
    refine lv_goto (tgt := 18) X.1 X.2.1 dL_law_1251 (by decide) ?_
    refine W.widen (k := 275 + 200 * (k + 1)) (n := 2578 + 1500 * (k + 1)) (by omega) (by omega) ?_
    exact hr18 (s2, x3 + 5) h _ _ _ hV hF (lv_sub hl [1, 2, 3, 0] rfl)
  · cases h
set_option maxHeartbeats 4000000 in
theorem w_L_law_1086 {p : Program} {l : Launch} {e : Env} {s : State} {m : MethodId} {below : List Frame} {meth : Method} {c : Code} {g : Gl} {b L : Nat} {xs : Nat → Int32} {k : Nat} (hk : k < 65) (X : FX g p m c s #[Value.ref b] meth cL_law 4 RL (some .boolean) meth.name) (hS : va_X b L xs s g.2.1) (hb : b < g.1) (hgs : s.heap.size ≤ g.1) {r : Unit} {rec18 : Hp × Int32 → Option (Unit)} {σ : Hp} {x1 : Nat} {x2 : Nat} {x3 : Int32} (hr18 : ∀ (st : Hp × Int32), rec18 st = some r → ∀ (H : Heap) (locs : List Loc) (ls : Array Slot), HV g st.1 H → FR g locs → lv_has ls 4 [(0, .ref b), (1, .ref x1), (2, .ref x2), (3, .int st.2)] → W p l e rm_L_law s m #[Value.ref b] below meth c H locs (275 + 200 * (k + 1)) (2578 + 1500 * (k + 1)) (lw_Z below #[Value.ref b] s) (F0 m 18 ls [])) {H : Heap} {locs : List Loc} {ls : Array Slot} (h : F_L_law_1086 L xs rec18 σ x1 x2 x3 = some r) (hV : HV g σ H) (hF : FR g locs) (hl : lv_has ls 4 [(0, .ref b), (1, .ref x1), (2, .ref x2), (3, .int x3)]) : W p l e rm_L_law s m #[Value.ref b] below meth c H locs (275 + 200 * k) (2578 + 1500 * k) (lw_Z below #[Value.ref b] s) (F0 m 1086 ls []) := by
  unfold F_L_law_1086 at h
  refine lv_aload_n X.1 X.2.1 dL_law_1086 rfl (lv_at hl 1 rfl) ?_
  refine lv_aload_n X.1 X.2.1 dL_law_1087 rfl (lv_at hl 0 rfl) ?_
  refine lv_iload_n X.1 X.2.1 dL_law_1088 rfl (lv_at hl 3 rfl) ?_
  refine lv_iconst (v := 1) X.1 X.2.1 dL_law_1089 (by decide) ?_
  refine lv_iadd X.1 X.2.1 dL_law_1090 ?_
  refine r_sX X hV hS hb dL_law_1091 h (fun v1 h => ?_)
  refine lv_aload_n X.1 X.2.1 dL_law_1092 rfl (lv_at hl 0 rfl) ?_
  refine lv_iload_n X.1 X.2.1 dL_law_1093 rfl (lv_at hl 3 rfl) ?_
  refine lv_iconst (v := 2) X.1 X.2.1 dL_law_1094 (by decide) ?_
  refine lv_iadd X.1 X.2.1 dL_law_1095 ?_
  refine r_sX X hV hS hb dL_law_1096 h (fun v2 h => ?_)
  refine lv_aload_n X.1 X.2.1 dL_law_1097 rfl (lv_at hl 0 rfl) ?_
  refine lv_iload_n X.1 X.2.1 dL_law_1098 rfl (lv_at hl 3 rfl) ?_
  refine lv_iconst (v := 3) X.1 X.2.1 dL_law_1099 (by decide) ?_
  refine lv_iadd X.1 X.2.1 dL_law_1100 ?_
  refine r_sX X hV hS hb dL_law_1101 h (fun v3 h => ?_)
  obtain ⟨v4, s1, hc, h⟩ := b2_inv h
  refine r_ci (va_runV (C := RX0) (As := [.int v1, .int v2, .int v3]) (rest := []) (cfX X) (c_X0_figures l hc) (cwV 3 X.2.2.2.2.1 (lw_V q845 q846 q847 q49 q848) rfl rfl rfl ⟨rfl, yd_X0_figures⟩ ⟨Nat.le_of_ble_eq_true rfl, Nat.le_of_ble_eq_true rfl⟩) (preV X hV (F_X0_figures_g hc) rfl) rfl rfl hl.1 rfl (lv_room (Nat.le_of_ble_eq_true rfl)) dL_law_1102 ⟨(by simp only [rm_L_law]; omega), (by simp only [rm_L_law]; omega)⟩) hF (fun H locs hV hF => ?_)
  refine lv_aload_n X.1 X.2.1 dL_law_1105 rfl (lv_at hl 2 rfl) ?_
  refine lv_aload_n X.1 X.2.1 dL_law_1106 rfl (lv_at hl 0 rfl) ?_
  refine lv_iload_n X.1 X.2.1 dL_law_1107 rfl (lv_at hl 3 rfl) ?_
  refine lv_iconst (v := 1) X.1 X.2.1 dL_law_1108 (by decide) ?_
  refine lv_iadd X.1 X.2.1 dL_law_1109 ?_
  refine r_sX X hV hS hb dL_law_1110 h (fun v5 h => ?_)
  refine lv_aload_n X.1 X.2.1 dL_law_1111 rfl (lv_at hl 0 rfl) ?_
  refine lv_iload_n X.1 X.2.1 dL_law_1112 rfl (lv_at hl 3 rfl) ?_
  refine lv_iconst (v := 2) X.1 X.2.1 dL_law_1113 (by decide) ?_
  refine lv_iadd X.1 X.2.1 dL_law_1114 ?_
  refine r_sX X hV hS hb dL_law_1115 h (fun v6 h => ?_)
  refine lv_aload_n X.1 X.2.1 dL_law_1116 rfl (lv_at hl 0 rfl) ?_
  refine lv_iload_n X.1 X.2.1 dL_law_1117 rfl (lv_at hl 3 rfl) ?_
  refine lv_iconst (v := 3) X.1 X.2.1 dL_law_1118 (by decide) ?_
  refine lv_iadd X.1 X.2.1 dL_law_1119 ?_
  refine r_sX X hV hS hb dL_law_1120 h (fun v7 h => ?_)
  obtain ⟨v8, s2, hc, h⟩ := b2_inv h
  refine r_ci (va_runV (C := RX10) (As := [.int v5, .int v6, .int v7]) (rest := [.int v4]) (cfX X) (c_X10_figures l hc) (cwV 3 X.2.2.2.2.1 (lw_V q1347 q1348 q1349 q59 q1350) rfl rfl rfl ⟨rfl, yd_X10_figures⟩ ⟨Nat.le_of_ble_eq_true rfl, Nat.le_of_ble_eq_true rfl⟩) (preV X hV (F_X10_figures_g hc) rfl) rfl rfl hl.1 rfl (lv_room (Nat.le_of_ble_eq_true rfl)) dL_law_1121 ⟨(by simp only [rm_L_law]; omega), (by simp only [rm_L_law]; omega)⟩) hF (fun H locs hV hF => ?_)
  refine r_eq (tgt := 1248) X.1 X.2.1 dL_law_1124 (by decide) h (fun h => ?_) (fun h => ?_)
  · refine lv_iinc (v := x3 + 5) (lv' := [(3, .int (x3 + 5)), (0, .ref b), (1, .ref x1), (2, .ref x2)]) X.1 X.2.1 dL_law_1248 hl (k := 3) rfl rfl (by decide) rfl (fun ls hl => ?_)
    refine lv_goto (tgt := 18) X.1 X.2.1 dL_law_1251 (by decide) ?_
    refine W.widen (k := 275 + 200 * (k + 1)) (n := 2578 + 1500 * (k + 1)) (by omega) (by omega) ?_
    exact hr18 (s2, x3 + 5) h _ _ _ hV hF (lv_sub hl [1, 2, 3, 0] rfl)
  · cases h
set_option maxHeartbeats 4000000 in
theorem w_L_law_1129 {p : Program} {l : Launch} {e : Env} {s : State} {m : MethodId} {below : List Frame} {meth : Method} {c : Code} {g : Gl} {b L : Nat} {xs : Nat → Int32} {k : Nat} (hk : k < 65) (X : FX g p m c s #[Value.ref b] meth cL_law 4 RL (some .boolean) meth.name) (hS : va_X b L xs s g.2.1) (hb : b < g.1) (hgs : s.heap.size ≤ g.1) {r : Unit} {rec18 : Hp × Int32 → Option (Unit)} {σ : Hp} {x1 : Nat} {x2 : Nat} {x3 : Int32} (hr18 : ∀ (st : Hp × Int32), rec18 st = some r → ∀ (H : Heap) (locs : List Loc) (ls : Array Slot), HV g st.1 H → FR g locs → lv_has ls 4 [(0, .ref b), (1, .ref x1), (2, .ref x2), (3, .int st.2)] → W p l e rm_L_law s m #[Value.ref b] below meth c H locs (275 + 200 * (k + 1)) (2578 + 1500 * (k + 1)) (lw_Z below #[Value.ref b] s) (F0 m 18 ls [])) {H : Heap} {locs : List Loc} {ls : Array Slot} (h : F_L_law_1129 L xs rec18 σ x1 x2 x3 = some r) (hV : HV g σ H) (hF : FR g locs) (hl : lv_has ls 4 [(0, .ref b), (1, .ref x1), (2, .ref x2), (3, .int x3)]) : W p l e rm_L_law s m #[Value.ref b] below meth c H locs (275 + 200 * k) (2578 + 1500 * k) (lw_Z below #[Value.ref b] s) (F0 m 1129 ls []) := by
  unfold F_L_law_1129 at h
  refine lv_aload_n X.1 X.2.1 dL_law_1129 rfl (lv_at hl 1 rfl) ?_
  refine lv_aload_n X.1 X.2.1 dL_law_1130 rfl (lv_at hl 0 rfl) ?_
  refine lv_iload_n X.1 X.2.1 dL_law_1131 rfl (lv_at hl 3 rfl) ?_
  refine lv_iconst (v := 1) X.1 X.2.1 dL_law_1132 (by decide) ?_
  refine lv_iadd X.1 X.2.1 dL_law_1133 ?_
  refine r_sX X hV hS hb dL_law_1134 h (fun v1 h => ?_)
  refine lv_i2l (v := (v1 : Int32).toInt64) X.1 X.2.1 dL_law_1135 rfl ?_
  refine lv_bipush (v := 32) X.1 X.2.1 dL_law_1136 (by decide) ?_
  refine lv_lshl (v := ((v1 : Int32).toInt64) <<< ((32 : Int32).toInt64 &&& 63)) X.1 X.2.1 dL_law_1138 rfl ?_
  refine lv_aload_n X.1 X.2.1 dL_law_1139 rfl (lv_at hl 0 rfl) ?_
  refine lv_iload_n X.1 X.2.1 dL_law_1140 rfl (lv_at hl 3 rfl) ?_
  refine lv_iconst (v := 2) X.1 X.2.1 dL_law_1141 (by decide) ?_
  refine lv_iadd X.1 X.2.1 dL_law_1142 ?_
  refine r_sX X hV hS hb dL_law_1143 h (fun v2 h => ?_)
  refine lv_i2l (v := (v2 : Int32).toInt64) X.1 X.2.1 dL_law_1144 rfl ?_
  refine lv_ldc2 (v := 4294967295) X.1 X.2.1 X.2.2.2.1 (X.2.2.2.2.1 _ q1363) dL_law_1145 ?_
  refine lv_land X.1 X.2.1 dL_law_1148 ?_
  refine lv_lor X.1 X.2.1 dL_law_1149 ?_
  refine lv_aload_n X.1 X.2.1 dL_law_1150 rfl (lv_at hl 0 rfl) ?_
  refine lv_iload_n X.1 X.2.1 dL_law_1151 rfl (lv_at hl 3 rfl) ?_
  refine lv_iconst (v := 3) X.1 X.2.1 dL_law_1152 (by decide) ?_
  refine lv_iadd X.1 X.2.1 dL_law_1153 ?_
  refine r_sX X hV hS hb dL_law_1154 h (fun v3 h => ?_)
  refine lv_aload_n X.1 X.2.1 dL_law_1155 rfl (lv_at hl 0 rfl) ?_
  refine lv_iload_n X.1 X.2.1 dL_law_1156 rfl (lv_at hl 3 rfl) ?_
  refine lv_iconst (v := 4) X.1 X.2.1 dL_law_1157 (by decide) ?_
  refine lv_iadd X.1 X.2.1 dL_law_1158 ?_
  refine r_sX X hV hS hb dL_law_1159 h (fun v4 h => ?_)
  obtain ⟨v5, s1, hc, h⟩ := b2_inv h
  refine r_ci (va_runV (C := RX0) (As := [.long ((((v1 : Int32).toInt64) <<< ((32 : Int32).toInt64 &&& 63)) ||| (((v2 : Int32).toInt64) &&& 4294967295)), .int v3, .int v4]) (rest := []) (cfX X) (c_X0_code l hc) (cwV 3 X.2.2.2.2.1 (lw_V q841 q842 q843 q49 q844) rfl rfl rfl ⟨rfl, yd_X0_code⟩ ⟨Nat.le_of_ble_eq_true rfl, Nat.le_of_ble_eq_true rfl⟩) (preV X hV (F_X0_code_g hc) rfl) rfl rfl hl.1 rfl (lv_room (Nat.le_of_ble_eq_true rfl)) dL_law_1160 ⟨(by simp only [rm_L_law]; omega), (by simp only [rm_L_law]; omega)⟩) hF (fun H locs hV hF => ?_)
  refine lv_aload_n X.1 X.2.1 dL_law_1163 rfl (lv_at hl 2 rfl) ?_
  refine lv_aload_n X.1 X.2.1 dL_law_1164 rfl (lv_at hl 0 rfl) ?_
  refine lv_iload_n X.1 X.2.1 dL_law_1165 rfl (lv_at hl 3 rfl) ?_
  refine lv_iconst (v := 1) X.1 X.2.1 dL_law_1166 (by decide) ?_
  refine lv_iadd X.1 X.2.1 dL_law_1167 ?_
  refine r_sX X hV hS hb dL_law_1168 h (fun v6 h => ?_)
  refine lv_i2l (v := (v6 : Int32).toInt64) X.1 X.2.1 dL_law_1169 rfl ?_
  refine lv_bipush (v := 32) X.1 X.2.1 dL_law_1170 (by decide) ?_
  refine lv_lshl (v := ((v6 : Int32).toInt64) <<< ((32 : Int32).toInt64 &&& 63)) X.1 X.2.1 dL_law_1172 rfl ?_
  refine lv_aload_n X.1 X.2.1 dL_law_1173 rfl (lv_at hl 0 rfl) ?_
  refine lv_iload_n X.1 X.2.1 dL_law_1174 rfl (lv_at hl 3 rfl) ?_
  refine lv_iconst (v := 2) X.1 X.2.1 dL_law_1175 (by decide) ?_
  refine lv_iadd X.1 X.2.1 dL_law_1176 ?_
  refine r_sX X hV hS hb dL_law_1177 h (fun v7 h => ?_)
  refine lv_i2l (v := (v7 : Int32).toInt64) X.1 X.2.1 dL_law_1178 rfl ?_
  refine lv_ldc2 (v := 4294967295) X.1 X.2.1 X.2.2.2.1 (X.2.2.2.2.1 _ q1363) dL_law_1179 ?_
  refine lv_land X.1 X.2.1 dL_law_1182 ?_
  refine lv_lor X.1 X.2.1 dL_law_1183 ?_
  refine lv_aload_n X.1 X.2.1 dL_law_1184 rfl (lv_at hl 0 rfl) ?_
  refine lv_iload_n X.1 X.2.1 dL_law_1185 rfl (lv_at hl 3 rfl) ?_
  refine lv_iconst (v := 3) X.1 X.2.1 dL_law_1186 (by decide) ?_
  refine lv_iadd X.1 X.2.1 dL_law_1187 ?_
  refine r_sX X hV hS hb dL_law_1188 h (fun v8 h => ?_)
  refine lv_aload_n X.1 X.2.1 dL_law_1189 rfl (lv_at hl 0 rfl) ?_
  refine lv_iload_n X.1 X.2.1 dL_law_1190 rfl (lv_at hl 3 rfl) ?_
  refine lv_iconst (v := 4) X.1 X.2.1 dL_law_1191 (by decide) ?_
  refine lv_iadd X.1 X.2.1 dL_law_1192 ?_
  refine r_sX X hV hS hb dL_law_1193 h (fun v9 h => ?_)
  obtain ⟨v10, s2, hc, h⟩ := b2_inv h
  refine r_ci (va_runV (C := RX10) (As := [.long ((((v6 : Int32).toInt64) <<< ((32 : Int32).toInt64 &&& 63)) ||| (((v7 : Int32).toInt64) &&& 4294967295)), .int v8, .int v9]) (rest := [.int v5]) (cfX X) (c_X10_code l hc) (cwV 3 X.2.2.2.2.1 (lw_V q1351 q1352 q1353 q59 q1354) rfl rfl rfl ⟨rfl, yd_X10_code⟩ ⟨Nat.le_of_ble_eq_true rfl, Nat.le_of_ble_eq_true rfl⟩) (preV X hV (F_X10_code_g hc) rfl) rfl rfl hl.1 rfl (lv_room (Nat.le_of_ble_eq_true rfl)) dL_law_1194 ⟨(by simp only [rm_L_law]; omega), (by simp only [rm_L_law]; omega)⟩) hF (fun H locs hV hF => ?_)
  refine r_eq (tgt := 1248) X.1 X.2.1 dL_law_1197 (by decide) h (fun h => ?_) (fun h => ?_)
  · refine lv_iinc (v := x3 + 5) (lv' := [(3, .int (x3 + 5)), (0, .ref b), (1, .ref x1), (2, .ref x2)]) X.1 X.2.1 dL_law_1248 hl (k := 3) rfl rfl (by decide) rfl (fun ls hl => ?_)
    refine lv_goto (tgt := 18) X.1 X.2.1 dL_law_1251 (by decide) ?_
    refine W.widen (k := 275 + 200 * (k + 1)) (n := 2578 + 1500 * (k + 1)) (by omega) (by omega) ?_
    exact hr18 (s2, x3 + 5) h _ _ _ hV hF (lv_sub hl [1, 2, 3, 0] rfl)
  · cases h
set_option maxHeartbeats 4000000 in
theorem w_L_law_1202 {p : Program} {l : Launch} {e : Env} {s : State} {m : MethodId} {below : List Frame} {meth : Method} {c : Code} {g : Gl} {b L : Nat} {xs : Nat → Int32} {k : Nat} (hk : k < 65) (X : FX g p m c s #[Value.ref b] meth cL_law 4 RL (some .boolean) meth.name) (hS : va_X b L xs s g.2.1) (hb : b < g.1) (hgs : s.heap.size ≤ g.1) {r : Unit} {rec18 : Hp × Int32 → Option (Unit)} {σ : Hp} {x1 : Nat} {x2 : Nat} {x3 : Int32} (hr18 : ∀ (st : Hp × Int32), rec18 st = some r → ∀ (H : Heap) (locs : List Loc) (ls : Array Slot), HV g st.1 H → FR g locs → lv_has ls 4 [(0, .ref b), (1, .ref x1), (2, .ref x2), (3, .int st.2)] → W p l e rm_L_law s m #[Value.ref b] below meth c H locs (275 + 200 * (k + 1)) (2578 + 1500 * (k + 1)) (lw_Z below #[Value.ref b] s) (F0 m 18 ls [])) {H : Heap} {locs : List Loc} {ls : Array Slot} (h : F_L_law_1202 L xs rec18 σ x1 x2 x3 = some r) (hV : HV g σ H) (hF : FR g locs) (hl : lv_has ls 4 [(0, .ref b), (1, .ref x1), (2, .ref x2), (3, .int x3)]) : W p l e rm_L_law s m #[Value.ref b] below meth c H locs (275 + 200 * k) (2578 + 1500 * k) (lw_Z below #[Value.ref b] s) (F0 m 1202 ls []) := by
  unfold F_L_law_1202 at h
  refine lv_aload_n X.1 X.2.1 dL_law_1202 rfl (lv_at hl 1 rfl) ?_
  refine lv_aload_n X.1 X.2.1 dL_law_1203 rfl (lv_at hl 0 rfl) ?_
  refine lv_iload_n X.1 X.2.1 dL_law_1204 rfl (lv_at hl 3 rfl) ?_
  refine lv_iconst (v := 1) X.1 X.2.1 dL_law_1205 (by decide) ?_
  refine lv_iadd X.1 X.2.1 dL_law_1206 ?_
  refine r_sX X hV hS hb dL_law_1207 h (fun v1 h => ?_)
  obtain ⟨v2, s1, hc, h⟩ := b2_inv h
  refine r_ci (va_runV (C := RX0) (As := [.int v1]) (rest := []) (cfX X) (c_X0_enough l hc) (cwV 1 X.2.2.2.2.1 (lw_V q963 q964 q965 q49 q966) rfl rfl rfl ⟨rfl, yd_X0_enough⟩ ⟨Nat.le_of_ble_eq_true rfl, Nat.le_of_ble_eq_true rfl⟩) (preV X hV (F_X0_enough_g hc) rfl) rfl rfl hl.1 rfl (lv_room (Nat.le_of_ble_eq_true rfl)) dL_law_1208 ⟨(by simp only [rm_L_law]; omega), (by simp only [rm_L_law]; omega)⟩) hF (fun H locs hV hF => ?_)
  refine lv_aload_n X.1 X.2.1 dL_law_1211 rfl (lv_at hl 2 rfl) ?_
  refine lv_aload_n X.1 X.2.1 dL_law_1212 rfl (lv_at hl 0 rfl) ?_
  refine lv_iload_n X.1 X.2.1 dL_law_1213 rfl (lv_at hl 3 rfl) ?_
  refine lv_iconst (v := 1) X.1 X.2.1 dL_law_1214 (by decide) ?_
  refine lv_iadd X.1 X.2.1 dL_law_1215 ?_
  refine r_sX X hV hS hb dL_law_1216 h (fun v3 h => ?_)
  obtain ⟨v4, s2, hc, h⟩ := b2_inv h
  refine r_ci (va_runV (C := RX10) (As := [.int v3]) (rest := [.int v2]) (cfX X) (c_X10_enough l hc) (cwV 1 X.2.2.2.2.1 (lw_V q1355 q1356 q1357 q59 q1358) rfl rfl rfl ⟨rfl, yd_X10_enough⟩ ⟨Nat.le_of_ble_eq_true rfl, Nat.le_of_ble_eq_true rfl⟩) (preV X hV (F_X10_enough_g hc) rfl) rfl rfl hl.1 rfl (lv_room (Nat.le_of_ble_eq_true rfl)) dL_law_1217 ⟨(by simp only [rm_L_law]; omega), (by simp only [rm_L_law]; omega)⟩) hF (fun H locs hV hF => ?_)
  refine r_eq (tgt := 1248) X.1 X.2.1 dL_law_1220 (by decide) h (fun h => ?_) (fun h => ?_)
  · refine lv_iinc (v := x3 + 5) (lv' := [(3, .int (x3 + 5)), (0, .ref b), (1, .ref x1), (2, .ref x2)]) X.1 X.2.1 dL_law_1248 hl (k := 3) rfl rfl (by decide) rfl (fun ls hl => ?_)
    refine lv_goto (tgt := 18) X.1 X.2.1 dL_law_1251 (by decide) ?_
    refine W.widen (k := 275 + 200 * (k + 1)) (n := 2578 + 1500 * (k + 1)) (by omega) (by omega) ?_
    exact hr18 (s2, x3 + 5) h _ _ _ hV hF (lv_sub hl [1, 2, 3, 0] rfl)
  · cases h
set_option maxHeartbeats 4000000 in
theorem w_L_law_1225 {p : Program} {l : Launch} {e : Env} {s : State} {m : MethodId} {below : List Frame} {meth : Method} {c : Code} {g : Gl} {b L : Nat} {xs : Nat → Int32} {k : Nat} (hk : k < 65) (X : FX g p m c s #[Value.ref b] meth cL_law 4 RL (some .boolean) meth.name) (hS : va_X b L xs s g.2.1) (hb : b < g.1) (hgs : s.heap.size ≤ g.1) {r : Unit} {rec18 : Hp × Int32 → Option (Unit)} {σ : Hp} {x1 : Nat} {x2 : Nat} {x3 : Int32} (hr18 : ∀ (st : Hp × Int32), rec18 st = some r → ∀ (H : Heap) (locs : List Loc) (ls : Array Slot), HV g st.1 H → FR g locs → lv_has ls 4 [(0, .ref b), (1, .ref x1), (2, .ref x2), (3, .int st.2)] → W p l e rm_L_law s m #[Value.ref b] below meth c H locs (275 + 200 * (k + 1)) (2578 + 1500 * (k + 1)) (lw_Z below #[Value.ref b] s) (F0 m 18 ls [])) {H : Heap} {locs : List Loc} {ls : Array Slot} (h : F_L_law_1225 L xs rec18 σ x1 x2 x3 = some r) (hV : HV g σ H) (hF : FR g locs) (hl : lv_has ls 4 [(0, .ref b), (1, .ref x1), (2, .ref x2), (3, .int x3)]) : W p l e rm_L_law s m #[Value.ref b] below meth c H locs (275 + 200 * k) (2578 + 1500 * k) (lw_Z below #[Value.ref b] s) (F0 m 1225 ls []) := by
  unfold F_L_law_1225 at h
  refine lv_aload_n X.1 X.2.1 dL_law_1225 rfl (lv_at hl 1 rfl) ?_
  refine lv_aload_n X.1 X.2.1 dL_law_1226 rfl (lv_at hl 0 rfl) ?_
  refine lv_iload_n X.1 X.2.1 dL_law_1227 rfl (lv_at hl 3 rfl) ?_
  refine lv_iconst (v := 1) X.1 X.2.1 dL_law_1228 (by decide) ?_
  refine lv_iadd X.1 X.2.1 dL_law_1229 ?_
  refine r_sX X hV hS hb dL_law_1230 h (fun v1 h => ?_)
  obtain ⟨v2, s1, hc, h⟩ := b2_inv h
  refine r_ci (va_runV (C := RX0) (As := [.int v1]) (rest := []) (cfX X) (c_X0_count l hc) (cwV 1 X.2.2.2.2.1 (lw_V q969 q970 q971 q49 q972) rfl rfl rfl ⟨rfl, yd_X0_count⟩ ⟨Nat.le_of_ble_eq_true rfl, Nat.le_of_ble_eq_true rfl⟩) (preV X hV (F_X0_count_g hc) rfl) rfl rfl hl.1 rfl (lv_room (Nat.le_of_ble_eq_true rfl)) dL_law_1231 ⟨(by simp only [rm_L_law]; omega), (by simp only [rm_L_law]; omega)⟩) hF (fun H locs hV hF => ?_)
  refine lv_aload_n X.1 X.2.1 dL_law_1234 rfl (lv_at hl 2 rfl) ?_
  refine lv_aload_n X.1 X.2.1 dL_law_1235 rfl (lv_at hl 0 rfl) ?_
  refine lv_iload_n X.1 X.2.1 dL_law_1236 rfl (lv_at hl 3 rfl) ?_
  refine lv_iconst (v := 1) X.1 X.2.1 dL_law_1237 (by decide) ?_
  refine lv_iadd X.1 X.2.1 dL_law_1238 ?_
  refine r_sX X hV hS hb dL_law_1239 h (fun v3 h => ?_)
  obtain ⟨v4, s2, hc, h⟩ := b2_inv h
  refine r_ci (va_runV (C := RX10) (As := [.int v3]) (rest := [.int v2]) (cfX X) (c_X10_count l hc) (cwV 1 X.2.2.2.2.1 (lw_V q1359 q1360 q1361 q59 q1362) rfl rfl rfl ⟨rfl, yd_X10_count⟩ ⟨Nat.le_of_ble_eq_true rfl, Nat.le_of_ble_eq_true rfl⟩) (preV X hV (F_X10_count_g hc) rfl) rfl rfl hl.1 rfl (lv_room (Nat.le_of_ble_eq_true rfl)) dL_law_1240 ⟨(by simp only [rm_L_law]; omega), (by simp only [rm_L_law]; omega)⟩) hF (fun H locs hV hF => ?_)
  refine r_eq (tgt := 1248) X.1 X.2.1 dL_law_1243 (by decide) h (fun h => ?_) (fun h => ?_)
  · refine lv_iinc (v := x3 + 5) (lv' := [(3, .int (x3 + 5)), (0, .ref b), (1, .ref x1), (2, .ref x2)]) X.1 X.2.1 dL_law_1248 hl (k := 3) rfl rfl (by decide) rfl (fun ls hl => ?_)
    refine lv_goto (tgt := 18) X.1 X.2.1 dL_law_1251 (by decide) ?_
    refine W.widen (k := 275 + 200 * (k + 1)) (n := 2578 + 1500 * (k + 1)) (by omega) (by omega) ?_
    exact hr18 (s2, x3 + 5) h _ _ _ hV hF (lv_sub hl [1, 2, 3, 0] rfl)
  · cases h
set_option maxHeartbeats 4000000 in
theorem w_L_law_18_b {p : Program} {l : Launch} {e : Env} {s : State} {m : MethodId} {below : List Frame} {meth : Method} {c : Code} {g : Gl} {b L : Nat} {xs : Nat → Int32} {k : Nat} (hk : k < 65) (X : FX g p m c s #[Value.ref b] meth cL_law 4 RL (some .boolean) meth.name) (hS : va_X b L xs s g.2.1) (hb : b < g.1) (hgs : s.heap.size ≤ g.1) {r : Unit} {rec18 : Hp × Int32 → Option (Unit)} {x1 : Nat} {x2 : Nat} {σ : Hp} {x3 : Int32} (hr18 : ∀ (st : Hp × Int32), rec18 st = some r → ∀ (H : Heap) (locs : List Loc) (ls : Array Slot), HV g st.1 H → FR g locs → lv_has ls 4 [(0, .ref b), (1, .ref x1), (2, .ref x2), (3, .int st.2)] → W p l e rm_L_law s m #[Value.ref b] below meth c H locs (275 + 200 * (k + 1)) (2578 + 1500 * (k + 1)) (lw_Z below #[Value.ref b] s) (F0 m 18 ls [])) {H : Heap} {locs : List Loc} {ls : Array Slot} (h : B_L_law_18 L xs x1 x2 rec18 σ x3 = some r) (hV : HV g σ H) (hF : FR g locs) (hl : lv_has ls 4 [(0, .ref b), (1, .ref x1), (2, .ref x2), (3, .int x3)]) : W p l e rm_L_law s m #[Value.ref b] below meth c H locs (275 + 200 * k) (2578 + 1500 * k) (lw_Z below #[Value.ref b] s) (F0 m 18 ls []) := by
  unfold B_L_law_18 at h
  refine lv_iload_n X.1 X.2.1 dL_law_18 rfl (lv_at hl 3 rfl) ?_
  refine lv_aload_n X.1 X.2.1 dL_law_19 rfl (lv_at hl 0 rfl) ?_
  refine r_sXl X hV hS hb dL_law_20 ?_
  refine lv_iconst (v := 5) X.1 X.2.1 dL_law_21 (by decide) ?_
  refine lv_isub X.1 X.2.1 dL_law_22 ?_
  refine r_gt (tgt := 1254) X.1 X.2.1 dL_law_23 (by decide) h (fun h => ?_) (fun h => ?_)
  · refine lv_iconst (v := 1) X.1 X.2.1 dL_law_1254 (by decide) ?_
    refine W.widen (k := 723776) (n := 6924776) (by omega) (by omega) ?_
    refine va_forget (fun q hq => Nat.le_trans hgs (hF q hq)) ?_
    exact lw_ret X.1 X.2.1 X.2.2.2.2.2.2.1 X.2.2.2.2.2.2.2.1 dL_law_1255
  · refine lv_aload_n X.1 X.2.1 dL_law_26 rfl (lv_at hl 0 rfl) ?_
    refine lv_iload_n X.1 X.2.1 dL_law_27 rfl (lv_at hl 3 rfl) ?_
    refine r_sX X hV hS hb dL_law_28 h (fun v1 h => ?_)
    refine lv_bipush (v := 31) X.1 X.2.1 dL_law_29 (by decide) ?_
    refine lv_iand X.1 X.2.1 dL_law_31 ?_
    refine r_case (tgt := 176) (off := 144) 0 X.1 X.2.1 dL_law_32 (by decide) (by decide) rfl (by decide) h (fun h => ?_) (fun n0 h => ?_)
    · exact w_L_law_176 hk X hS hb hgs hr18 h hV hF (lv_sub hl [0, 1, 2, 3] rfl)
    refine r_case (tgt := 209) (off := 177) 1 X.1 X.2.1 dL_law_32 (by decide) (by decide) rfl (by decide) h (fun h => ?_) (fun n1 h => ?_)
    · exact w_L_law_209 hk X hS hb hgs hr18 h hV hF (lv_sub hl [0, 1, 2, 3] rfl)
    refine r_case (tgt := 242) (off := 210) 2 X.1 X.2.1 dL_law_32 (by decide) (by decide) rfl (by decide) h (fun h => ?_) (fun n2 h => ?_)
    · exact w_L_law_242 hk X hS hb hgs hr18 h hV hF (lv_sub hl [0, 1, 2, 3] rfl)
    refine r_case (tgt := 275) (off := 243) 3 X.1 X.2.1 dL_law_32 (by decide) (by decide) rfl (by decide) h (fun h => ?_) (fun n3 h => ?_)
    · exact w_L_law_275 hk X hS hb hgs hr18 h hV hF (lv_sub hl [0, 1, 2, 3] rfl)
    refine r_case (tgt := 308) (off := 276) 4 X.1 X.2.1 dL_law_32 (by decide) (by decide) rfl (by decide) h (fun h => ?_) (fun n4 h => ?_)
    · exact w_L_law_308 hk X hS hb hgs hr18 h hV hF (lv_sub hl [0, 1, 2, 3] rfl)
    refine r_case (tgt := 341) (off := 309) 5 X.1 X.2.1 dL_law_32 (by decide) (by decide) rfl (by decide) h (fun h => ?_) (fun n5 h => ?_)
    · exact w_L_law_341 hk X hS hb hgs hr18 h hV hF (lv_sub hl [0, 1, 2, 3] rfl)
    refine r_case (tgt := 374) (off := 342) 6 X.1 X.2.1 dL_law_32 (by decide) (by decide) rfl (by decide) h (fun h => ?_) (fun n6 h => ?_)
    · exact w_L_law_374 hk X hS hb hgs hr18 h hV hF (lv_sub hl [0, 1, 2, 3] rfl)
    refine r_case (tgt := 407) (off := 375) 7 X.1 X.2.1 dL_law_32 (by decide) (by decide) rfl (by decide) h (fun h => ?_) (fun n7 h => ?_)
    · exact w_L_law_407 hk X hS hb hgs hr18 h hV hF (lv_sub hl [0, 1, 2, 3] rfl)
    refine r_case (tgt := 430) (off := 398) 8 X.1 X.2.1 dL_law_32 (by decide) (by decide) rfl (by decide) h (fun h => ?_) (fun n8 h => ?_)
    · exact w_L_law_430 hk X hS hb hgs hr18 h hV hF (lv_sub hl [0, 1, 2, 3] rfl)
    refine r_case (tgt := 463) (off := 431) 9 X.1 X.2.1 dL_law_32 (by decide) (by decide) rfl (by decide) h (fun h => ?_) (fun n9 h => ?_)
    · exact w_L_law_463 hk X hS hb hgs hr18 h hV hF (lv_sub hl [0, 1, 2, 3] rfl)
    refine r_case (tgt := 486) (off := 454) 10 X.1 X.2.1 dL_law_32 (by decide) (by decide) rfl (by decide) h (fun h => ?_) (fun n10 h => ?_)
    · exact w_L_law_486 hk X hS hb hgs hr18 h hV hF (lv_sub hl [0, 1, 2, 3] rfl)
    refine r_case (tgt := 509) (off := 477) 11 X.1 X.2.1 dL_law_32 (by decide) (by decide) rfl (by decide) h (fun h => ?_) (fun n11 h => ?_)
    · exact w_L_law_509 hk X hS hb hgs hr18 h hV hF (lv_sub hl [0, 1, 2, 3] rfl)
    refine r_case (tgt := 532) (off := 500) 12 X.1 X.2.1 dL_law_32 (by decide) (by decide) rfl (by decide) h (fun h => ?_) (fun n12 h => ?_)
    · exact w_L_law_532 hk X hS hb hgs hr18 h hV hF (lv_sub hl [0, 1, 2, 3] rfl)
    refine r_case (tgt := 595) (off := 563) 13 X.1 X.2.1 dL_law_32 (by decide) (by decide) rfl (by decide) h (fun h => ?_) (fun n13 h => ?_)
    · exact w_L_law_595 hk X hS hb hgs hr18 h hV hF (lv_sub hl [0, 1, 2, 3] rfl)
    refine r_case (tgt := 608) (off := 576) 14 X.1 X.2.1 dL_law_32 (by decide) (by decide) rfl (by decide) h (fun h => ?_) (fun n14 h => ?_)
    · exact w_L_law_608 hk X hS hb hgs hr18 h hV hF (lv_sub hl [0, 1, 2, 3] rfl)
    refine r_case (tgt := 621) (off := 589) 15 X.1 X.2.1 dL_law_32 (by decide) (by decide) rfl (by decide) h (fun h => ?_) (fun n15 h => ?_)
    · exact w_L_law_621 hk X hS hb hgs hr18 h hV hF (lv_sub hl [0, 1, 2, 3] rfl)
    refine r_case (tgt := 634) (off := 602) 16 X.1 X.2.1 dL_law_32 (by decide) (by decide) rfl (by decide) h (fun h => ?_) (fun n16 h => ?_)
    · exact w_L_law_634 hk X hS hb hgs hr18 h hV hF (lv_sub hl [0, 1, 2, 3] rfl)
    refine r_case (tgt := 667) (off := 635) 17 X.1 X.2.1 dL_law_32 (by decide) (by decide) rfl (by decide) h (fun h => ?_) (fun n17 h => ?_)
    · exact w_L_law_667 hk X hS hb hgs hr18 h hV hF (lv_sub hl [0, 1, 2, 3] rfl)
    refine r_case (tgt := 680) (off := 648) 18 X.1 X.2.1 dL_law_32 (by decide) (by decide) rfl (by decide) h (fun h => ?_) (fun n18 h => ?_)
    · exact w_L_law_680 hk X hS hb hgs hr18 h hV hF (lv_sub hl [0, 1, 2, 3] rfl)
    refine r_case (tgt := 753) (off := 721) 19 X.1 X.2.1 dL_law_32 (by decide) (by decide) rfl (by decide) h (fun h => ?_) (fun n19 h => ?_)
    · exact w_L_law_753 hk X hS hb hgs hr18 h hV hF (lv_sub hl [0, 1, 2, 3] rfl)
    refine r_case (tgt := 776) (off := 744) 20 X.1 X.2.1 dL_law_32 (by decide) (by decide) rfl (by decide) h (fun h => ?_) (fun n20 h => ?_)
    · exact w_L_law_776 hk X hS hb hgs hr18 h hV hF (lv_sub hl [0, 1, 2, 3] rfl)
    refine r_case (tgt := 819) (off := 787) 21 X.1 X.2.1 dL_law_32 (by decide) (by decide) rfl (by decide) h (fun h => ?_) (fun n21 h => ?_)
    · exact w_L_law_819 hk X hS hb hgs hr18 h hV hF (lv_sub hl [0, 1, 2, 3] rfl)
    refine r_case (tgt := 862) (off := 830) 22 X.1 X.2.1 dL_law_32 (by decide) (by decide) rfl (by decide) h (fun h => ?_) (fun n22 h => ?_)
    · exact w_L_law_862 hk X hS hb hgs hr18 h hV hF (lv_sub hl [0, 1, 2, 3] rfl)
    refine r_case (tgt := 895) (off := 863) 23 X.1 X.2.1 dL_law_32 (by decide) (by decide) rfl (by decide) h (fun h => ?_) (fun n23 h => ?_)
    · exact w_L_law_895 hk X hS hb hgs hr18 h hV hF (lv_sub hl [0, 1, 2, 3] rfl)
    refine r_case (tgt := 928) (off := 896) 24 X.1 X.2.1 dL_law_32 (by decide) (by decide) rfl (by decide) h (fun h => ?_) (fun n24 h => ?_)
    · exact w_L_law_928 hk X hS hb hgs hr18 h hV hF (lv_sub hl [0, 1, 2, 3] rfl)
    refine r_case (tgt := 961) (off := 929) 25 X.1 X.2.1 dL_law_32 (by decide) (by decide) rfl (by decide) h (fun h => ?_) (fun n25 h => ?_)
    · exact w_L_law_961 hk X hS hb hgs hr18 h hV hF (lv_sub hl [0, 1, 2, 3] rfl)
    refine r_case (tgt := 994) (off := 962) 26 X.1 X.2.1 dL_law_32 (by decide) (by decide) rfl (by decide) h (fun h => ?_) (fun n26 h => ?_)
    · exact w_L_law_994 hk X hS hb hgs hr18 h hV hF (lv_sub hl [0, 1, 2, 3] rfl)
    refine r_case (tgt := 1053) (off := 1021) 27 X.1 X.2.1 dL_law_32 (by decide) (by decide) rfl (by decide) h (fun h => ?_) (fun n27 h => ?_)
    · exact w_L_law_1053 hk X hS hb hgs hr18 h hV hF (lv_sub hl [0, 1, 2, 3] rfl)
    refine r_case (tgt := 1086) (off := 1054) 28 X.1 X.2.1 dL_law_32 (by decide) (by decide) rfl (by decide) h (fun h => ?_) (fun n28 h => ?_)
    · exact w_L_law_1086 hk X hS hb hgs hr18 h hV hF (lv_sub hl [0, 1, 2, 3] rfl)
    refine r_case (tgt := 1129) (off := 1097) 29 X.1 X.2.1 dL_law_32 (by decide) (by decide) rfl (by decide) h (fun h => ?_) (fun n29 h => ?_)
    · exact w_L_law_1129 hk X hS hb hgs hr18 h hV hF (lv_sub hl [0, 1, 2, 3] rfl)
    refine r_case (tgt := 1202) (off := 1170) 30 X.1 X.2.1 dL_law_32 (by decide) (by decide) rfl (by decide) h (fun h => ?_) (fun n30 h => ?_)
    · exact w_L_law_1202 hk X hS hb hgs hr18 h hV hF (lv_sub hl [0, 1, 2, 3] rfl)
    refine r_case (tgt := 1225) (off := 1193) 31 X.1 X.2.1 dL_law_32 (by decide) (by decide) rfl (by decide) h (fun h => ?_) (fun n31 h => ?_)
    · exact w_L_law_1225 hk X hS hb hgs hr18 h hV hF (lv_sub hl [0, 1, 2, 3] rfl)
    refine lv_tableOut (tgt := 1248) X.1 X.2.1 dL_law_32 (tsw_out (n := 32) (by decide) (fun i hi => by
      match i, hi with
      | 0, _ => exact n0
      | 1, _ => exact n1
      | 2, _ => exact n2
      | 3, _ => exact n3
      | 4, _ => exact n4
      | 5, _ => exact n5
      | 6, _ => exact n6
      | 7, _ => exact n7
      | 8, _ => exact n8
      | 9, _ => exact n9
      | 10, _ => exact n10
      | 11, _ => exact n11
      | 12, _ => exact n12
      | 13, _ => exact n13
      | 14, _ => exact n14
      | 15, _ => exact n15
      | 16, _ => exact n16
      | 17, _ => exact n17
      | 18, _ => exact n18
      | 19, _ => exact n19
      | 20, _ => exact n20
      | 21, _ => exact n21
      | 22, _ => exact n22
      | 23, _ => exact n23
      | 24, _ => exact n24
      | 25, _ => exact n25
      | 26, _ => exact n26
      | 27, _ => exact n27
      | 28, _ => exact n28
      | 29, _ => exact n29
      | 30, _ => exact n30
      | 31, _ => exact n31
      | k + 32, hk => exact absurd hk (by omega))) (by decide) ?_
    refine lv_iinc (v := x3 + 5) (lv' := [(3, .int (x3 + 5)), (0, .ref b), (1, .ref x1), (2, .ref x2)]) X.1 X.2.1 dL_law_1248 hl (k := 3) rfl rfl (by decide) rfl (fun ls hl => ?_)
    refine lv_goto (tgt := 18) X.1 X.2.1 dL_law_1251 (by decide) ?_
    refine W.widen (k := 275 + 200 * (k + 1)) (n := 2578 + 1500 * (k + 1)) (by omega) (by omega) ?_
    exact hr18 (σ, x3 + 5) h _ _ _ hV hF (lv_sub hl [1, 2, 3, 0] rfl)
set_option maxHeartbeats 4000000 in
theorem w_L_law_18 {p : Program} {l : Launch} {e : Env} {s : State} {m : MethodId} {below : List Frame} {meth : Method} {c : Code} {g : Gl} {b L : Nat} {xs : Nat → Int32} (X : FX g p m c s #[Value.ref b] meth cL_law 4 RL (some .boolean) meth.name) (hS : va_X b L xs s g.2.1) (hb : b < g.1) (hgs : s.heap.size ≤ g.1) {r : Unit} {x1 : Nat} {x2 : Nat}  : ∀ (n : Nat) (st : Hp × Int32), L_L_law_18 L xs x1 x2 n st = some r → n ≤ 65 → ∀ (H : Heap) (locs : List Loc) (ls : Array Slot), HV g st.1 H → FR g locs → lv_has ls 4 [(0, .ref b), (1, .ref x1), (2, .ref x2), (3, .int st.2)] → W p l e rm_L_law s m #[Value.ref b] below meth c H locs (275 + 200 * (65 - n)) (2578 + 1500 * (65 - n)) (lw_Z below #[Value.ref b] s) (F0 m 18 ls []) := by
  intro n
  induction n with
  | zero =>
    intro st h
    rw [L_L_law_18_0] at h
    cases h
  | succ n ih =>
    intro st h hn H locs ls hV hF hl
    rw [L_L_law_18_s] at h
    have e1 : 65 - (n + 1) + 1 = 65 - n := by omega
    refine w_L_law_18_b (k := 65 - (n + 1)) (by omega) X hS hb hgs ?_ h hV hF hl
    rw [e1]
    exact fun st h => ih st h (by omega)
set_option maxHeartbeats 4000000 in
theorem law_start {p : Program} {l : Launch} {e : Env} {s : State} {m : MethodId} {below : List Frame} {meth : Method} {c : Code} {g : Gl} {b L : Nat} {xs : Nat → Int32} (X : FX g p m c s #[Value.ref b] meth cL_law 4 RL (some .boolean) meth.name) (hS : va_X b L xs s g.2.1) (hb : b < g.1) (hgs : s.heap.size ≤ g.1) {σ : Hp} {ls : Array Slot} {r : Unit} (h : F_L_law L xs σ = some r) (hV : HV g σ s.heap) (hl : lv_has ls 4 [(0, .ref b)]) : W p l e rm_L_law s m #[Value.ref b] below meth c s.heap [] 0 0 (lw_Z below #[Value.ref b] s) (F0 m 0 ls []) := by
  have hF : FR g [] := FR_nil
  unfold F_L_law at h
  refine r_new X hV nw_L_7 (Nat.le_of_ble_eq_true rfl) (Nat.le_of_ble_eq_true rfl) dL_law_0 (fun H hV => ?_)
  refine lv_dup X.1 X.2.1 dL_law_3 rfl ?_
  obtain ⟨s1, hc, h⟩ := b1_inv h
  refine r_cv (va_runI (As := []) (rest := [.ref (hZ σ)]) (cfX X) (c_X0_init l hc) (cwI 0 X.2.2.2.2.1 (lw_meth q81) rfl rfl rfl (X.2.2.2.2.1 _ q49) (X.2.2.2.2.1 _ q79) (X.2.2.2.2.1 _ q80) rfl yd_X0_init ⟨Nat.le_of_ble_eq_true rfl, Nat.le_of_ble_eq_true rfl⟩) (preS X hV) rfl rfl hl.1 rfl (lv_room (Nat.le_of_ble_eq_true rfl)) dL_law_4 ⟨(Nat.le_of_ble_eq_true rfl), (Nat.le_of_ble_eq_true rfl)⟩) hF (fun H locs hV hF => ?_)
  refine lv_astore_n (lv' := [(1, .ref (hZ σ)), (0, .ref b)]) X.1 X.2.1 dL_law_7 rfl hl (by decide) rfl (fun ls hl => ?_)
  refine r_new X hV nw_L_10 (Nat.le_of_ble_eq_true rfl) (Nat.le_of_ble_eq_true rfl) dL_law_8 (fun H hV => ?_)
  refine lv_dup X.1 X.2.1 dL_law_11 rfl ?_
  obtain ⟨s2, hc, h⟩ := b1_inv h
  refine r_cv (va_runI (As := []) (rest := [.ref (hZ s1)]) (cfX X) (c_X10_init l hc) (cwI 0 X.2.2.2.2.1 (lw_meth q977) rfl rfl rfl (X.2.2.2.2.1 _ q59) (X.2.2.2.2.1 _ q975) (X.2.2.2.2.1 _ q976) rfl yd_X10_init ⟨Nat.le_of_ble_eq_true rfl, Nat.le_of_ble_eq_true rfl⟩) (preS X hV) rfl rfl hl.1 rfl (lv_room (Nat.le_of_ble_eq_true rfl)) dL_law_12 ⟨(Nat.le_of_ble_eq_true rfl), (Nat.le_of_ble_eq_true rfl)⟩) hF (fun H locs hV hF => ?_)
  refine lv_astore_n (lv' := [(2, .ref (hZ s1)), (1, .ref (hZ σ)), (0, .ref b)]) X.1 X.2.1 dL_law_15 rfl hl (by decide) rfl (fun ls hl => ?_)
  refine lv_iconst (v := 0) X.1 X.2.1 dL_law_16 (by decide) ?_
  refine lv_istore_n (lv' := [(3, .int 0), (2, .ref (hZ s1)), (1, .ref (hZ σ)), (0, .ref b)]) X.1 X.2.1 dL_law_17 rfl hl (by decide) rfl (fun ls hl => ?_)
  exact w_L_law_18 X hS hb hgs  65 (s2, 0) h (Nat.le_refl _) _ _ _ hV hF (lv_sub hl [3, 2, 1, 0] rfl)
