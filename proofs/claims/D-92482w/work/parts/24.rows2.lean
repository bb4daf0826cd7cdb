set_option maxRecDepth 100000
/-! more rows: statics, String constants, fields that aren't followed, arraycopy -/
theorem HV.old {g : Gl} {σ : Hp} {H : Heap} (h : HV g σ H) : ∀ a : Nat, a < g.2.1.size → ¬ frN g a → H[a]? = g.2.1[a]? := fun a _ hn => h.2.1 a (Nat.not_le.mp hn)
section RS
variable {p : Program} {l : Launch} {e : Env} {R : Room} {s : State} {m : MethodId} {args : Array Value} {below : List Frame} {meth : Method} {c : Code} {H : Heap} {locs : List Loc} {cells slots : Nat} {Q : State → Prop}
variable {cc : ByteArray} {pc nL : Nat} {ls : Array Slot} {rest : List Value} {g : Gl} {σ : Hp} {own nm : String} {rt : Option FieldType} {ρ : Type} {r : ρ} {a : Nat}
theorem r_gs (X : FX g p m c s args meth cc nL own rt nm) (hV : HV g σ H) {C n d : String} {v : Value} {index : Nat} (hZ : va_Z C n d v (frN g) s g.2.1) (hlink : Cond.fieldLink own index C n d ∈ lw_all) (hdg : decode cc pc = .ok (.getstatic index, 3))
    (kk : W p l e R s m args below meth c H locs cells slots Q (F0 m (pc + 3) ls (v :: rest))) : W p l e R s m args below meth c H locs cells slots Q (F0 m pc ls rest) := by
  obtain ⟨cf, kf, fi, f, b, cell, h1, h2, h3, h4, h5, h6, h7, h8⟩ := hZ.kept hV.old
  exact W.gets X.1 X.2.1 X.2.2.2.1 (X.2.2.2.2.1 _ hlink) h1 h2 h3 h4 h5 (fun e => by rw [e] at h6; cases h6) h7 rfl hdg kk
theorem r_gsU (X : FX g p m c s args meth cc nL own rt nm) (hV : HV g σ H) {C n d : String} {index : Nat} (hZ : va_Zq C n d (frN g) s g.2.1) (hlink : Cond.fieldLink own index C n d ∈ lw_all) (hdg : decode cc pc = .ok (.getstatic index, 3))
    (kk : ∀ o : Option Nat, W p l e R s m args below meth c H locs cells slots Q (F0 m (pc + 3) ls (va_rf o :: rest))) : W p l e R s m args below meth c H locs cells slots Q (F0 m pc ls rest) := by
  rcases hZ with h | ⟨t, h⟩
  · exact r_gs X hV h hlink hdg (kk none)
  · exact r_gs X hV h hlink hdg (kk (some t))
theorem r_sV (X : FX g p m c s args meth cc nL own rt nm) (hV : HV g σ H) {i index : Nat} (hlink : Cond.fieldLink own index "java/lang/String" "value" "[B" ∈ lw_all) (hdg : decode cc pc = .ok (.getfield index, 3)) {K : Option ρ} (h : sK i K = some r)
    (kk : K = some r → W p l e R s m args below meth c H locs cells slots Q (F0 m (pc + 3) ls (.ref (g.2.2.2.2.2 i) :: rest))) : W p l e R s m args below meth c H locs cells slots Q (F0 m pc ls (.ref (g.2.2.2.2.1 i) :: rest)) := by
  obtain ⟨hi, h⟩ := sK_inv h
  obtain ⟨cf, k, fi, f, cell, h1, h2, h3, h4, h5, h6⟩ := ((X.2.2.2.2.2.1.2.2.2.2.2.2.2.1.1.1 i hi).2.2.1).kept hV.old
  exact W.getf X.1 X.2.1 X.2.2.2.1 (X.2.2.2.2.1 _ hlink) h1 h2 h3 h4 h5 rfl rfl hdg (kk h)
theorem r_sC (X : FX g p m c s args meth cc nL own rt nm) (hV : HV g σ H) {i index : Nat} (hlink : Cond.fieldLink own index "java/lang/String" "coder" "B" ∈ lw_all) (hdg : decode cc pc = .ok (.getfield index, 3)) {K : Option ρ} (h : sK i K = some r)
    (kk : K = some r → W p l e R s m args below meth c H locs cells slots Q (F0 m (pc + 3) ls (.int 0 :: rest))) : W p l e R s m args below meth c H locs cells slots Q (F0 m pc ls (.ref (g.2.2.2.2.1 i) :: rest)) := by
  obtain ⟨hi, h⟩ := sK_inv h
  obtain ⟨cf, k, fi, f, cell, h1, h2, h3, h4, h5, h6⟩ := ((X.2.2.2.2.2.1.2.2.2.2.2.2.2.1.1.1 i hi).2.1).kept hV.old
  exact W.getf X.1 X.2.1 X.2.2.2.1 (X.2.2.2.2.1 _ hlink) h1 h2 h3 h4 h5 rfl rfl hdg (kk h)
theorem r_sL (X : FX g p m c s args meth cc nL own rt nm) (hV : HV g σ H) {i : Nat} (hdg : decode cc pc = .ok (.arraylength, 1)) {K : Int32 → Option ρ} (h : sLn i K = some r)
    (kk : ∀ v, K v = some r → W p l e R s m args below meth c H locs cells slots Q (F0 m (pc + 1) ls (.int v :: rest))) : W p l e R s m args below meth c H locs cells slots Q (F0 m pc ls (.ref (g.2.2.2.2.2 i) :: rest)) := by
  obtain ⟨hi, h⟩ := sK_inv h
  obtain ⟨cell, h1, h2, h3, h4, h5, h6, h7⟩ := ((X.2.2.2.2.2.1.2.2.2.2.2.2.2.1.1.1 i hi).2.2.2).kept hV.old
  exact W.alen X.1 X.2.1 h1 h2 h5 rfl rfl hdg (kk _ h)
theorem r_sB (X : FX g p m c s args meth cc nL own rt nm) (hV : HV g σ H) {i : Nat} {j : Int32} (hdg : decode cc pc = .ok (.baload, 1)) {K : Int32 → Option ρ} (h : sB i j K = some r)
    (kk : ∀ v, K v = some r → W p l e R s m args below meth c H locs cells slots Q (F0 m (pc + 1) ls (.int v :: rest))) : W p l e R s m args below meth c H locs cells slots Q (F0 m pc ls (.int j :: .ref (g.2.2.2.2.2 i) :: rest)) := by
  unfold sB at h
  split at h
  · cases h
  · rename_i hin
    obtain ⟨hi, h⟩ := sK_inv h
    obtain ⟨cell, h1, h2, h3, h4, h5, h6, h7⟩ := ((X.2.2.2.2.2.1.2.2.2.2.2.2.2.1.1.1 i hi).2.2.2).kept hV.old
    have hj : ¬ j < 0 := fun q => hin (Or.inl q)
    have hlt : j.toNatClampNeg < slen.getD i 0 := Nat.not_le.mp fun q => hin (Or.inr q)
    exact W.bald X.1 X.2.1 h1 h2 h3 (fun q => by rcases q with q | q; exact hj q; omega) (h6 _ hlt) rfl rfl hdg (kk _ h)
theorem preStr (X : FX g p m c s args meth cc nL own rt nm) (hV : HV g σ H) {i : Nat} (hi : i < 7) {As : List Value} : PreV s H "java/lang/String" (g.2.2.2.2.1 i) (va_Pc (.ref (g.2.2.2.2.1 i) :: As) (WV g σ)) As := by
  refine ⟨WV_blind, ?_, fun U hU hW => ⟨rfl, X.2.2.2.2.2.1.warm hW, by rw [hU]; exact hV⟩⟩
  obtain ⟨cell, h1, h2, h3, -⟩ := ((X.2.2.2.2.2.1.2.2.2.2.2.2.2.1.1.1 i hi).1).kept hV.old
  exact ⟨cell, h1, h2, h3⟩
/-- a store into a field that isn't followed -/
def FDk (own : String) (index ci k : Nat) : Prop := ∃ (C : String) (T : u_T) (N : Nat) (ref : String) (ty : Nat → FieldType), clF ci = some (C, T, N) ∧ k < N ∧ dcF ci k ∧ (∀ w ∈ u_ws C T N, w ∈ lw_all) ∧
  (∀ k, k < N → parseFieldDescriptor (T k).2.2.1 = some (ty k)) ∧ (∀ a, a < N → ∀ b, b < N → a ≠ b → (T a).2.1 ≠ (T b).2.1) ∧ (T k).2.2.2 = false ∧ (∀ o, narrow (ty k) (va_rf o) = va_rf o ∧ fits (ty k) (va_rf o) = true) ∧
  Cond.fieldLink own index ref (T k).2.1 (T k).2.2.1 ∈ lw_all ∧ (ref = (T k).1 ∨ Cond.sameField ref (T k).1 (T k).2.1 (T k).2.2.1 ∈ lw_all)
theorem r_pd (X : FX g p m c s args meth cc nL own rt nm) (hV : HV g σ H) (hF : FR g locs) {index ci k : Nat} (f : FDk own index ci k) (o : Option Nat) (hdg : decode cc pc = .ok (.putfield index, 3)) {K : Option ρ} (h : gd ci a σ K = some r)
    (kk : ∀ H1 locs1, HV g σ H1 → FR g locs1 → K = some r → W p l e R s m args below meth c H1 locs1 cells slots Q (F0 m (pc + 3) ls rest)) : W p l e R s m args below meth c H locs cells slots Q (F0 m pc ls (va_rf o :: .ref a :: rest)) := by
  obtain ⟨ht, h⟩ := gd_inv h
  obtain ⟨C, T, N, ref, ty0, hc, hk, hdc, hin, hty0, hnm, hfi, hval, hlink, hsame⟩ := f
  obtain ⟨hx, hb, -, hown, hts, hK, -, -, hname⟩ := X
  have hN := (hV.2.2.2 a _ ht).1
  obtain ⟨q, V, hq, hVk, cell, q1, q2, q3, q4⟩ := (hV.2.2.2 a _ ht).2
  cases hc.symm.trans hq
  obtain ⟨hS, hfc, kC, hkC, hkind⟩ := hK.1 ci _ hc
  have hap : ∀ x y, x < N → y < N → x ≠ y → (g.2.2.1.2 ci) x ≠ (g.2.2.1.2 ci) y := by
    intro x y hx hy hne
    obtain ⟨_, _, _, fa, hia, ea⟩ := hS x hx
    obtain ⟨_, _, _, fb, hib, eb⟩ := hS y hy
    rw [← ea, ← eb]
    refine u_apart (u_lays hts hin hx) (u_lays hts hin hy) hia hib ?_
    rw [(State.fieldFound?_type hia (hty0 x hx)).1, (State.fieldFound?_type hib (hty0 y hy)).1]
    exact hnm x hx y hy hne
  obtain ⟨cf, kf, fi, f, hi, hsl⟩ := hS k hk
  have hsm : s.fieldFound? ref (T k).2.1 (T k).2.2.1 = some (cf, kf, fi, f) := by
    rcases hsame with e | h
    · rw [e]; exact hi
    · exact u_same (hts _ h) _ hi
  have hst := (u_facts hfc hkC (u_lays hts hin hk) hi).1
  have hlay := hts _ (hin _ (u_in_lay hk))
  unfold u_lay at hlay
  rw [if_neg (by rw [hfi]; decide)] at hlay
  have h6 := u_store hfc hkC hkind hlay hi (hty0 k hk) (hval o).1 (hval o).2
  refine W.putK hx hb (f := f) ⟨hown, hts _ hlink, ⟨_, _, _, hsm⟩, hst⟩ (by rw [q2]; exact h6) q1 q3 (by rw [hsl]; exact k2_hasslot (q4 k hk)) rfl rfl hdg ?_
  intro H' w1 w2 w3
  rw [hsl] at w1
  refine kk H' _ (hV.upd ht (fun _ => rfl) rfl (fun b j _ => ⟨rfl, rfl, rfl⟩) w2 w3 ⟨_, updV V k (va_rf o), hc, fun j hj hdj => ?_, ⟨_, w1, q2, q3, t_set q4 hap hk _⟩⟩) (FR_put hF hN) h
  have hjk : j ≠ k := fun e => hdj (e ▸ hdc)
  have e6 : updV V k (va_rf o) j = V j := by simp [updV, hjk]
  rw [e6]
  exact hVk j hj hdj
/-- System.arraycopy between int arrays -/
theorem r_cpy (X : FX g p m c s args meth cc nL own rt nm) (hV : HV g σ H) (hF : FR g locs) (hsz : ls.size = nL) {index : Nat} (hlink : Cond.methodLink own index arraycopyName ∈ lw_all) (hnat : Cond.native arraycopyName ∈ lw_all) (hstat : Cond.static arraycopyName ∈ lw_all) (hini : Cond.initialized "java/lang/System" ∈ lw_all)
    (hframes : 1 ≤ R.frames) (hlocals : (rest.map fun v => v.category).sum + (nativeFrameWords "java/lang/System" "arraycopy" 5 + 11) ≤ R.locals) (hdg : decode cc pc = .ok (.invokestatic index, 3)) {a0 : Nat} {sp dp n : Int32} {K : Hp → Option ρ} (h : b1 (cpI a0 sp a dp n σ) K = some r)
    (kk : ∀ σ1 H1 locs1, HV g σ1 H1 → FR g locs1 → K σ1 = some r → W p l e R s m args below meth c H1 locs1 cells slots Q (F0 m (pc + 3) ls rest)) : W p l e R s m args below meth c H locs cells slots Q (F0 m pc ls (.int n :: .int dp :: .ref a :: .int sp :: .ref a0 :: rest)) := by
  obtain ⟨σ1, h1, hK1⟩ := b1_inv h
  obtain ⟨n0, n1, ht0, ht1, hb1, hb2, hb3, hb4, hb5, rfl⟩ := cpI_inv h1
  obtain ⟨hx, hb, hml, hown, hts, hK, -, -, -⟩ := X
  have nn : ∀ z : Int32, ¬ z < 0 → z.toInt = (z.toNatClampNeg : Int) := by
    intro z hz
    have h2 := Int32.le_iff_toInt_le.mp (Int32.not_lt.mp hz)
    have h3 : (0 : Int) ≤ z.toInt := by simpa using h2
    show z.toInt = ((z.toInt.toNat : Nat) : Int)
    omega
  have hc0 := r_arr hV ht0
  have hc1 := r_arr hV ht1
  have hA := (hK.2.1 0 (by decide)).1
  obtain ⟨-, k0, hk0, cm0, hkk0⟩ := hA n0 (aV σ 0 a0)
  obtain ⟨-, k1, hk1, cm1, hkk1⟩ := hA n1 (aV σ 0 a)
  intro T hT X
  obtain ⟨vm', X', step⟩ := X.arraycopy hx hown (hts _ hlink) (hts _ hnat) (hts _ hstat) (hts _ hini) (src := a0) (dst := a) (cs := arrV (g.2.2.2.1 0) n0 (aV σ 0 a0)) (cd := arrV (g.2.2.2.1 0) n1 (aV σ 0 a)) (srcPos := sp) (destPos := dp) (n := n) (by rw [hT]; exact hc0) (by rw [hT]; exact hc1)
    (fun _ h => by cases h) (fun _ h => by cases h) (fun h => by cases h) (fun h => by cases h) hk0 hk1 hkk0 hkk1 (by decide) hb1 hb2 hb3
    (by rw [nn sp hb1, nn n hb3, arrV_size]; omega) (by rw [nn dp hb2, nn n hb3, arrV_size]; omega)
    (fun vm₁ _ i hi => by
      have e : (arrV (g.2.2.2.1 0) n0 (aV σ 0 a0)).slots.getD (sp.toNatClampNeg + i) .null = .int (hI σ a0 (sp.toNatClampNeg + i)) := by
        rw [Array.getD_eq_getD_getElem?, arrV_read _ _ (by omega)]
        rfl
      exact ⟨by rw [e]; rfl, by rw [e]; exact trivial⟩)
    (g := F0 m pc ls (.int n :: .int dp :: .ref a :: .int sp :: .ref a0 :: rest)) rfl (hsz.trans hml.symm) (rest := rest) rfl (by rw [hb]; exact hdg) hframes (by show 2 * 0 + _ + _ ≤ _; omega)
  have e0 : aV σ 0 a0 = fun j => Value.int (hI σ a0 j) := rfl
  have e1 : aV σ 0 a = fun j => Value.int (hI σ a j) := rfl
  have e2 : copied (arrV (g.2.2.2.1 0) n0 (aV σ 0 a0)) (arrV (g.2.2.2.1 0) n1 (aV σ 0 a)) sp dp n = arrV (g.2.2.2.1 0) n1 (fun j => Value.int (va_cpy (hI σ a0) (hI σ a) sp.toNatClampNeg dp.toNatClampNeg n.toNatClampNeg j)) := by
    rw [e0, e1]
    exact va_copied (fun z => .int z) _ _ _ _ hb4
  rw [e2] at X' step
  have hl : a < H.size := hV.lt ht1
  have hN := (hV.2.2.2 a _ ht1).1
  have hup : HV g (cpH a0 sp.toNatClampNeg a dp.toNatClampNeg n.toNatClampNeg σ) (H.setIfInBounds a (arrV (g.2.2.2.1 0) n1 (fun j => Value.int (va_cpy (hI σ a0) (hI σ a) sp.toNatClampNeg dp.toNatClampNeg n.toNatClampNeg j)))) := by
    refine hV.upd ht1 (fun _ => rfl) rfl (fun b j hb => ⟨?_, rfl, rfl⟩) (by simp) (fun q hq => by simp [Array.getElem?_setIfInBounds, Ne.symm hq]) ?_
    · rw [hI_cpH, if_neg (fun q => hb q.1)]
    · show (H.setIfInBounds a _)[a]? = some (arrV _ n1 (aV _ 0 a))
      rw [Array.getElem?_setIfInBounds]
      simp only [if_true, hl]
      congr 2
      funext j
      show _ = Value.int (hI (cpH a0 sp.toNatClampNeg a dp.toNatClampNeg n.toNatClampNeg σ) a j)
      rw [hI_cpH]
      unfold va_cpy
      by_cases q : dp.toNatClampNeg ≤ j ∧ j < dp.toNatClampNeg + n.toNatClampNeg
      · rw [if_pos q, if_pos ⟨rfl, q⟩]
      · rw [if_neg q, if_neg (fun z => q z.2)]
  have hheap : ((T.setVm vm').setCell a (arrV (g.2.2.2.1 0) n1 (fun j => Value.int (va_cpy (hI σ a0) (hI σ a) sp.toNatClampNeg dp.toNatClampNeg n.toNatClampNeg j)))).heap = H.setIfInBounds a (arrV (g.2.2.2.1 0) n1 (fun j => Value.int (va_cpy (hI σ a0) (hI σ a) sp.toNatClampNeg dp.toNatClampNeg n.toNatClampNeg j))) := by rw [← hT]; rfl
  obtain ⟨t, a1, b1⟩ := kk _ _ _ hup (FR_app hF (fun q hq => by
    obtain ⟨z, -, hz⟩ := List.mem_map.mp hq
    rw [← hz]
    exact hN)) hK1 _ hheap X'
  exact ⟨t, step t a1, b1⟩
theorem r_cret (X : FX g p m c s args meth cc nL own (some .char) nm) (hV : HV g σ H) (hF : FR g locs) {v : Int32} {x : Int32 × Hp} (h : cr v (some (v, σ)) = some x) (hdg : decode cc pc = .ok (.ireturn, 1)) : W p l e R s m args below meth c H locs cells slots (MQ below (Qi g x) args s cells slots (frN g)) (F0 m pc ls [.int v]) := by
  obtain ⟨hv, h⟩ := cr_inv h
  cases h
  exact W.zret X.1 X.2.1 X.2.2.2.2.2.2.1 (by rw [← hv]; exact pk_nc v) (fun t ht hW => ⟨rfl, X.2.2.2.2.2.1.warm hW, by rw [ht]; exact hV⟩) hF hdg X.2.2.2.2.2.2.2.1
theorem r_bret (X : FX g p m c s args meth cc nL own (some .byte) nm) (hV : HV g σ H) (hF : FR g locs) {v : Int32} {x : Int32 × Hp} (h : some (v, σ) = some x) (hn : narrow .byte (.int v) = .int v) (hdg : decode cc pc = .ok (.ireturn, 1)) : W p l e R s m args below meth c H locs cells slots (MQ below (Qi g x) args s cells slots (frN g)) (F0 m pc ls [.int v]) := by
  cases h
  exact W.zret X.1 X.2.1 X.2.2.2.2.2.2.1 hn (fun t ht hW => ⟨rfl, X.2.2.2.2.2.1.warm hW, by rw [ht]; exact hV⟩) hF hdg X.2.2.2.2.2.2.2.1
end RS
/-- a private method runs itself, whatever the receiver's class is -/
theorem sel_priv {y : MethodName} {C : String} {s : State} {args : Array Value} {n : Nat} (hy : y.cls ≠ "java/lang/invoke/MethodHandle" ∧ y.cls ≠ "java/lang/invoke/VarHandle")
    (hins : (Cond.instantiable C n).before args s = true) (hpriv : (Cond.privateMethod y).before args s = true) (hinst : (Cond.instanceMethod y).before args s = true) (hni : ∀ k m, s.methodNamed? y = some m → s.vm.classes[m.cls]? = some k → k.isInterface = false) :
    (Cond.selects C y y).before args s = true := by
  obtain ⟨c, k, hc, hk, -, -, -, -⟩ := Cond.instantiable_spec hins
  obtain ⟨mk, methM, hnamed, hmethM, -, -⟩ := Cond.instanceMethod_spec hinst
  have hfound : s.methodFound? y.cls y.name y.desc = some mk := State.methodFound?_of_named hnamed hy
  have hsel : selectMethod {} s.vm c mk = .method mk := selectMethod_private hmethM (Cond.privateMethod_at hpriv mk methM hnamed hmethM)
  obtain ⟨kP, hkP, -⟩ := className_of_methodNamed hnamed
  have := hni kP mk hnamed hkP
  simp only [Cond.before, Cond.holds, Cond.value, hc, hfound, hnamed, hsel, hkP]
  simp [this]
