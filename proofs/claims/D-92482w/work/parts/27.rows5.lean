set_option maxRecDepth 100000
/-! an array of arrays -/
section RM
variable {p : Program} {l : Launch} {e : Env} {R : Room} {s : State} {m : MethodId} {args : Array Value} {below : List Frame} {meth : Method} {c : Code} {H : Heap} {locs : List Loc} {cells slots : Nat} {Q : State → Prop}
variable {cc : ByteArray} {pc nL : Nat} {ls : Array Slot} {rest : List Value} {g : Gl} {σ : Hp} {own nm : String} {rt : Option FieldType}
theorem arr_new {E : CtlPost} {d : Bool} {acts : List Action} {U : State} {cA comp : ClassId} {k : Class} {ty : FieldType} {len : Nat} {v : Value} (hk : U.vm.classes[cA]? = some k) (hkind : k.kind = .array comp ty) (h1 : ¬ len > e.platform.arrayLengthLimit) (h2 : ¬ len * componentBytes ty > e.platform.maxHeapBytes) (hfit : fits ty v = true) (hdef : v.isDefault = true)
    (h3 : U.heap.size < e.platform.maxCells) (h4 : U.slotsUsed + len ≤ e.platform.maxSlots) {K : Addr → Pre} (hq : K U.heap.size d acts (U.pushCell { cls := cA, slots := Array.replicate len v, vm := .none })) : wp (Jvm.newArray cA len v) K E e d acts U := by
  have ha : allocActs (Array.replicate len v) U.heap.size acts = acts := by
    have : ((Array.replicate len v).all (·.isDefault)) = true := by
      rw [Array.all_replicate]
      split <;> simp [hdef]
    unfold allocActs
    rw [if_pos this]
  have hf : ∀ i z, (Array.replicate len v)[i]? = some z → U.fitsSlot cA .none i z = true := by
    intro i z hz
    rw [Array.getElem?_replicate] at hz
    split at hz
    · cases hz
      simp [State.fitsSlot, State.slotType?, hk, hkind, hfit]
    · cases hz
  simp only [Jvm.newArray, Jvm.arrayFits, wp_bind', W.ask, W.ite, h1, if_false, wp_pure', W.theClass, hk, hkind, h2, W.alloc, W.stop, Option.some.injEq, exists_eq_left', Array.size_replicate, ha]
  rw [if_neg (by omega)]
  exact ⟨h3, h4, hf, hq⟩
theorem mkR_Z (ti M Z : Nat) : ∀ (i : Nat) (σ : Hp), hZ (mkR ti M Z i σ) = hZ σ + i
  | 0, _ => rfl
  | i + 1, σ => by
    show hZ (mkR ti M Z i σ) + 1 = _
    rw [mkR_Z ti M Z i σ]
    omega
theorem mkR_T (ti M Z : Nat) : ∀ (i : Nat) (σ : Hp) (a : Nat), a < hZ σ → hT (mkR ti M Z i σ) a = hT σ a
  | 0, _, _, _ => rfl
  | i + 1, σ, a, h => by
    show (if a = hZ (mkR ti M Z i σ) then _ else hT (mkR ti M Z i σ) a) = _
    rw [mkR_Z, if_neg (by omega), mkR_T ti M Z i σ a h]
/-- the rows of a grid, laid one behind another into the outer array at Z -/
def ocell (U : State) (Z : Nat) : Cell := match U.heap[Z]? with
  | some x => x
  | none => { cls := 0, slots := #[], vm := .none }
def grF (cI : ClassId) (M Z : Nat) : Nat → State → State
  | 0, U => U
  | i + 1, U => ((grF cI M Z i U).pushCell { cls := cI, slots := Array.replicate M (.int 0), vm := .none }).setCell Z ((ocell (grF cI M Z i U) Z).setSlot i (.ref (grF cI M Z i U).heap.size))
theorem grF_setTop (cI : ClassId) (M Z : Nat) (U : State) (f : JFrame) : ∀ i, grF cI M Z i (U.setTop f) = (grF cI M Z i U).setTop f
  | 0 => rfl
  | i + 1 => by
    have h := grF_setTop cI M Z U f i
    have h2 : ocell ((grF cI M Z i U).setTop f) Z = ocell (grF cI M Z i U) Z := by
      unfold ocell
      rw [State.heap_setTop]
    show (((grF cI M Z i (U.setTop f)).pushCell _).setCell Z _) = _
    rw [h, h2, State.heap_setTop, State.pushCell_setTop, State.setCell_setTop]
    rfl
theorem grF_ok {U : State} {cI : ClassId} {to ti N M Z : Nat} {σ0 : Hp} {co so : Nat} {lo : List Loc} (hcI : cI = g.2.2.2.1 ti) (ht3 : ¬ to < 3) (hti : ti < 3) (hZt : hT σ0 Z = some (.inr (to, N))) (hZl : Z < hZ σ0) (S : Stand p l e R s m args below meth c U lo co so) (hV : HV g σ0 U.heap) (hF : FR g lo) :
    ∀ i, i ≤ N → (∃ lo', Stand p l e R s m args below meth c (grF cI M Z i U) lo' (co + i) (so + i * M) ∧ FR g lo') ∧ HV g (mkR ti M Z i σ0) (grF cI M Z i U).heap ∧ (grF cI M Z i U).vm = U.vm ∧ (grF cI M Z i U).slotsUsed = U.slotsUsed + i * M
  | 0, _ => ⟨⟨lo, by simpa [grF] using S, hF⟩, hV, rfl, by simp [grF]⟩
  | i + 1, hi => by
    obtain ⟨⟨lo', Si, hFi⟩, hVi, hvi, hui⟩ := grF_ok hcI ht3 hti hZt hZl S hV hF i (by omega)
    have hT1 : hT (mkR ti M Z i σ0) Z = some (.inr (to, N)) := by rw [mkR_T _ _ _ _ _ _ hZl]; exact hZt
    have hc1 := r_arr hVi hT1
    have hlt := hVi.lt hT1
    have hoc : ocell (grF cI M Z i U) Z = arrV (g.2.2.2.1 to) N (aV (mkR ti M Z i σ0) to Z) := by
      unfold ocell
      rw [hc1]
    have hV1 : HV g (born (mkR ti M Z i σ0) (.inr (ti, M))) ((grF cI M Z i U).pushCell { cls := cI, slots := Array.replicate M (.int 0), vm := .none }).heap := by
      show HV g _ ((grF cI M Z i U).heap.push _)
      refine hVi.born (by simp) (fun q hq => by rw [Array.getElem?_push, if_neg (Nat.ne_of_lt hq)]) ?_
      show ((grF cI M Z i U).heap.push _)[(grF cI M Z i U).heap.size]? = some (arrV _ _ (aV (born (mkR ti M Z i σ0) (.inr (ti, M))) ti (grF cI M Z i U).heap.size))
      have e : aV (born (mkR ti M Z i σ0) (.inr (ti, M))) ti (grF cI M Z i U).heap.size = fun _ => .int 0 := by
        funext j
        rw [← hVi.2.2.1, aV_born, if_pos hti]
      rw [e, ← arrV_new, hcI]
      simp
    have hT2 : hT (born (mkR ti M Z i σ0) (.inr (ti, M))) Z = some (.inr (to, N)) := by
      rw [hT_born, if_neg (by rw [mkR_Z]; omega)]
      exact hT1
    have hc2 := r_arr hV1 hT2
    have e3 : aV (born (mkR ti M Z i σ0) (.inr (ti, M))) to Z = aV (mkR ti M Z i σ0) to Z := by
      funext j
      unfold aV
      rw [if_neg ht3, if_neg ht3, hR_born, if_neg (by rw [mkR_Z]; omega)]
    have S2 := (Si.pushed { cls := cI, slots := Array.replicate M (.int 0), vm := .none }).stored hc2 i (.ref (grF cI M Z i U).heap.size)
    have hlt2 := hV1.lt hT2
    refine ⟨⟨lo' ++ [⟨Z, i⟩], ?_, FR_put hFi (hVi.2.2.2 Z _ hT1).1⟩, ?_, ?_, ?_⟩
    · have q1 : so + (i + 1) * M = so + i * M + M := by rw [Nat.succ_mul]; omega
      rw [q1]
      have q2 : (Array.replicate M (Value.int 0)).size = M := by simp
      have S3 : Stand p l e R s m args below meth c (((grF cI M Z i U).pushCell { cls := cI, slots := Array.replicate M (.int 0), vm := .none }).setCell Z ((arrV (g.2.2.2.1 to) N (aV (mkR ti M Z i σ0) to Z)).setSlot i (.ref (grF cI M Z i U).heap.size))) (lo' ++ [⟨Z, i⟩]) (co + i + 1) (so + i * M + M) := by
        rw [e3] at S2
        simpa [q2] using S2
      rw [← hoc] at S3
      exact S3
    · show HV g (setR (born (mkR ti M Z i σ0) (.inr (ti, M))) Z i (some (hZ (mkR ti M Z i σ0)))) (((grF cI M Z i U).heap.push _).setIfInBounds Z _)
      rw [hoc, hVi.2.2.1]
      refine r_stR hV1 ht3 hT2 ?_ ?_ ?_
      · show (((grF cI M Z i U).heap.push _).setIfInBounds Z _)[Z]? = _
        rw [Array.getElem?_setIfInBounds, e3]
        have : Z < ((grF cI M Z i U).heap.push { cls := cI, slots := Array.replicate M (.int 0), vm := .none }).size := hlt2
        simp
        exact Nat.lt_succ_of_lt hlt
      · show (((grF cI M Z i U).heap.push _).setIfInBounds Z _).size = ((grF cI M Z i U).heap.push _).size
        simp
      · intro q hq
        show (((grF cI M Z i U).heap.push _).setIfInBounds Z _)[q]? = ((grF cI M Z i U).heap.push _)[q]?
        simp [Array.getElem?_setIfInBounds, Ne.symm hq]
    · exact hvi
    · show (grF cI M Z i U).slotsUsed + (Array.replicate M (Value.int 0)).size = _
      rw [hui, Nat.succ_mul]
      simp
      omega
theorem r_multi (X : FX g p m c s args meth cc nL own rt nm) (hV : HV g σ H) (hF : FR g locs) {index to ti N M : Nat} (ht3 : ¬ to < 3) (ht8 : to < 8) (hti : ti < 3) (hty : tyA to = .array (tyA ti)) (hclink : Cond.classLink own index ("[" ++ (tyA to).toString) ∈ lw_all) (hao : tyA to ∈ aoT)
    (hci : ∃ kC cm, s.vm.classes[g.2.2.2.1 ti]? = some kC ∧ kC.kind = .array cm (tyA ti)) (hco : s.vm.findClass (tyA to).toString = some (g.2.2.2.1 ti)) (hdv : defaultValue (tyA ti) = .int 0) (hfit : fits (tyA ti) (.int 0) = true) {n k : Int32} (hn0 : ¬ n < 0) (hk0 : ¬ k < 0) (hn : n.toNatClampNeg = N) (hk : k.toNatClampNeg = M) (hb1 : N * 4 ≤ 536870912) (hb2 : M * componentBytes (tyA ti) ≤ 536870912) (hb3 : M ≤ 536870912) (hcells : cells + (1 + N) ≤ R.cells) (hslots : slots + (N + N * M) ≤ R.slots) (hdg : decode cc pc = .ok (.multianewarray index 2, 4))
    (kk : ∀ H1 locs1, HV g (mk2 to ti N M σ) H1 → FR g locs1 → W p l e R s m args below meth c H1 locs1 (cells + (1 + N)) (slots + (N + N * M)) Q (F0 m (pc + 4) ls (.ref (hZ σ) :: rest))) : W p l e R s m args below meth c H locs cells slots Q (F0 m pc ls (.int k :: .int n :: rest)) := by
  intro T hTH S
  obtain ⟨hx, hb, hml, hown, hts, hK, -, -, -⟩ := X
  have hpl : e.platform.magicAccessors = ({} : Platform).magicAccessors := by rw [S.admits.platform]
  have hA := (hK.2.1 to ht8).1 N (fun _ => .null)
  obtain ⟨-, kA, hkA, cmA, hkindA⟩ := hA
  have hkA : s.vm.classes[g.2.2.2.1 to]? = some kA := hkA
  have hRA := (hK.2.1 to ht8).2
  obtain ⟨kC, cm, hkC, hkindC⟩ := hci
  obtain ⟨comp, cA, kA', hcomp, -, hkA', hkindA', hnameA⟩ := arrayOverA_spec (args := #[]) (first := s) (o := none) (s := s) (idx := []) (t := tyA ti) (by rw [← hty]; exact hK.2.2.2.2.2.2.1 _ hao)
  rw [← hty] at hcomp hnameA
  have ecA : cA = g.2.2.2.1 to := by
    rw [hty] at hRA hnameA
    exact Option.some.inj (hnameA.symm.trans hRA)
  subst ecA
  cases hkA.symm.trans hkA'
  have ecm : comp = g.2.2.2.1 ti := Option.some.inj (hcomp.symm.trans hco)
  subst ecm
  obtain ⟨c0, hfc0, hcl⟩ := Cond.classLink_spec hown (hts _ hclink) e.platform hpl
  cases hnameA.symm.trans hfc0
  obtain ⟨hg₁, hwarm₁, hready₁⟩ := State.classEntry (e := e) S.warmed hcl
  generalize T.vm.noted m.cls index (.cls (g.2.2.2.1 to)) = vm₁ at hg₁ hwarm₁ hready₁
  obtain ⟨kA₁, hkA₁, heA⟩ := hwarm₁.alike.2.2 _ _ hkA
  obtain ⟨kC₁, hkC₁, heC⟩ := hwarm₁.alike.2.2 _ _ hkC
  have hkA₂ : kA₁.kind = .array (g.2.2.2.1 ti) (.array (tyA ti)) := by rw [heA]; exact hkindA'
  have hkC₂ : kC₁.kind = .array cm (tyA ti) := by rw [heC]; exact hkindC
  have X₁ := S.noted hwarm₁
  obtain ⟨hr1, hr2⟩ := S.roomAbove hcells hslots
  have hl1 : ¬ N > e.platform.arrayLengthLimit := by rw [Launch.admits_arrayLengthLimit S.admits]; omega
  have hh1 : ¬ N * componentBytes (.array (tyA ti)) > e.platform.maxHeapBytes := by
    rw [Launch.admits_maxHeapBytes S.admits]
    show ¬ N * 4 > 536870912
    omega
  have hl2 : ¬ M > e.platform.arrayLengthLimit := by rw [Launch.admits_arrayLengthLimit S.admits]; omega
  have hh2 : ¬ M * componentBytes (tyA ti) > e.platform.maxHeapBytes := by rw [Launch.admits_maxHeapBytes S.admits]; omega
  have hz : hZ σ = T.heap.size := by rw [hTH]; exact hV.2.2.1
  have hN0 : g.1 ≤ hZ σ := by rw [hV.2.2.1]; exact hV.1
  have hV0 : HV g (born σ (.inr (to, N))) ((T.setVm vm₁).pushCell { cls := g.2.2.2.1 to, slots := Array.replicate N .null, vm := .none }).heap := by
    have e0 : ((T.setVm vm₁).pushCell { cls := g.2.2.2.1 to, slots := Array.replicate N .null, vm := .none }).heap = H.push { cls := g.2.2.2.1 to, slots := Array.replicate N .null, vm := .none } := by rw [← hTH]; rfl
    rw [e0]
    refine hV.born (by simp) (fun q hq => by rw [Array.getElem?_push, if_neg (Nat.ne_of_lt hq)]) ?_
    show (H.push _)[H.size]? = some (arrV _ _ (aV (born σ (.inr (to, N))) to H.size))
    have e : aV (born σ (.inr (to, N))) to H.size = fun _ => .null := by
      funext j
      rw [← hV.2.2.1, aV_born, if_neg ht3]
    rw [e, ← arrV_new]
    simp
  have hS0 : Stand p l e R s m args below meth c ((T.setVm vm₁).pushCell { cls := g.2.2.2.1 to, slots := Array.replicate N .null, vm := .none }) locs (cells + 1) (slots + N) := by
    have h := X₁.pushed { cls := g.2.2.2.1 to, slots := Array.replicate N .null, vm := .none }
    simpa using h
  generalize hU0 : (T.setVm vm₁).pushCell { cls := g.2.2.2.1 to, slots := Array.replicate N .null, vm := .none } = U0 at hV0 hS0
  have hall := grF_ok (M := M) (Z := hZ σ) (ti := ti) rfl ht3 hti (by rw [hT_born, if_pos rfl]) (by rw [hZ_born]; omega) hS0 hV0 hF
  obtain ⟨⟨lo', SN, hFN⟩, hVN, hvN, huN⟩ := hall N (Nat.le_refl _)
  obtain ⟨t, a1, b1⟩ := kk _ _ hVN hFN (grF (g.2.2.2.1 ti) M (hZ σ) N U0) rfl (by
    have q1 : cells + (1 + N) = cells + 1 + N := by omega
    have q2 : slots + (N + N * M) = slots + N + N * M := by omega
    rw [q1, q2]
    exact SN)
  refine ⟨t, ?_, b1⟩
  subst hb
  have hsv : U0.vm = vm₁ := by rw [← hU0]; rfl
  have hsu : U0.slotsUsed = T.slotsUsed + N := by rw [← hU0]; simp
  have hhz : U0.heap.size = T.heap.size + 1 := by rw [← hU0]; simp
  have hjs := S.here
  have hst : ∀ (d : Bool) (acts : List Action), True := fun _ _ => trivial
  jvm_step S.here [hx, hdg]
  simp only [multianewarray.sem, wp_bind', W.resolveClassAt_links (State.method?_setTop (F0 m pc ls (.int k :: .int n :: rest)) S.here.top) hg₁]
  rw [W.popN, if_neg (by decide)]
  refine ⟨F0 m pc ls (.int k :: .int n :: rest), State.topJava?_setTop' (s := T.setVm vm₁) _ S.here.top, [.int n, .int k], rest, rfl, rfl, ?_⟩
  simp only [List.mapM_cons, List.mapM_nil, wp_bind', wp_pure']
  have eS : ((T.setTop (F0 m pc ls (.int k :: .int n :: rest))).setVm vm₁).setTop (F0 m pc ls rest) = (T.setVm vm₁).setTop (F0 m pc ls rest) := by
    show ((T.setVm vm₁).setTop _).setTop _ = _
    rw [State.setTop_setTop]
  have hfind : ([k].find? (· < 0)) = none := by simp [hk0]
  rw [eS, multianewarray.make]
  simp only [wp_bind', W.ite, hn0, if_false, wp_pure', W.theClass]
  refine ⟨kA₁, hkA₁, ?_⟩
  rw [hkA₂]
  simp only [wp_bind']
  refine arr_new hkA₁ hkA₂ (by rw [hn]; exact hl1) (by rw [hn]; exact hh1) rfl rfl ?_ ?_ ?_
  · show T.heap.size < _
    omega
  · show T.slotsUsed + _ ≤ _
    rw [hn]
    omega
  simp only [hfind]
  rw [ite_self, wp_bind', Std.Legacy.Range.forIn_eq_forIn_range']
  have hsz : ([:n.toNatClampNeg] : Std.Legacy.Range).size = N := by simp [Std.Legacy.Range.size, hn]
  rw [hsz]
  have eU : ((T.setVm vm₁).setTop (F0 m pc ls rest)).pushCell { cls := g.2.2.2.1 to, slots := Array.replicate n.toNatClampNeg .null, vm := .none } = U0.setTop (F0 m pc ls rest) := by rw [hn, State.pushCell_setTop, hU0]
  rw [eU]
  have eA : ((T.setVm vm₁).setTop (F0 m pc ls rest)).heap.size = hZ σ := by rw [hz]; rfl
  rw [eA]
  refine wp_forIn_inv (fun rst s' => ∃ i, i ≤ N ∧ rst = List.range' i (N - i) ∧ s' = grF (g.2.2.2.1 ti) M (hZ σ) i (U0.setTop (F0 m pc ls rest))) _ _ ⟨0, Nat.zero_le _, rfl, rfl⟩ ?_ ?_
  · rintro x rst s' d' acts' Q' ⟨i, hi, hl, rfl⟩ hnext
    have hlt : i < N := by
      rcases Nat.lt_or_ge i N with h | h
      · exact h
      · rw [show N - i = 0 from by omega] at hl
        simp at hl
    obtain ⟨rfl, hrst⟩ : x = i ∧ rst = List.range' (i + 1) (N - (i + 1)) := by
      rw [show N - i = (N - (i + 1)) + 1 from by omega, List.range'_succ] at hl
      exact ⟨(List.cons.inj hl).1, (List.cons.inj hl).2⟩
    obtain ⟨⟨lx, Sx, -⟩, hVx, hvx, hux⟩ := hall x (by omega)
    have hzx : (grF (g.2.2.2.1 ti) M (hZ σ) x U0).heap.size = T.heap.size + 1 + x := by rw [← hVx.2.2.1, mkR_Z, hZ_born, hz]
    have hmul : x * M + M ≤ N * M := by
      have := Nat.mul_le_mul_right M (show x + 1 ≤ N from hlt)
      rw [Nat.succ_mul] at this
      exact this
    have hTx : hT (mkR ti M (hZ σ) x (born σ (.inr (to, N)))) (hZ σ) = some (.inr (to, N)) := by rw [mkR_T _ _ _ _ _ _ (by rw [hZ_born]; omega), hT_born, if_pos rfl]
    have hcx := r_arr hVx hTx
    have hocx : ocell (grF (g.2.2.2.1 ti) M (hZ σ) x U0) (hZ σ) = arrV (g.2.2.2.1 to) N (aV (mkR ti M (hZ σ) x (born σ (.inr (to, N)))) to (hZ σ)) := by
      unfold ocell
      rw [hcx]
    simp only [wp_bind']
    rw [grF_setTop, multianewarray.make]
    simp only [wp_bind', W.ite, hk0, if_false, wp_pure', W.theClass]
    refine ⟨kC₁, by show (grF (g.2.2.2.1 ti) M (hZ σ) x U0).vm.classes[_]? = _; rw [hvx, hsv]; exact hkC₁, ?_⟩
    rw [hkC₂]
    refine arr_new (k := kC₁) (by show (grF (g.2.2.2.1 ti) M (hZ σ) x U0).vm.classes[_]? = _; rw [hvx, hsv]; exact hkC₁) hkC₂ (by rw [hk]; exact hl2) (by rw [hk]; exact hh2) (by rw [hdv]; exact hfit) (by rw [hdv]; rfl) ?_ ?_ ?_
    · show (grF (g.2.2.2.1 ti) M (hZ σ) x U0).heap.size < _
      omega
    · show (grF (g.2.2.2.1 ti) M (hZ σ) x U0).slotsUsed + _ ≤ _
      rw [hk, hux, hsu]
      omega
    simp only [wp_bind', W.writeLoc, wp_pure']
    have hlx := hVx.lt hTx
    refine ⟨arrV (g.2.2.2.1 to) N (aV (mkR ti M (hZ σ) x (born σ (.inr (to, N)))) to (hZ σ)), ?_, ?_, ?_, ?_, hnext _ _ _ ⟨x + 1, hlt, hrst, ?_⟩⟩
    · show ((grF (g.2.2.2.1 ti) M (hZ σ) x U0).heap.push _)[hZ σ]? = _
      rw [Array.getElem?_push, if_neg (Nat.ne_of_lt hlx)]
      exact hcx
    · exact fun h => by cases h
    · rw [arrV_size]
      exact hlt
    · have : (((grF (g.2.2.2.1 ti) M (hZ σ) x U0).setTop (F0 m pc ls rest)).pushCell { cls := g.2.2.2.1 ti, slots := Array.replicate k.toNatClampNeg (defaultValue (tyA ti)), vm := .none }).vm = vm₁ := by
        show (grF (g.2.2.2.1 ti) M (hZ σ) x U0).vm = _
        rw [hvx, hsv]
      simp only [State.fitsSlot, State.slotType?, this]
      simp [arrV, hkA₁, hkA₂]
      rfl
    · rw [hk, hdv]
      show _ = ((grF _ M (hZ σ) x (U0.setTop (F0 m pc ls rest))).pushCell _).setCell _ _
      rw [grF_setTop]
      have h2 : ocell ((grF (g.2.2.2.1 ti) M (hZ σ) x U0).setTop (F0 m pc ls rest)) (hZ σ) = ocell (grF (g.2.2.2.1 ti) M (hZ σ) x U0) (hZ σ) := by
        unfold ocell
        rw [State.heap_setTop]
      rw [h2, hocx]
  · rintro s' d' acts' ⟨i, hi, hl, rfl⟩
    have hiN : i = N := by
      rcases Nat.lt_or_ge i N with h | h
      · rw [show N - i = (N - (i + 1)) + 1 from by omega, List.range'_succ] at hl
        cases hl
      · omega
    subst hiN
    rw [grF_setTop]
    simp only [wp_pure', wp_bind', W.mark, W.pushRef, State.topJava?_setTop' _ SN.here.top, Option.some.injEq, exists_eq_left', State.setTop_setTop]
    intro acts
    simp [jvm, SN.here.top]
    exact a1
theorem hciX (X : FX g p m c s args meth cc nL own rt nm) {ti : Nat} (h : ti < 8) : ∃ kC cm, s.vm.classes[g.2.2.2.1 ti]? = some kC ∧ kC.kind = .array cm (tyA ti) := by
  obtain ⟨-, k, hk, cm, hkind⟩ := (X.2.2.2.2.2.1.2.1 ti h).1 0 (fun _ => .null)
  exact ⟨k, cm, hk, hkind⟩
end RM
