set_option maxRecDepth 100000
/-! exceptions: contracts of methods that return or throw -/
def FEX (s t : State) (L : List Loc) (k n : Nat) : Prop := s.WarmedH t.vm ∧ s.sameButNew ({ t with vm := s.vm } : State) L k n
def MQX (below : List Frame) (Qc : Array Value → State → Outcome → State → Prop) (a : Array Value) (s : State) (mc ms : Nat) (free : Addr → Prop) : State → Prop := fun t =>
  ∃ o, t.status = .running ∧ Ended t below o ∧ Qc a s o t ∧ ∃ L, FEX s t L mc ms ∧ ∀ q ∈ L, free q.base
def MetX (l : Launch) (y : MethodName) (ws : List Cond) (rm : Room) (Pc : Array Value → State → Prop) (Qc : Array Value → State → Outcome → State → Prop) (mc ms : Nat) (free : Addr → Prop) : Prop :=
  MetFree l y (headSpec ws rm) Pc (fun _ _ _ _ _ => True) (fun a st o t => Qc a st o t ∧ ∃ L, FEX st t L mc ms ∧ ∀ q ∈ L, free q.base)
def oX {α : Type} (ret : α → Option Value) (x : α ⊕ Nat) : Outcome := match x with
  | .inl v => .returned (ret v)
  | .inr a => .threw a
def QX {α : Type} (g : Gl) (ret : α → Option Value) (x : (α ⊕ Nat) × Hp) : Array Value → State → Outcome → State → Prop := fun _ _ o t => o = oX ret x.1 ∧ WV g x.2 t
def rI (v : Int32) : Option Value := some (.int v)
def rV (_ : Unit) : Option Value := none
def rN (a : Nat) : Option Value := some (.ref a)
section RX
variable {p : Program} {l : Launch} {e : Env} {R : Room} {s : State} {m : MethodId} {args : Array Value} {below : List Frame} {meth : Method} {c : Code} {H : Heap} {locs : List Loc} {cells slots : Nat} {Q : State → Prop}
variable {cc : ByteArray} {pc nL : Nat} {ls : Array Slot} {rest : List Value} {g : Gl} {σ σ1 : Hp} {own nm : String} {rt : Option FieldType} {ρ : Type} {r : ρ} {a : Nat}
variable {y : MethodName} {ws : List Cond} {rm : Room} {Pc : Array Value → State → Prop} {mc ms : Nat} {free : Addr → Prop}
theorem MetX.returns {α : Type} {ret : α → Option Value} {v : α} (h : MetX l y ws rm Pc (QX g ret (.inl v, σ1)) mc ms free) {Qc : Array Value → State → Outcome → State → Prop} (hQ : ∀ a st t, WV g σ1 t → Qc a st (.returned (ret v)) t) : Met l y ws rm Pc Qc mc ms free := by
  intro p e ha hc hk s m args below hf happ hP hK
  obtain ⟨n, o, h1, h2, h3, ⟨h4, h5⟩, L, h6, h7⟩ := h p e ha hc hk s m args below hf happ hP hK
  have h4' : o = .returned (ret v) := h4
  subst h4'
  exact ⟨n, _, h1, h2, h3, hQ _ _ _ h5, L, ⟨⟨_, rfl⟩, h6⟩, h7⟩
theorem MetX.retI {v : Int32} (h : MetX l y ws rm Pc (QX g rI (.inl v, σ1)) mc ms free) : Met l y ws rm Pc (Qi g (v, σ1)) mc ms free := h.returns (fun _ _ _ hW => ⟨rfl, hW⟩)
theorem MetX.retV {v : Unit} (h : MetX l y ws rm Pc (QX g rV (.inl v, σ1)) mc ms free) : Met l y ws rm Pc (Qv g σ1) mc ms free := h.returns (fun _ _ _ hW => ⟨rfl, hW⟩)
theorem MetX.retN {v : Nat} (h : MetX l y ws rm Pc (QX g rN (.inl v, σ1)) mc ms free) : Met l y ws rm Pc (Qn g (v, σ1)) mc ms free := h.returns (fun _ _ _ hW => ⟨rfl, hW⟩)
theorem W.mono {Q' : State → Prop} {f : JFrame} (h : W p l e R s m args below meth c H locs cells slots Q f) (hq : ∀ t, Q t → Q' t) : W p l e R s m args below meth c H locs cells slots Q' f := by
  intro T hT X
  obtain ⟨t, a1, b1⟩ := h T hT X
  exact ⟨t, a1, hq t b1⟩
theorem MQ_X {α : Type} {ret : α → Option Value} {v : α} {Qc : Array Value → State → Outcome → State → Prop} (hQ : ∀ st o t, Qc args st o t → o = .returned (ret v) ∧ WV g σ t) : ∀ t, MQ below Qc args s mc ms free t → MQX below (QX g ret (.inl v, σ)) args s mc ms free t := by
  intro t ⟨o, h1, h2, h3, L, h4, h5⟩
  exact ⟨o, h1, h2, hQ _ _ _ h3, L, h4.2, h5⟩
theorem r_iretX (X : FX g p m c s args meth cc nL own (some .int) nm) (hV : HV g σ H) (hF : FR g locs) {v : Int32} {x : (Int32 ⊕ Nat) × Hp} (h : some (.inl v, σ) = some x) (hdg : decode cc pc = .ok (.ireturn, 1)) : W p l e R s m args below meth c H locs cells slots (MQX below (QX g rI x) args s cells slots (frN g)) (F0 m pc ls [.int v]) := by
  cases h
  exact (r_iret X hV hF (x := (v, σ)) rfl hdg).mono (MQ_X (fun _ _ _ q => q))
theorem r_vretX (X : FX g p m c s args meth cc nL own none nm) (hV : HV g σ H) (hF : FR g locs) {x : (Unit ⊕ Nat) × Hp} (h : some (.inl (), σ) = some x) (hdg : decode cc pc = .ok (.return_, 1)) : W p l e R s m args below meth c H locs cells slots (MQX below (QX g rV x) args s cells slots (frN g)) (F0 m pc ls []) := by
  cases h
  exact (r_vret X hV hF (x := σ) rfl hdg).mono (MQ_X (fun _ _ _ q => q))
theorem r_aretX {E : String} (X : FX g p m c s args meth cc nL own (some (.object E)) nm) (hV : HV g σ H) (hF : FR g locs) {v : Nat} {x : (Nat ⊕ Nat) × Hp} (h : some (.inl v, σ) = some x) (hdg : decode cc pc = .ok (.areturn, 1)) : W p l e R s m args below meth c H locs cells slots (MQX below (QX g rN x) args s cells slots (frN g)) (F0 m pc ls [.ref v]) := by
  cases h
  exact (W.aret (Qc := Qn g (v, σ)) X.1 X.2.1 X.2.2.2.2.2.2.1 (Or.inl ⟨_, rfl⟩) (Or.inr ⟨_, rfl⟩) (fun t ht hW => ⟨rfl, X.2.2.2.2.2.1.warm hW, by rw [ht]; exact hV⟩) hF hdg X.2.2.2.2.2.2.2.1).mono (MQ_X (fun _ _ _ q => q))
theorem r_cn {mc ms : Nat} {st0 : List Value} {av : Array Value} {v : Nat} {σ1 : Hp} (hr : va_Run p l e R s m args below meth c H locs cells slots mc ms (F0 m pc ls st0) rest (Qn g (v, σ1) av) (frN g)) (hF : FR g locs)
    (kk : ∀ H1 locs1, HV g σ1 H1 → FR g locs1 → W p l e R s m args below meth c H1 locs1 (cells + mc) (slots + ms) Q (F0 m (pc + 3) ls (.ref v :: rest))) : W p l e R s m args below meth c H locs cells slots Q (F0 m pc ls st0) := by
  intro T hT X
  obtain ⟨v, st₀, t, T', L, h0, X', hL, e1, e2, ⟨hv, -, hV⟩, st⟩ := hr T hT X
  cases hv
  obtain ⟨t2, a1, b1⟩ := kk T'.heap (locs ++ L) (by rw [e1]; exact hV) (FR_app hF hL) T' rfl X'
  exact ⟨t2, st t2 a1, b1⟩
theorem noH (hE : c.exceptionTable.isEmpty = true) (q : Nat) : ∀ x ∈ c.exceptionTable.toList, covers x q = false := by
  intro x hx
  have : c.exceptionTable = #[] := Array.isEmpty_iff.mp hE
  rw [this] at hx
  cases hx
theorem r_ath {α : Type} {ret : α → Option Value} (X : FX g p m c s args meth cc nL own rt nm) (hE : c.exceptionTable.isEmpty = true) (hV : HV g σ H) (hF : FR g locs) {x : (α ⊕ Nat) × Hp} (h : gd 11 a σ (some (.inr a, σ)) = some x) (hdg : decode cc pc = .ok (.athrow, 1)) :
    W p l e R s m args below meth c H locs cells slots (MQX below (QX g ret x) args s cells slots (frN g)) (F0 m pc ls (.ref a :: rest)) := by
  obtain ⟨-, h⟩ := gd_inv h
  cases h
  intro T hT S
  obtain ⟨h1, h2, h3, h4, h5⟩ := S.athrowLeaves X.1 (g := F0 m pc ls (.ref a :: rest)) rfl rfl rfl (noH hE _) rfl (by rw [X.2.1]; exact hdg) X.2.2.2.2.2.2.2.1
  exact ⟨_, h1, .threw a, h2, h3, ⟨rfl, X.2.2.2.2.2.1.warm h4, by show HV g σ T.heap; rw [hT]; exact hV⟩, locs, ⟨h4, h5⟩, hF⟩
/-- a call whose callee throws -/
theorem callX {T : State} (S : Stand p l e R s m args below meth c T locs cells slots) (hexec : p.tables.exec = Jvm.exec) {C : String} {index n maxL : Nat} {bytes : ByteArray} {ret : Option FieldType} {Qc : Array Value → State → Outcome → State → Prop} (cw : CallW R s args own C index y bytes maxL ret ws rm mc ms n) (hown : s.vm.findClass own = some m.cls) (hM : MetX l y ws rm Pc Qc mc ms free)
    {x : Nat} (hthr : ∀ a st o t, Qc a st o t → o = .threw x) {b : Nat} {As : List Value} (hp : PreV s T.heap C b Pc As) {f : JFrame} (hg : f.method = m) (hn : As.length = n) (hsize : f.locals.size = c.maxLocals) (hstack : f.stack = As.reverse ++ .ref b :: rest) (hW : 2 * f.monitorRoom + (rest.map fun v => v.category).sum ≤ 8)
    (hdg : decode c.code f.pc = .ok (.invokevirtual index, 3)) (hf : cells + mc ≤ R.cells ∧ slots + ms ≤ R.slots) :
    ∃ (st₀ t T' : State) (L : List Loc), Stand p l e R s m args below meth c T' (locs ++ L) (cells + mc) (slots + ms) ∧ (∀ q ∈ L, free q.base) ∧ T'.heap = t.heap ∧ T'.vm = t.vm ∧ Qc (Value.ref b :: As).toArray st₀ (.threw x) t ∧
      ∀ target, Steps p.tables e below ((T'.setTop { f with stack := rest }).pushFrame (.throwing x)) target → Steps p.tables e below (T.setTop f) target := by
  obtain ⟨⟨hrc, hrs, hfr, hlo, hws, hcw, hcode, hini, hy, hlen, hl⟩, hinst, hsel⟩ := cw
  obtain ⟨hbl, ⟨cellB, hcB, hoB, hclB⟩, hPc⟩ := hp
  obtain ⟨mk, methM, hnamed, hmethM, hstM, habM⟩ := Cond.instanceMethod_spec hinst
  obtain ⟨methM', cM, hmethM', -, -, -, -, -, -, hsigM⟩ := Cond.code_spec hnamed hcode
  cases hmethM.symm.trans hmethM'
  obtain ⟨c2, r2, m2, q1, q2, q3, q4, kP, hkP, hkPi⟩ := Cond.selects_spec hsel
  cases hclB.symm.trans q1
  cases (State.methodFound?_of_named hnamed hy).symm.trans q2
  cases hnamed.symm.trans q3
  have hselP : selectMethod e.platform s.vm cellB.cls mk = .method mk := by rw [Launch.admits_selectMethod S.admits]; exact q4
  obtain ⟨vm₁, X₁, hstep₁⟩ := S.invokevirtual hexec hown hl hnamed hmethM hstM hkP hkPi hy (a := b) (cell := cellB) hcB (fun z h => by rw [h] at hoB; cases hoB) hselP hmethM habM hkP hkPi (g := f) hg (argsL := As) (rest := rest) (hn.trans (hlen _ hsigM)) hstack hdg
  have hn1 : (T.setVm vm₁).methodNamed? y = some mk := X₁.named hnamed
  have hcode1 : (Cond.code y bytes maxL ret).before (Value.ref b :: As).toArray (T.setVm vm₁) = true := hws _ hcw _ _ X₁.warmed
  obtain ⟨methY, cY, hmY, hcY, -, hlY, -, -, -, -⟩ := Cond.code_spec hn1 hcode1
  obtain ⟨kY, hkY, -⟩ := className_of_methodNamed hn1
  have hini1 : (Cond.initialized y.cls).before (Value.ref b :: As).toArray (T.setVm vm₁) = true := word_at X₁.warmed (Or.inl (by first | rfl | simp [Cond.onTables, Cond.keeps, Cond.steady])) hini
  have hinitY : kY.init = .initialized := Cond.initialized_spec (findClass_of_methodNamed hn1) hkY hini1
  have hat : At (T.setVm vm₁) ({ f with stack := rest } : JFrame).method c below := by
    show At (T.setVm vm₁) f.method c below
    rw [hg]
    exact X₁.here
  have happ : (headSpec ws rm).appliesLoose y e.platform ((T.setVm vm₁).calling { f with stack := rest } mk (Value.ref b :: As).toArray) = true :=
    Spec.appliesLoose_calling (g := { f with stack := rest }) hat hdg hn1 hkY hinitY
      (X₁.room_calling (g := { f with stack := rest }) (R' := (headSpec ws rm).room) hsize hmY hcY hfr (by rw [hlY]; show 2 * f.monitorRoom + (rest.map fun v => v.category).sum + (maxL + 11) + rm.locals ≤ R.locals; omega) (by show cells + rm.cells ≤ _; rw [hrc]; exact hf.1) (by show slots + rm.slots ≤ _; rw [hrs]; exact hf.2)) (atoms_intro fun w hw => hws w hw _ _ X₁.warmed)
  obtain ⟨mid, hmid⟩ := hat.above
  have hfrm : ((T.setVm vm₁).setTop { f with stack := rest }).frames = (.java { f with stack := rest } :: mid) ++ below := by rw [State.frames_setTop' _ hat.top, hmid]; rfl
  obtain ⟨o, s₂, hsteps, -, hend, hq⟩ := Steps.callFree hM p X₁.admits X₁.cas X₁.clock (acts := []) hfrm happ (hbl _ _ _ _ (hPc (T.setVm vm₁) rfl X₁.warmed)) trivial
  obtain ⟨hq1, L, ⟨hF1, hF2⟩, hL⟩ := hq
  have ho := hthr _ _ _ _ hq1
  subst ho
  rw [State.frames_setTop' _ hat.top, X₁.tail] at hend
  obtain ⟨T', X', hW', hsame', ht⟩ := X₁.outOfThrown (g := { f with stack := rest }) hg (mk := mk) (a := (Value.ref b :: As).toArray) hend hF1 hF2
  refine ⟨_, s₂, T', L, X', hL, ?_, ?_, hq1, fun target h => ?_⟩
  · rw [ht, Stand.throwing_heap]
  · rw [ht, Stand.throwing_vm]
  · refine hstep₁ _ fun acts => ?_
    rw [doInvoke_state]
    rw [← ht] at h
    exact hsteps.trans h
theorem r_thr {α : Type} {ret : α → Option Value} {β : Type} {ret' : β → Option Value} (X : FX g p m c s args meth cc nL own rt nm) (hE : c.exceptionTable.isEmpty = true) (hV : HV g σ H) (hF : FR g locs) {C : String} {index n maxL : Nat} {bytes : ByteArray} {ret0 : Option FieldType} {b : Nat} {As : List Value} (cw : CallW R s args own C index y bytes maxL ret0 ws rm mc ms n)
    {x : Nat} (hM : MetX l y ws rm Pc (QX g ret' (.inr x, σ1)) mc ms (frN g)) (hp : PreV s H C b Pc As) (hn : As.length = n) (hsz : ls.size = nL) (hW : (rest.map fun v => v.category).sum ≤ 8) (hdg : decode cc pc = .ok (.invokevirtual index, 3)) (hf : cells + mc ≤ R.cells ∧ slots + ms ≤ R.slots) {mc' ms' : Nat} (hc1 : cells + mc ≤ mc') (hc2 : slots + ms ≤ ms')
    {z : (α ⊕ Nat) × Hp} (h : some (.inr x, σ1) = some z) : W p l e R s m args below meth c H locs cells slots (MQX below (QX g ret z) args s mc' ms' (frN g)) (F0 m pc ls (As.reverse ++ .ref b :: rest)) := by
  cases h
  intro T hT S
  obtain ⟨st₀, t, T', L, X', hL, e1, e2, hq, hst⟩ := callX S X.1 cw X.2.2.2.1 hM (x := x) (fun _ _ _ _ q => q.1) (by rw [hT]; exact hp) (f := F0 m pc ls (As.reverse ++ .ref b :: rest)) rfl hn (hsz.trans X.2.2.1.symm) rfl (lv_room hW) (by rw [X.2.1]; exact hdg) hf
  obtain ⟨h1, h2, h3, h4, h5⟩ := X'.leaveThrown x (g := F0 m pc ls rest) rfl rfl rfl (noH hE _) X.2.2.2.2.2.2.2.1
  refine ⟨_, hst _ h1, .threw x, h2, h3, ⟨rfl, X.2.2.2.2.2.1.warm h4, ?_⟩, locs ++ L, ⟨h4, h5.mono hc1 hc2⟩, FR_app hF hL⟩
  show HV g σ1 T'.heap
  rw [e1]
  exact hq.2.2
/-- the exception is caught; the class that the entry names may not be resolved yet -/
theorem catchCold {T : State} (S : Stand p l e R s m args below meth c T locs cells slots) {x : Nat} {f : JFrame} (hg : f.method = m) {en : ExceptionTableEntry} (htab : c.exceptionTable.toList = [en]) (hcov : covers en f.pc = true) (h0 : en.catchType ≠ 0)
    {C : String} (hown : s.vm.findClass own = some m.cls) (hclink : (Cond.classLink own en.catchType C).before args s = true) {cell : Cell} (hcell : T.heap[x]? = some cell) (hobj : ∀ k, cell.vm ≠ .statics k) (hcls : s.vm.findClass C = some cell.cls) :
    ∃ vm', Stand p l e R s m args below meth c (T.setVm vm') locs cells slots ∧ ∀ target, Steps p.tables e below ((T.setVm vm').setTop { f with pc := en.handlerPc, stack := [.ref x] }) target → Steps p.tables e below ((T.setTop f).pushFrame (.throwing x)) target := by
  subst hg
  have hpl : e.platform.magicAccessors = ({} : Platform).magicAccessors := by rw [S.admits.platform]
  obtain ⟨cC, hfcc, hcl⟩ := Cond.classLink_spec hown hclink e.platform hpl
  cases hcls.symm.trans hfcc
  obtain ⟨hg₁, hwarm₁, hready₁⟩ := State.classEntry (e := e) S.warmed hcl
  generalize T.vm.noted f.method.cls en.catchType (.cls cell.cls) = vm₁ at hg₁ hwarm₁ hready₁
  obtain ⟨kC, hkC, -⟩ := Vm.findClass_spec hcls
  obtain ⟨k₁, hk₁, he₁⟩ := hwarm₁.alike.2.2 _ _ hkC
  have X₁ := S.noted hwarm₁
  have hh : At T f.method c below := S.here
  have hm1 : ((T.setTop f).pushFrame (.throwing x)).vm.method? f.method = some meth := by rw [Stand.throwing_vm]; exact S.method'
  have hfit : vm₁.assignable cell.cls cell.cls = true := by
    show vm₁.assignableAux (255 + 1) _ _ = true
    rw [Vm.assignableAux]
    simp
  have hsz : vm₁.classes.size ≤ T.vm.classes.size := by
    have h1 := hwarm₁.alike.2.1
    have h2 := S.warmed.alike.2.1
    omega
  have hfind : ∀ (Q : Handler → Pre) (E : CtlPost) (d : Bool) (acts : List Action), wp (findHandler f x) Q E e d acts ((T.setTop f).pushFrame (.throwing x)) ↔ Q (.found en.handlerPc) d acts (((T.setTop f).pushFrame (.throwing x)).setVm vm₁) := by
    intro Q E d acts
    rw [W.findHandler_eq hm1 S.code, htab]
    have hc0 : ((T.setTop f).pushFrame (.throwing x)).heap[x]? = some cell := by rw [Stand.throwing_heap]; exact hcell
    have hg2 : (Jvm.resolveClass f.method.cls en.catchType).Gives e.toSetting ((T.setTop f).pushFrame (.throwing x)).vm (.ok cell.cls) vm₁ := by rw [Stand.throwing_vm]; exact hg₁
    have hsz2 : vm₁.classes.size ≤ ((T.setTop f).pushFrame (.throwing x)).vm.classes.size := by rw [Stand.throwing_vm]; exact hsz
    obtain ⟨ha, ht⟩ := hg2.op (op := VmOp.resolveClass f.method.cls en.catchType) rfl
    have hcv : (decide (en.startPc ≤ f.pc) && decide (f.pc < en.endPc)) = true := hcov
    rw [findHandler.go]
    simp [hcv, h0, ha, ht, hsz2, hc0, hobj, hk₁, hfit, VmOp.acts, VmOp.dirties]
  refine ⟨vm₁, X₁, fun target hrest => ?_⟩
  obtain ⟨hgo, hw⟩ := hh.throwing x
  refine Steps.head hgo hw ?_
  have hstep : (stepThrowing e ((T.setTop f).pushFrame (.throwing x)) x (.java f :: T.frames.tail)).Is ((((T.setTop f).pushFrame (.throwing x)).setVm vm₁).setFrames (.java { f with pc := en.handlerPc, stack := [.ref x] } :: T.frames.tail)) [] := by
    simp only [stepThrowing, searchFrame, vmDo]
    generalize hr : Sem.go _ e false [] _ = res
    obtain ⟨as, rfl, ha⟩ := Sem.eq_ok_of hr (a := Handler.found en.handlerPc) (s' := ((T.setTop f).pushFrame (.throwing x)).setVm vm₁) (acts' := []) (by simp [hfind])
    exact ⟨rfl, ha⟩
  rw [stepThread_throwing (frames_entered hh.top _), hstep.1]
  obtain ⟨g₀, hg0⟩ := Option.isSome_iff_exists.mp hh.top
  obtain ⟨rr, hr⟩ := State.topJava?_eq_some.mp hg0
  have hr1 : (T.setVm vm₁).frames = .java g₀ :: rr := hr
  rw [State.setTop_of_frames _ hr1] at hrest
  have e1 : (((T.setTop f).pushFrame (.throwing x)).setVm vm₁).setFrames (.java { f with pc := en.handlerPc, stack := [.ref x] } :: T.frames.tail) = (T.setVm vm₁).setFrames (.java { f with pc := en.handlerPc, stack := [.ref x] } :: rr) := by
    rw [hr]
    show ((((T.setTop f).setFrames _).setFrames _).setVm vm₁) = _
    rw [State.setFrames_setFrames, State.setTop_of_frames _ hr, State.setFrames_setFrames]
    rfl
  rw [e1]
  exact hrest
theorem r_catch {β : Type} {ret' : β → Option Value} (X : FX g p m c s args meth cc nL own rt nm) (hF : FR g locs) {C : String} {index n maxL : Nat} {bytes : ByteArray} {ret0 : Option FieldType} {b : Nat} {As : List Value} (cw : CallW R s args own C index y bytes maxL ret0 ws rm mc ms n)
    {x : Nat} (hM : MetX l y ws rm Pc (QX g ret' (.inr x, σ1)) mc ms (frN g)) (hp : PreV s H C b Pc As) (hn : As.length = n) (hsz : ls.size = nL) (hW : (rest.map fun v => v.category).sum ≤ 8) (hdg : decode cc pc = .ok (.invokevirtual index, 3)) (hf : cells + mc ≤ R.cells ∧ slots + ms ≤ R.slots)
    {en : ExceptionTableEntry} (htab : c.exceptionTable.toList = [en]) (hcov : covers en pc = true) (h0 : en.catchType ≠ 0) {C' : String} {ci : Nat} {q : vw_C} (hclink : Cond.classLink own en.catchType C' ∈ lw_all) (hx : hT σ1 x = some (.inl ci)) (hci : clF ci = some q) (hq : q.1 = C')
    (kk : ∀ H1 locs1, HV g σ1 H1 → FR g locs1 → W p l e R s m args below meth c H1 locs1 (cells + mc) (slots + ms) Q (F0 m en.handlerPc ls [.ref x])) : W p l e R s m args below meth c H locs cells slots Q (F0 m pc ls (As.reverse ++ .ref b :: rest)) := by
  intro T hT S
  obtain ⟨st₀, t, T', L, X', hL, e1, e2, hqq, hst⟩ := callX S X.1 cw X.2.2.2.1 hM (x := x) (fun _ _ _ _ q => q.1) (by rw [hT]; exact hp) (f := F0 m pc ls (As.reverse ++ .ref b :: rest)) rfl hn (hsz.trans X.2.2.1.symm) rfl (lv_room hW) (by rw [X.2.1]; exact hdg) hf
  have hV1 : HV g σ1 T'.heap := by rw [e1]; exact hqq.2.2
  obtain ⟨q', V', hq', -, cell, q1, q2, q3, -⟩ := (hV1.2.2.2 x _ hx).2
  cases hci.symm.trans hq'
  have hcl : s.vm.findClass C' = some cell.cls := by rw [q2, ← hq]; exact (X.2.2.2.2.2.1.1 ci q hci).2.1
  obtain ⟨vm', X2, hst2⟩ := catchCold X' (x := x) (f := F0 m pc ls rest) rfl htab hcov h0 X.2.2.2.1 (X.2.2.2.2.1 _ hclink) q1 (fun k hk => by rw [q3] at hk; cases hk) hcl
  obtain ⟨t2, a1, b1⟩ := kk _ _ hV1 (FR_app hF hL) (T'.setVm vm') rfl X2
  exact ⟨t2, hst _ (hst2 _ a1), b1⟩
theorem ctX_of {av : List Value} {Qc : Array Value → State → Outcome → State → Prop} {ret0 : Option FieldType} (hy : plainName y.cls = true) (hlen : (lg_sl av).length ≤ nL)
    (body : ∀ p e s m below meth c ls, FX g p m c s av.toArray meth cc nL y.cls ret0 y.name → c.exceptionTable.isEmpty = true → HV g σ s.heap → lv_has ls nL (lv_args 0 av) → W p l e rm s m av.toArray below meth c s.heap [] 0 0 (MQX below Qc av.toArray s mc ms (frN g)) (F0 m 0 ls [])) :
    MetX l y (ws_ y cc nL ret0) rm (va_Pc av (WV g σ)) Qc mc ms (frN g) := by
  refine MetFree.of_bodyS (code := cc) (maxLocals := nL) (ret := ret0) hy ?_ ?_
  · intro args s m h hn
    obtain ⟨meth, c, h1, h2, h3, h4, h5, h6, -, -⟩ := Cond.code_spec hn (atoms_spec (ws := ws_ y cc nL ret0) h _ List.mem_cons_self)
    exact ⟨meth, c, h1, h2, h3, h4, h5, h6⟩
  · intro p e s m args below meth c s₁ B hml hv _
    obtain ⟨rfl, hK, hV⟩ := hv
    have hts := atoms_spec (ws := ws_ y cc nL ret0) B.pre
    have X : FX g p m c s av.toArray meth cc nL y.cls ret0 y.name := ⟨B.exec, B.bytes, hml, findClass_of_methodNamed B.named, fun w h => hts w (List.mem_cons_of_mem _ h), hK, B.returns, B.notSynchronized, (name_of_methodNamed B.named B.method).1⟩
    have hE : c.exceptionTable.isEmpty = true := B.noHandlers (hts _ List.mem_cons_self)
    have hl := lv_entry av hlen
    have hh0 : s₁.heap = s.heap := by rw [B.state]; rfl
    have K : W p l e rm s m av.toArray below meth c s.heap [] 0 0 (MQX below Qc av.toArray s mc ms (frN g)) (entryFrame m av.toArray nL) := by
      rw [lg_entry_eq]
      generalize (lg_sl av ++ List.replicate (nL - (lg_sl av).length) Slot.unset).toArray = ls at hl ⊢
      exact body p e s m below meth c ls X hE hV hl
    obtain ⟨t, a1, o, b1, b2, b3⟩ := K s₁ hh0 (Stand.of_body B)
    exact ⟨t, o, a1, b1, b2, ⟨b3.1, b3.2⟩⟩
/-- aastore of a Line of any of its four kinds -/
theorem r_astL (X : FX g p m c s args meth cc nL own rt nm) (hV : HV g σ H) (hF : FR g locs) {v : Nat} (hdg : decode cc pc = .ok (.aastore, 1)) {j : Int32} {K : Hp → Option ρ} (h : lk v σ (b1 (sR 4 a j v σ) K) = some r)
    (kk : ∀ σ1 H1 locs1, HV g σ1 H1 → FR g locs1 → K σ1 = some r → W p l e R s m args below meth c H1 locs1 cells slots Q (F0 m (pc + 1) ls rest)) : W p l e R s m args below meth c H locs cells slots Q (F0 m pc ls (.ref v :: .int j :: .ref a :: rest)) := by
  obtain ⟨hv, h⟩ := lk_inv h
  rcases hv with hv | hv | hv | hv
  · exact r_ast (ci := 13) X hV hF (by decide) (by decide) rfl rfl (Or.inr (List.mem_of_getElem? (i := 1) rfl)) hv hdg h kk
  · exact r_ast (ci := 14) X hV hF (by decide) (by decide) rfl rfl (Or.inr (List.mem_of_getElem? (i := 2) rfl)) hv hdg h kk
  · exact r_ast (ci := 15) X hV hF (by decide) (by decide) rfl rfl (Or.inr (List.mem_of_getElem? (i := 3) rfl)) hv hdg h kk
  · exact r_ast (ci := 16) X hV hF (by decide) (by decide) rfl rfl (Or.inr (List.mem_of_getElem? (i := 4) rfl)) hv hdg h kk
end RX
