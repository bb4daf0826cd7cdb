set_option maxRecDepth 100000
/-! a method with a handler: its contract, its calls -/
section RH
variable {p : Program} {l : Launch} {e : Env} {R : Room} {s : State} {m : MethodId} {args : Array Value} {below : List Frame} {meth : Method} {c : Code} {H : Heap} {locs : List Loc} {cells slots : Nat} {Q : State → Prop}
variable {cc : ByteArray} {pc nL : Nat} {ls : Array Slot} {rest : List Value} {g : Gl} {σ σ1 : Hp} {own nm : String} {rt : Option FieldType} {a : Nat}
variable {y : MethodName} {rm : Room} {Pc : Array Value → State → Prop} {mc ms : Nat} {free : Addr → Prop}
theorem ctW_of {av : List Value} {Qc : Array Value → State → Outcome → State → Prop} {ret0 : Option FieldType} {hh : List (Nat × Nat × Nat × Nat)} (hy : plainName y.cls = true) (hlen : (lg_sl av).length ≤ nL)
    (body : ∀ p e s m below meth c ls, FX g p m c s av.toArray meth cc nL y.cls ret0 y.name → c.exceptionTable.toList.map (fun h => (h.startPc, h.endPc, h.handlerPc, h.catchType)) = hh → HV g σ s.heap → lv_has ls nL (lv_args 0 av) → W p l e rm s m av.toArray below meth c s.heap [] 0 0 (MQ below Qc av.toArray s mc ms (frN g)) (F0 m 0 ls [])) :
    Met l y (wsW_ y cc nL ret0 hh) rm (va_Pc av (WV g σ)) Qc mc ms (frN g) := by
  refine va_MetW (cc := cc) (maxL := nL) (ret := ret0) (hh := hh) hy rfl ?_
  intro p e s m args below meth c s₁ B hml hv
  obtain ⟨rfl, hK, hV⟩ := hv
  have hts := atoms_spec (ws := wsW_ y cc nL ret0 hh) B.pre
  have X : FX g p m c s av.toArray meth cc nL y.cls ret0 y.name := ⟨B.exec, B.bytes, hml, findClass_of_methodNamed B.named, fun w h => hts w (List.mem_cons_of_mem _ h), hK, B.returns, B.notSynchronized, (name_of_methodNamed B.named B.method).1⟩
  obtain ⟨m9, meth9, c9, g1, g2, g3, -, -, g4, -⟩ := Cond.codeWith_spec (hts _ List.mem_cons_self)
  cases B.named.symm.trans g1
  cases B.method.symm.trans g2
  cases (Stand.of_body B).code.symm.trans g3
  have hl := lv_entry av hlen
  rw [lg_entry_eq]
  generalize (lg_sl av ++ List.replicate (nL - (lg_sl av).length) Slot.unset).toArray = ls at hl ⊢
  exact body p e s m below meth c ls X g4 hV hl
theorem runVW {Qc : Array Value → State → Outcome → State → Prop} {C : String} {index n maxL : Nat} {bytes : ByteArray} {ret0 : Option FieldType} {hh : List (Nat × Nat × Nat × Nat)} {b : Nat} {As : List Value} (X : FX g p m c s args meth cc nL own rt nm)
    (hM : Met l y (wsW_ y bytes maxL ret0 hh) rm Pc Qc mc ms free) (hcode : Cond.codeWith y bytes maxL ret0 hh ∈ lw_all) (hl : Cond.methodLink own index y ∈ lw_all) (hin : Cond.instanceMethod y ∈ lw_all) (hse : Cond.selects C y y ∈ lw_all) (hini : Cond.initialized y.cls ∈ lw_all) (hrc : rm.cells = mc) (hrs : rm.slots = ms)
    (hd : y.cls ≠ "java/lang/invoke/MethodHandle" ∧ y.cls ≠ "java/lang/invoke/VarHandle" ∧ (parseMethodDescriptor y.desc).map (fun d => d.parameters.length) = some n) (hR : rm.frames + 1 ≤ R.frames ∧ 8 + (maxL + 11) + rm.locals ≤ R.locals) (hp : PreV s H C b Pc As)
    (hn : As.length = n) (hsize : ls.size = nL) (hW : (rest.map fun v => v.category).sum ≤ 8) (hdg : decode cc pc = .ok (.invokevirtual index, 3)) (hf : cells + mc ≤ R.cells ∧ slots + ms ≤ R.slots) :
    va_Run p l e R s m args below meth c H locs cells slots mc ms (F0 m pc ls (As.reverse ++ .ref b :: rest)) rest (Qc (Value.ref b :: As).toArray) (free) := by
  have hws : ∀ w ∈ wsW_ y bytes maxL ret0 hh, ∀ (a' : Array Value) (U : State), s.WarmedH U.vm → w.before a' U = true := pay_in X.2.2.2.2.1 (lw_methW hcode)
  have hK : Back l R p e below s args y 3 8 (PreOf R mc ms Pc) (PostOf Qc mc ms free) := va_backW hM hp.1 hrc hrs hR.1 hR.2 hws List.mem_cons_self (fun a' U hW => word_at hW (Or.inl (by first | rfl | simp [Cond.onTables, Cond.keeps, Cond.steady])) (X.2.2.2.2.1 _ hini))
  obtain ⟨-, ⟨cellB, hcB, hoB, hclB⟩, hPc⟩ := hp
  intro T hT S
  obtain ⟨mk, methM, hnamed, hmethM, hstM, habM⟩ := Cond.instanceMethod_spec (X.2.2.2.2.1 _ hin)
  obtain ⟨m9, methM', cM, g1, hmethM', -, -, -, -, -, -, hsigM⟩ := Cond.codeWith_spec (X.2.2.2.2.1 _ hcode)
  cases hnamed.symm.trans g1
  cases hmethM.symm.trans hmethM'
  obtain ⟨c2, r2, m2, q1, q2, q3, q4, kP, hkP, hkPi⟩ := Cond.selects_spec (X.2.2.2.2.1 _ hse)
  cases hclB.symm.trans q1
  cases (State.methodFound?_of_named hnamed ⟨hd.1, hd.2.1⟩).symm.trans q2
  cases hnamed.symm.trans q3
  have hselP : selectMethod e.platform s.vm cellB.cls mk = .method mk := by rw [Launch.admits_selectMethod S.admits]; exact q4
  have hlen : As.length = methM.sig.parameters.length := by
    have h2 := hd.2.2
    rw [hsigM] at h2
    exact hn.trans (Option.some.inj h2).symm
  obtain ⟨vm₁, X₁, hstep₁⟩ := S.invokevirtual X.1 X.2.2.2.1 (X.2.2.2.2.1 _ hl) hnamed hmethM hstM hkP hkPi ⟨hd.1, hd.2.1⟩ (a := b) (cell := cellB) (by rw [hT]; exact hcB) (fun z h => by rw [h] at hoB; cases hoB) hselP hmethM habM hkP hkPi (g := F0 m pc ls (As.reverse ++ .ref b :: rest)) rfl (argsL := As) (rest := rest) hlen rfl (by rw [X.2.1]; exact hdg)
  obtain ⟨v, ⟨U', l2, c2, s2⟩, X', ⟨g', mk', t, L, e1, e2, hq, h1, hL, h2, h3⟩, hsteps⟩ := hK m meth c ⟨T.setVm vm₁, locs, cells, slots⟩ (F0 m pc ls rest) (.invokevirtual index) mk (Value.ref b :: As).toArray X₁ rfl (hsize.trans X.2.2.1.symm) (by rw [X.2.1]; exact hdg) (lv_room hW) (X₁.named hnamed) ⟨hf.1, hf.2, hPc (T.setVm vm₁) hT X₁.warmed⟩
  dsimp only [Pt.U, Pt.locs, Pt.cells, Pt.slots] at X' e1 e2 h1 h2 h3 hsteps
  subst h1; subst h2; subst h3
  exact ⟨v, (T.setVm vm₁).calling g' mk' (Value.ref b :: As).toArray, t, U', L, hT, X', hL, e1, e2, hq, fun target h => hstep₁ _ fun acts => by rw [doInvoke_state]; exact hsteps.trans h⟩
end RH
