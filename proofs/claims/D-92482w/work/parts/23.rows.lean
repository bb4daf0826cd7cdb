set_option maxRecDepth 100000
/-! words that do not ride in the lists: links to nest mates, declared methods -/
def nestF : List (String × Nat × String × String × String) := [("PalaceOfRooms$House", 53, "PalaceOfRooms$Corner", "ghost", "LPalaceOfRooms$Ghost;"), ("PalaceOfRooms", 167, "PalaceOfRooms$Corner", "ghost", "LPalaceOfRooms$Ghost;"), ("PalaceOfRooms", 180, "PalaceOfRooms$Corner", "put", "I"), ("PalaceOfRooms", 138, "PalaceOfRooms$House", "corners", "[LPalaceOfRooms$Corner;"), ("PalaceOfRooms", 206, "PalaceOfRooms$Reader", "row", "[LPalaceOfRooms$Line;"), ("PalaceOfRooms", 209, "PalaceOfRooms$Reader", "many", "I"), ("PalaceOfRooms", 250, "PalaceOfRooms$Orders", "best", "[I"), ("PalaceOfRooms", 247, "PalaceOfRooms$Orders", "least", "I"), ("PalaceOfRooms", 307, "PalaceOfRooms$Pupil", "days", "[I"), ("PalaceOfRooms", 310, "PalaceOfRooms$Pupil", "rights", "[Z"), ("PalaceOfRooms", 306, "PalaceOfRooms$Pupil", "many", "I"), ("PalaceOfRooms$House", 62, "PalaceOfRooms", "gain", "I"), ("PalaceOfRooms$House", 38, "PalaceOfRooms", "falls", "[I"), ("PalaceOfRooms$Reader", 15, "PalaceOfRooms", "text", "[B"), ("PalaceOfRooms$Reader", 35, "PalaceOfRooms", "length", "I"), ("PalaceOfRooms$Laid", 13, "PalaceOfRooms", "hand", "[I"), ("PalaceOfRooms$Code", 19, "PalaceOfRooms", "hand", "[I"), ("PalaceOfRooms$Code", 13, "PalaceOfRooms", "alike", "[[I"), ("PalaceOfRooms", 199, "PalaceOfRooms$Fault", "place", "I")]
def nestM : List (String × Nat × MethodName) := [("PalaceOfRooms$House", 21, ⟨"PalaceOfRooms$Corner", "<init>", "()V"⟩), ("PalaceOfRooms$Corner", 3, ⟨"PalaceOfRooms$Kept", "<init>", "()V"⟩), ("PalaceOfRooms$Corner", 11, ⟨"PalaceOfRooms$Ghost", "<init>", "()V"⟩), ("PalaceOfRooms$Ghost", 3, ⟨"PalaceOfRooms$Kept", "<init>", "()V"⟩), ("PalaceOfRooms", 65, ⟨"PalaceOfRooms$Reader", "<init>", "(LPalaceOfRooms;)V"⟩), ("PalaceOfRooms", 80, ⟨"PalaceOfRooms$Laid", "<init>", "(LPalaceOfRooms;)V"⟩), ("PalaceOfRooms$Laid", 7, ⟨"PalaceOfRooms$Orders", "<init>", "(LPalaceOfRooms;)V"⟩), ("PalaceOfRooms", 87, ⟨"PalaceOfRooms$Code", "<init>", "(LPalaceOfRooms;)V"⟩), ("PalaceOfRooms$Code", 7, ⟨"PalaceOfRooms$Orders", "<init>", "(LPalaceOfRooms;)V"⟩), ("PalaceOfRooms", 100, ⟨"PalaceOfRooms$Pupil", "<init>", "()V"⟩), ("PalaceOfRooms$House", 34, ⟨"PalaceOfRooms", "isLike", "(II)Z"⟩), ("PalaceOfRooms$Reader", 23, ⟨"PalaceOfRooms", "isIn", "(JJJ)Z"⟩), ("PalaceOfRooms$RoomLine", 1, ⟨"PalaceOfRooms$Line", "<init>", "()V"⟩), ("PalaceOfRooms$Again", 1, ⟨"PalaceOfRooms$Line", "<init>", "()V"⟩), ("PalaceOfRooms$Apart", 1, ⟨"PalaceOfRooms$Line", "<init>", "()V"⟩), ("PalaceOfRooms$Every", 1, ⟨"PalaceOfRooms$Line", "<init>", "()V"⟩), ("PalaceOfRooms$Code", 23, ⟨"PalaceOfRooms", "likeness", "(II)I"⟩), ("PalaceOfRooms$Laid", 19, ⟨"PalaceOfRooms", "likeness", "(II)I"⟩)]
def nestD : List MethodName := [⟨"PalaceOfRooms$Kept", "lay", "(II)V"⟩, ⟨"PalaceOfRooms$Kept", "isThere", "()Z"⟩, ⟨"PalaceOfRooms$Kept", "fade", "(I)V"⟩, ⟨"PalaceOfRooms$Orders", "more", "([II)I"⟩, ⟨"PalaceOfRooms$Kept", "copy", "(LPalaceOfRooms$Kept;)V"⟩]
def aoT : List FieldType := [.object "PalaceOfRooms$Corner", .object "PalaceOfRooms$Line", .object "PalaceOfRooms$Pupil", .array .boolean, .array .int]
def casT : List (String × String) := [("PalaceOfRooms$Fault", "PalaceOfRooms$Fault"), ("PalaceOfRooms$RoomLine", "PalaceOfRooms$Line"), ("PalaceOfRooms$Again", "PalaceOfRooms$Line"), ("PalaceOfRooms$Apart", "PalaceOfRooms$Line"), ("PalaceOfRooms$Every", "PalaceOfRooms$Line")]
def selT : List (String × MethodName) := [("PalaceOfRooms$Laid", ⟨"PalaceOfRooms$Orders", "isMet", "(I)Z"⟩), ("PalaceOfRooms$Code", ⟨"PalaceOfRooms$Orders", "isMet", "(I)Z"⟩)]
theorem nestF_tbl : ∀ x ∈ nestF, Cond.fieldLinkNest x.1 x.2.1 x.2.2.1 x.2.2.2.1 x.2.2.2.2 "PalaceOfRooms" ∈ lw_tbl := List.forall_mem_cons.mpr ⟨q133, List.forall_mem_cons.mpr ⟨q134, List.forall_mem_cons.mpr ⟨q136, List.forall_mem_cons.mpr ⟨q145, List.forall_mem_cons.mpr ⟨q161, List.forall_mem_cons.mpr ⟨q163, List.forall_mem_cons.mpr ⟨q196, List.forall_mem_cons.mpr ⟨q199, List.forall_mem_cons.mpr ⟨q237, List.forall_mem_cons.mpr ⟨q239, List.forall_mem_cons.mpr ⟨q241, List.forall_mem_cons.mpr ⟨q254, List.forall_mem_cons.mpr ⟨q255, List.forall_mem_cons.mpr ⟨q263, List.forall_mem_cons.mpr ⟨q265, List.forall_mem_cons.mpr ⟨q268, List.forall_mem_cons.mpr ⟨q269, List.forall_mem_cons.mpr ⟨q271, List.forall_mem_cons.mpr ⟨q617, fun _ h => absurd h List.not_mem_nil⟩⟩⟩⟩⟩⟩⟩⟩⟩⟩⟩⟩⟩⟩⟩⟩⟩⟩⟩
theorem nestM_tbl : ∀ x ∈ nestM, Cond.methodLinkNest x.1 x.2.1 x.2.2 "PalaceOfRooms" ∈ lw_tbl := List.forall_mem_cons.mpr ⟨q96, List.forall_mem_cons.mpr ⟨q99, List.forall_mem_cons.mpr ⟨q105, List.forall_mem_cons.mpr ⟨q108, List.forall_mem_cons.mpr ⟨q156, List.forall_mem_cons.mpr ⟨q186, List.forall_mem_cons.mpr ⟨q189, List.forall_mem_cons.mpr ⟨q216, List.forall_mem_cons.mpr ⟨q219, List.forall_mem_cons.mpr ⟨q232, List.forall_mem_cons.mpr ⟨q441, List.forall_mem_cons.mpr ⟨q497, List.forall_mem_cons.mpr ⟨q638, List.forall_mem_cons.mpr ⟨q655, List.forall_mem_cons.mpr ⟨q666, List.forall_mem_cons.mpr ⟨q678, List.forall_mem_cons.mpr ⟨q835, List.forall_mem_cons.mpr ⟨q839, fun _ h => absurd h List.not_mem_nil⟩⟩⟩⟩⟩⟩⟩⟩⟩⟩⟩⟩⟩⟩⟩⟩⟩⟩
theorem nestD_tbl : ∀ x ∈ nestD, Cond.declares x ∈ lw_tbl := List.forall_mem_cons.mpr ⟨q395, List.forall_mem_cons.mpr ⟨q408, List.forall_mem_cons.mpr ⟨q447, List.forall_mem_cons.mpr ⟨q830, List.forall_mem_cons.mpr ⟨q896, fun _ h => absurd h List.not_mem_nil⟩⟩⟩⟩⟩
/-- what is known of the tables, all through a run -/
def KN (g : Gl) (U : State) : Prop :=
  (∀ (ci : Nat) (q : vw_C), clF ci = some q → u_Kn U q.1 q.2.1 q.2.2 (g.2.2.1.1 ci) (g.2.2.1.2 ci)) ∧
  (∀ t : Nat, t < 8 → ArrOfT U (g.2.2.2.1 t) (tyA t) ∧ va_RA U (g.2.2.2.1 t) (tyA t)) ∧
  (∀ x ∈ nestF, va_Nw (.fieldLinkNest x.1 x.2.1 x.2.2.1 x.2.2.2.1 x.2.2.2.2 "PalaceOfRooms") U) ∧
  (∀ x ∈ nestM, va_Nw (.methodLinkNest x.1 x.2.1 x.2.2 "PalaceOfRooms") U) ∧
  (∀ x ∈ nestD, va_Nw (.declares x) U) ∧ (∀ x ∈ casT, va_Nw (.castable x.1 x.2) U) ∧ (∀ x ∈ aoT, va_Nw (.arrayOver x) U) ∧ STg g U ∧ (∀ x ∈ selT, va_Nw (.selects x.1 x.2 x.2) U)
theorem AOA_moved {t : FieldType} {u U : State} (hvm : u.vm.Alike U.vm) (h : va_Nw (.arrayOver (.array t)) u) : va_Nw (.arrayOver (.array t)) U := by
  obtain ⟨comp, c, k, h1, h2, h3, h4, h5⟩ := arrayOverA_spec h
  obtain ⟨k', hk', he⟩ := hvm.2.2 _ _ h3
  have hi : (U.vm.classes.findIdx? fun (x : Class) => match x.kind with | .array component _ => component == comp | _ => false) = some c := by
    refine (va_idx_bare U.vm comp).symm.trans ?_
    first | rw [hvm.bare_eq] | rw [← hvm.bare_eq]
    exact (va_idx_bare u.vm comp).trans h2
  have hkind : k'.kind = .array comp (.array t) := by rw [he]; exact h4
  have f1 : U.vm.findClass (FieldType.array t).toString = some comp := by rw [hvm.findClass]; exact h1
  have f2 : U.vm.findClass ("[" ++ (FieldType.array t).toString) = some c := by rw [hvm.findClass]; exact h5
  unfold va_Nw Cond.before Cond.holds
  simp only [Cond.value]
  rw [f1, Option.bind_some]
  refine (congrArg (fun o : Option Nat => (o.bind (fun c => (U.vm.classes[c]?).map fun (k : Class) => match k.kind with | .array _ ty => decide (ty = FieldType.array t) && decide (U.vm.findClass ("[" ++ (FieldType.array t).toString) = some c) | _ => false) == some true)) hi).trans ?_
  simp [hk', hkind, f2]
theorem AO_moved {u U : State} (hvm : u.vm.Alike U.vm) : ∀ x ∈ aoT, va_Nw (.arrayOver x) u → va_Nw (.arrayOver x) U := by
  intro x hx h
  simp only [aoT, List.mem_cons, List.not_mem_nil, or_false] at hx
  rcases hx with rfl | rfl | rfl | rfl | rfl
  · exact va_AO.moved hvm h
  · exact va_AO.moved hvm h
  · exact va_AO.moved hvm h
  · exact AOA_moved hvm h
  · exact AOA_moved hvm h
theorem KN.warm {g : Gl} {s U : State} (hW : s.WarmedH U.vm) (h : KN g s) : KN g U := by
  have hv := hW.alike
  obtain ⟨h1, h2, h3, h4, h5, h6, h7, ⟨h8, h9, h10, h11, h12, h13⟩, h14⟩ := h
  exact ⟨fun ci q hq => u_Kn_moved hv (h1 ci q hq), fun t ht => ⟨arrOfT_moved hv (h2 t ht).1, (h2 t ht).2.moved hv⟩, fun x hx => (h3 x hx).warmF hW, fun x hx => (h4 x hx).warmM hW, fun x hx => (h5 x hx).warmD hW, fun x hx => (h6 x hx).warmC hW, fun x hx => AO_moved hv x hx (h7 x hx),
    ⟨h8.moved hv, fun x hx => (h9 x hx).warm hW, h10.moved hv, h11.moved hv, h12.moved hv, h13.moved hv⟩, fun x hx => word_at hW (Or.inl (by rfl)) (h14 x hx)⟩
theorem KN.same {g : Gl} {u U : State} (hv : u.vm = U.vm) (h : KN g u) : KN g U := by
  have ha : u.vm.Alike U.vm := by rw [hv]; exact Vm.Alike.refl _
  obtain ⟨h1, h2, h3, h4, h5, h6, h7, ⟨h8, h9, h10, h11, h12, h13⟩, h14⟩ := h
  exact ⟨fun ci q hq => u_Kn_moved ha (h1 ci q hq), fun t ht => ⟨arrOfT_moved ha (h2 t ht).1, (h2 t ht).2.moved ha⟩, fun x hx => (h3 x hx).same rfl hv, fun x hx => (h4 x hx).same rfl hv, fun x hx => (h5 x hx).same rfl hv, fun x hx => (h6 x hx).same rfl hv, fun x hx => AO_moved ha x hx (h7 x hx),
    ⟨h8.moved ha, fun x hx => (h9 x hx).same hv.symm, h10.moved ha, h11.moved ha, h12.moved ha, h13.moved ha⟩, fun x hx => (h14 x hx).same rfl hv⟩
def WV (g : Gl) (σ : Hp) (U : State) : Prop := KN g U ∧ HV g σ U.heap
/-- a frame's fixed facts -/
abbrev FX (g : Gl) (p : Program) (m : MethodId) (c : Code) (s : State) (args : Array Value) (meth : Method) (cc : ByteArray) (nL : Nat) (own : String) (ret : Option FieldType) (nm : String) : Prop :=
  p.tables.exec = Jvm.exec ∧ c.code = cc ∧ c.maxLocals = nL ∧ s.vm.findClass own = some m.cls ∧ (∀ w ∈ lw_all, w.before args s = true) ∧ KN g s ∧ meth.sig.returnType = ret ∧ meth.locks = false ∧ meth.name = nm
abbrev FR (g : Gl) (locs : List Loc) : Prop := ∀ q ∈ locs, g.1 ≤ q.base
theorem FR_nil {g : Gl} : FR g [] := fun _ h => absurd h List.not_mem_nil
theorem FR_put {g : Gl} {locs : List Loc} {a k : Nat} (h : FR g locs) (ha : g.1 ≤ a) : FR g (locs ++ [⟨a, k⟩]) := by
  intro q hq
  rcases List.mem_append.mp hq with h1 | h1
  · exact h q h1
  · rw [List.mem_singleton.mp h1]
    exact ha
theorem atH.keep {g : Gl} {σ σ1 : Hp} {b : Nat} {kb : Kd} {H H1 : Heap} (h : atH g σ b kb H) (hv : ∀ j, hI σ1 b j = hI σ b j ∧ hR σ1 b j = hR σ b j ∧ hL σ1 b j = hL σ b j) (hq : H1[b]? = H[b]?) : atH g σ1 b kb H1 := by
  cases kb with
  | inl ci =>
    obtain ⟨q, V, h1, h2, h3⟩ := h
    refine ⟨q, V, h1, fun k hk hd => ?_, h3.kept hq⟩
    rw [h2 k hk hd]
    unfold fV
    rw [(hv k).1, (hv k).2.1, (hv k).2.2]
  | inr x =>
    have h' : H[b]? = some (arrV (g.2.2.2.1 x.1) x.2 (aV σ x.1 b)) := h
    show H1[b]? = some (arrV (g.2.2.2.1 x.1) x.2 (aV σ1 x.1 b))
    rw [hq, h']
    have e : aV σ x.1 b = aV σ1 x.1 b := by
      funext j
      unfold aV
      rw [(hv j).1, (hv j).2.1]
    rw [e]
theorem HV.lt {g : Gl} {σ : Hp} {H : Heap} (h : HV g σ H) {a : Nat} {kd : Kd} (ht : hT σ a = some kd) : a < H.size := by
  have h1 := (h.2.2.2 a kd ht).2
  cases kd with
  | inl ci =>
    obtain ⟨q, V, -, -, cell, h2, -⟩ := h1
    exact (Array.getElem?_eq_some_iff.mp h2).1
  | inr x =>
    have h2 : H[a]? = some (arrV (g.2.2.2.1 x.1) x.2 (aV σ x.1 a)) := h1
    exact (Array.getElem?_eq_some_iff.mp h2).1
theorem HV.upd {g : Gl} {σ σ1 : Hp} {H H1 : Heap} {a : Nat} {kd : Kd} (h : HV g σ H) (ht : hT σ a = some kd) (e1 : ∀ b, hT σ1 b = hT σ b) (e2 : hZ σ1 = hZ σ) (e3 : ∀ b j, b ≠ a → hI σ1 b j = hI σ b j ∧ hR σ1 b j = hR σ b j ∧ hL σ1 b j = hL σ b j)
    (z : H1.size = H.size) (oq : ∀ q : Nat, q ≠ a → H1[q]? = H[q]?) (ha : atH g σ1 a kd H1) : HV g σ1 H1 := by
  have hN := (h.2.2.2 a kd ht).1
  refine ⟨by rw [z]; exact h.1, fun q hq => ?_, by rw [e2, z]; exact h.2.2.1, fun b kb hb => ?_⟩
  · rw [oq q (by omega)]
    exact h.2.1 q hq
  · rw [e1] at hb
    by_cases hba : b = a
    · subst hba
      cases ht.symm.trans hb
      exact ⟨hN, ha⟩
    · exact ⟨(h.2.2.2 b kb hb).1, (h.2.2.2 b kb hb).2.keep (fun j => e3 b j hba) (oq b hba)⟩
theorem HV.born {g : Gl} {σ : Hp} {H H1 : Heap} {kd : Kd} (h : HV g σ H) (z : H1.size = H.size + 1) (oq : ∀ q : Nat, q < H.size → H1[q]? = H[q]?) (ha : atH g (born σ kd) H.size kd H1) : HV g (born σ kd) H1 := by
  have hz := h.2.2.1
  have hN := h.1
  refine ⟨by omega, fun q hq => ?_, by rw [hZ_born, hz, z], fun b kb hb => ?_⟩
  · rw [oq q (by omega)]
    exact h.2.1 q hq
  · rw [hT_born, hz] at hb
    by_cases hba : b = H.size
    · subst hba
      rw [if_pos rfl] at hb
      cases hb
      exact ⟨hN, ha⟩
    · rw [if_neg hba] at hb
      refine ⟨(h.2.2.2 b kb hb).1, (h.2.2.2 b kb hb).2.keep (fun j => ?_) (oq b (h.lt hb))⟩
      rw [hI_born, hR_born, hL_born, hz, if_neg hba, if_neg hba, if_neg hba]
      exact ⟨rfl, rfl, rfl⟩
/-- the constant pool's entry 'index' of class own names field k (descriptor d) of class number ci -/
def FLk (own : String) (index ci k : Nat) (d : String) : Prop := ∃ (C : String) (T : u_T) (N : Nat) (ref : String), clF ci = some (C, T, N) ∧ k < N ∧ ¬ dcF ci k ∧ (T k).2.2.1 = d ∧ (∀ w ∈ u_ws C T N, w ∈ lw_all) ∧
  (Cond.fieldLink own index ref (T k).2.1 (T k).2.2.1 ∈ lw_all ∨ (own, index, ref, (T k).2.1, (T k).2.2.1) ∈ nestF) ∧ (ref = (T k).1 ∨ Cond.sameField ref (T k).1 (T k).2.1 (T k).2.2.1 ∈ lw_all)
/-- the same for a store (fin: the field is final, in its own class's constructor) -/
def FPk (own : String) (index ci k : Nat) (d : String) (fin : Bool) : Prop := ∃ (C : String) (T : u_T) (N : Nat) (ref : String) (ty : Nat → FieldType), clF ci = some (C, T, N) ∧ k < N ∧ (dcF ci k → False) ∧ (T k).2.2.1 = d ∧ (∀ w ∈ u_ws C T N, w ∈ lw_all) ∧
  (∀ k, k < N → parseFieldDescriptor (T k).2.2.1 = some (ty k)) ∧ (∀ a, a < N → ∀ b, b < N → a ≠ b → (T a).2.1 ≠ (T b).2.1 ∨ ((T a).2.2.2 = true ∧ (T b).2.2.2 = true ∧ (T a).1 ≠ (T b).1)) ∧ (T k).2.2.2 = fin ∧ (fin = true → (T k).1 = own) ∧
  (Cond.fieldLink own index ref (T k).2.1 (T k).2.2.1 ∈ lw_all ∨ (fin = false ∧ (own, index, ref, (T k).2.1, (T k).2.2.1) ∈ nestF)) ∧ (ref = (T k).1 ∨ Cond.sameField ref (T k).1 (T k).2.1 (T k).2.2.1 ∈ lw_all)
/-- two final fields that different classes declare lie apart -/
theorem apartF {args : Array Value} {s : State} {C O f d O' f' d' : String} (h : (Cond.laysFinal C O f d).before args s = true) (h' : (Cond.laysFinal C O' f' d').before args s = true)
    {cf kf fi fd cf' kf' fi' fd'} (hi : s.fieldFound? O f d = some (cf, kf, fi, fd)) (hi' : s.fieldFound? O' f' d' = some (cf', kf', fi', fd')) (hne : O ≠ O') : fd.slot ≠ fd'.slot := by
  obtain ⟨c1, k1, c1', k1', i1, f1, a1, a2, a3, -, -, -, a4, -, d1, a5, a6, -⟩ := Cond.laysFinal_spec h
  obtain ⟨c2, k2, c2', k2', i2, f2, b1, b2, b3, -, -, -, b4, -, d2, b5, b6, -⟩ := Cond.laysFinal_spec h'
  cases hi.symm.trans a3
  cases hi'.symm.trans b3
  cases a1.symm.trans b1
  intro hs
  rw [hs] at a5
  cases a5.symm.trans b5
  obtain ⟨q1, e1, e2⟩ := Vm.findClass_spec a4
  obtain ⟨q2, e3, e4⟩ := Vm.findClass_spec b4
  cases (State.fieldFound?_spec hi).1.symm.trans e1
  cases (State.fieldFound?_spec hi').1.symm.trans e3
  exact hne (e2.symm.trans (a6.symm.trans (b6.trans e4)))
section RW
variable {p : Program} {l : Launch} {e : Env} {R : Room} {s : State} {m : MethodId} {args : Array Value} {below : List Frame} {meth : Method} {c : Code} {H : Heap} {locs : List Loc} {cells slots : Nat} {Q : State → Prop}
variable {cc : ByteArray} {pc nL : Nat} {ls : Array Slot} {rest : List Value} {g : Gl} {σ : Hp} {own nm : String} {ret : Option FieldType} {ρ : Type} {r : ρ} {a : Nat}
theorem r_get (X : FX g p m c s args meth cc nL own ret nm) (hV : HV g σ H) {index ci k : Nat} {d : String} (f : FLk own index ci k d) (ht : hT σ a = some (.inl ci)) (hdg : decode cc pc = .ok (.getfield index, 3))
    (kk : W p l e R s m args below meth c H locs cells slots Q (F0 m (pc + 3) ls (fV σ a d k :: rest))) : W p l e R s m args below meth c H locs cells slots Q (F0 m pc ls (.ref a :: rest)) := by
  obtain ⟨C, T, N, ref, hc, hk, hdc, hd, hin, hlink, hsame⟩ := f
  obtain ⟨hx, hb, -, hown, hts, hK, -, -, -⟩ := X
  obtain ⟨q, V, hq, hVk, cell, q1, q2, q3, q4⟩ := (hV.2.2.2 a _ ht).2
  cases hc.symm.trans hq
  obtain ⟨hS, hfc, kC, hkC, hkind⟩ := hK.1 ci _ hc
  obtain ⟨cf, kf, fi, f, hi, hsl⟩ := hS k hk
  have hsm : s.fieldFound? ref (T k).2.1 (T k).2.2.1 = some (cf, kf, fi, f) := by
    rcases hsame with e | h
    · rw [e]; exact hi
    · exact u_same (hts _ h) _ hi
  have hst := (u_facts hfc hkC (u_lays hts hin hk) hi).1
  have hv : cell.slots[f.slot]? = some (fV σ a d k) := by
    rw [hsl, q4 k hk, hVk k hk hdc]
    show some (fV σ a (T k).2.2.1 k) = _
    rw [hd]
  rcases hlink with hl | hl
  · exact W.getf hx hb hown (hts _ hl) hsm hst q1 (by rw [q3]; exact fun h => by cases h) hv rfl rfl hdg kk
  · exact va_Wgetf hx hb hown (va_Nw.use rfl (hK.2.2.1 _ hl)) hsm hst q1 (by rw [q3]; exact fun h => by cases h) hv rfl rfl hdg kk
theorem r_gI (X : FX g p m c s args meth cc nL own ret nm) (hV : HV g σ H) {index ci k : Nat} (f : FLk own index ci k "I") (hdg : decode cc pc = .ok (.getfield index, 3)) {K : Int32 → Option ρ} (h : b1 (gI ci k a σ) K = some r)
    (kk : ∀ v, K v = some r → W p l e R s m args below meth c H locs cells slots Q (F0 m (pc + 3) ls (.int v :: rest))) : W p l e R s m args below meth c H locs cells slots Q (F0 m pc ls (.ref a :: rest)) := by
  obtain ⟨v, h1, h2⟩ := b1_inv h
  obtain ⟨ht, rfl⟩ := gI_inv h1
  exact r_get X hV f ht hdg (kk _ h2)
theorem r_gL (X : FX g p m c s args meth cc nL own ret nm) (hV : HV g σ H) {index ci k : Nat} (f : FLk own index ci k "J") (hdg : decode cc pc = .ok (.getfield index, 3)) {K : Int64 → Option ρ} (h : b1 (gL ci k a σ) K = some r)
    (kk : ∀ v, K v = some r → W p l e R s m args below meth c H locs cells slots Q (F0 m (pc + 3) ls (.long v :: rest))) : W p l e R s m args below meth c H locs cells slots Q (F0 m pc ls (.ref a :: rest)) := by
  obtain ⟨v, h1, h2⟩ := b1_inv h
  obtain ⟨ht, rfl⟩ := gL_inv h1
  exact r_get X hV f ht hdg (kk _ h2)
theorem r_gR (X : FX g p m c s args meth cc nL own ret nm) (hV : HV g σ H) {index ci k : Nat} {d : String} (f : FLk own index ci k d) (hd : ¬ d = "I" ∧ ¬ d = "J") (hdg : decode cc pc = .ok (.getfield index, 3)) {K : Nat → Option ρ} (h : b1 (gR ci k a σ) K = some r)
    (kk : ∀ v, K v = some r → W p l e R s m args below meth c H locs cells slots Q (F0 m (pc + 3) ls (.ref v :: rest))) : W p l e R s m args below meth c H locs cells slots Q (F0 m pc ls (.ref a :: rest)) := by
  obtain ⟨v, h1, h2⟩ := b1_inv h
  obtain ⟨ht, hv⟩ := gR_inv h1
  refine r_get X hV f ht hdg ?_
  unfold fV
  rw [if_neg hd.1, if_neg hd.2, hv]
  exact kk _ h2
theorem r_put (X : FX g p m c s args meth cc nL own ret nm) (hV : HV g σ H) (hF : FR g locs) {index ci k : Nat} {d : String} {fin : Bool} (f : FPk own index ci k d fin) (hfin : fin = true → nm = "<init>") (ht : hT σ a = some (.inl ci)) {v : Value} {ty : FieldType} (hty : parseFieldDescriptor d = some ty) (hn : narrow ty v = v) (hfit : fits ty v = true) {σ1 : Hp}
    (e1 : ∀ b, hT σ1 b = hT σ b) (e2 : hZ σ1 = hZ σ) (e3 : ∀ b j, b ≠ a → hI σ1 b j = hI σ b j ∧ hR σ1 b j = hR σ b j ∧ hL σ1 b j = hL σ b j) (e4 : fV σ1 a d k = v) (e5 : ∀ j, j ≠ k → hI σ1 a j = hI σ a j ∧ hR σ1 a j = hR σ a j ∧ hL σ1 a j = hL σ a j) (hdg : decode cc pc = .ok (.putfield index, 3))
    (kk : ∀ H1 locs1, HV g σ1 H1 → FR g locs1 → W p l e R s m args below meth c H1 locs1 cells slots Q (F0 m (pc + 3) ls rest)) : W p l e R s m args below meth c H locs cells slots Q (F0 m pc ls (v :: .ref a :: rest)) := by
  obtain ⟨C, T, N, ref, ty0, hc, hk, hdc, hd, hin, hty0, hnm, hfi, hdecl, hlink, hsame⟩ := f
  obtain ⟨hx, hb, -, hown, hts, hK, -, -, hname⟩ := X
  have hN := (hV.2.2.2 a _ ht).1
  obtain ⟨q, V, hq, hVk, cell, q1, q2, q3, q4⟩ := (hV.2.2.2 a _ ht).2
  cases hc.symm.trans hq
  obtain ⟨hS, hfc, kC, hkC, hkind⟩ := hK.1 ci _ hc
  have hap : ∀ x y, x < N → y < N → x ≠ y → (g.2.2.1.2 ci) x ≠ (g.2.2.1.2 ci) y := by
    intro x y hx hy hne
    obtain ⟨_, _, _, fa, hia, ea⟩ := hS x hx
    obtain ⟨_, _, _, fb, hib, eb⟩ := hS y hy
    rw [← ea, ← eb]
    rcases hnm x hx y hy hne with q | ⟨f1, f2, q⟩
    · refine u_apart (u_lays hts hin hx) (u_lays hts hin hy) hia hib ?_
      rw [(State.fieldFound?_type hia (hty0 x hx)).1, (State.fieldFound?_type hib (hty0 y hy)).1]
      exact q
    · have l1 := hts _ (hin _ (u_in_lay hx))
      have l2 := hts _ (hin _ (u_in_lay hy))
      unfold u_lay at l1 l2
      rw [if_pos f1] at l1
      rw [if_pos f2] at l2
      exact apartF l1 l2 hia hib q
  obtain ⟨cf, kf, fi, f, hi, hsl⟩ := hS k hk
  have hsm : s.fieldFound? ref (T k).2.1 (T k).2.2.1 = some (cf, kf, fi, f) := by
    rcases hsame with e | h
    · rw [e]; exact hi
    · exact u_same (hts _ h) _ hi
  have hst := (u_facts hfc hkC (u_lays hts hin hk) hi).1
  have hd2 : parseFieldDescriptor (T k).2.2.1 = some ty := by rw [hd]; exact hty
  have fin : ∀ H' : Heap, H'[a]? = some (cell.setSlot f.slot v) → H'.size = H.size → (∀ q, q ≠ a → H'[q]? = H[q]?) → W p l e R s m args below meth c H' (locs ++ [⟨a, f.slot⟩]) cells slots Q (F0 m (pc + 3) ls rest) := by
    intro H' w1 w2 w3
    rw [hsl] at w1
    refine kk H' _ (hV.upd ht e1 e2 e3 w2 w3 ⟨_, updV V k v, hc, fun j hj hdj => ?_, ⟨_, w1, q2, q3, t_set q4 hap hk v⟩⟩) (FR_put hF hN)
    by_cases hjk : j = k
    · subst hjk
      show updV _ j v j = fV σ1 a (T j).2.2.1 j
      rw [hd, e4]
      simp [updV]
    · show updV _ k v j = fV σ1 a (T j).2.2.1 j
      have e6 : updV V k v j = V j := by simp [updV, hjk]
      rw [e6, hVk j hj hdj]
      show fV σ a (T j).2.2.1 j = _
      unfold fV
      rw [(e5 j hjk).1, (e5 j hjk).2.1, (e5 j hjk).2.2]
  have hlay := hts _ (hin _ (u_in_lay hk))
  unfold u_lay at hlay
  cases hfb : (T k).2.2.2 with
  | false =>
    rw [if_neg (by rw [hfb]; decide)] at hlay
    have h6 := u_store hfc hkC hkind hlay hi hd2 hn hfit
    rcases hlink with hlink | ⟨-, hlink⟩
    case inr => exact va_WputK hx hb hown (va_Nw.use rfl (hK.2.2.1 _ hlink)) hsm hst (by rw [q2]; exact h6) q1 q3 (by rw [hsl]; exact k2_hasslot (q4 k hk)) rfl rfl hdg fin
    exact W.putK hx hb (f := f) ⟨hown, hts _ hlink, ⟨_, _, _, hsm⟩, hst⟩ (by rw [q2]; exact h6) q1 q3 (by rw [hsl]; exact k2_hasslot (q4 k hk)) rfl rfl hdg fin
  | true =>
    rw [if_pos hfb] at hlay
    rw [hfb] at hfi
    rcases hlink with hlink | ⟨hlf, -⟩
    case inr => rw [← hfi] at hlf; cases hlf
    have hcf : m.cls = cf := by
      obtain ⟨_, _, c', _, _, _, -, -, hf', -, -, -, hown2, -⟩ := Cond.laysFinal_spec hlay
      have e1 : c' = cf := by have := hi.symm.trans hf'; simp at this; exact this.1.symm
      rw [hdecl hfi.symm] at hown2
      rw [← e1]; exact Option.some.inj (hown.symm.trans hown2)
    have h6 := u_fits hfc hkC hkind (Or.inr hlay) hi hd2 hn hfit
    exact W.putFinK hx hb hown (hts _ hlink) hsm hst hcf (by rw [hname]; exact hfin hfi.symm) (by rw [q2]; exact h6) q1 q3 (by rw [hsl]; exact k2_hasslot (q4 k hk)) rfl rfl hdg fin
theorem r_pI (X : FX g p m c s args meth cc nL own ret nm) (hV : HV g σ H) (hF : FR g locs) {index ci k : Nat} {fin : Bool} (f : FPk own index ci k "I" fin) (hfin : fin = true → nm = "<init>") (hdg : decode cc pc = .ok (.putfield index, 3)) {v : Int32} {K : Hp → Option ρ} (h : b1 (pI ci k a v σ) K = some r)
    (kk : ∀ σ1 H1 locs1, HV g σ1 H1 → FR g locs1 → K σ1 = some r → W p l e R s m args below meth c H1 locs1 cells slots Q (F0 m (pc + 3) ls rest)) : W p l e R s m args below meth c H locs cells slots Q (F0 m pc ls (.int v :: .ref a :: rest)) := by
  obtain ⟨σ1, h1, h2⟩ := b1_inv h
  obtain ⟨ht, rfl⟩ := pI_inv h1
  refine r_put (σ1 := setI σ a k v) X hV hF f hfin ht (ty := .int) (by decide +kernel) rfl rfl (fun _ => rfl) rfl (fun b j hb => ⟨?_, rfl, rfl⟩) ?_ (fun j hj => ⟨?_, rfl, rfl⟩) hdg (fun H1 locs1 w1 w2 => kk _ _ _ w1 w2 h2)
  · rw [hI_setI, if_neg (fun q => hb q.1)]
  · show fV (setI σ a k v) a "I" k = _
    unfold fV
    rw [if_pos rfl, hI_setI, if_pos ⟨rfl, rfl⟩]
  · rw [hI_setI, if_neg (fun q => hj q.2)]
theorem r_pL (X : FX g p m c s args meth cc nL own ret nm) (hV : HV g σ H) (hF : FR g locs) {index ci k : Nat} {fin : Bool} (f : FPk own index ci k "J" fin) (hfin : fin = true → nm = "<init>") (hdg : decode cc pc = .ok (.putfield index, 3)) {v : Int64} {K : Hp → Option ρ} (h : b1 (pL ci k a v σ) K = some r)
    (kk : ∀ σ1 H1 locs1, HV g σ1 H1 → FR g locs1 → K σ1 = some r → W p l e R s m args below meth c H1 locs1 cells slots Q (F0 m (pc + 3) ls rest)) : W p l e R s m args below meth c H locs cells slots Q (F0 m pc ls (.long v :: .ref a :: rest)) := by
  obtain ⟨σ1, h1, h2⟩ := b1_inv h
  obtain ⟨ht, rfl⟩ := pL_inv h1
  refine r_put (σ1 := setL σ a k v) X hV hF f hfin ht (ty := .long) (by decide +kernel) rfl rfl (fun _ => rfl) rfl (fun b j hb => ⟨rfl, rfl, ?_⟩) ?_ (fun j hj => ⟨rfl, rfl, ?_⟩) hdg (fun H1 locs1 w1 w2 => kk _ _ _ w1 w2 h2)
  · rw [hL_setL, if_neg (fun q => hb q.1)]
  · show fV (setL σ a k v) a "J" k = _
    unfold fV
    rw [if_neg (by decide), if_pos rfl, hL_setL, if_pos ⟨rfl, rfl⟩]
  · rw [hL_setL, if_neg (fun q => hj q.2)]
theorem r_pR (X : FX g p m c s args meth cc nL own ret nm) (hV : HV g σ H) (hF : FR g locs) {index ci k : Nat} {d : String} {fin : Bool} (f : FPk own index ci k d fin) (hfin : fin = true → nm = "<init>") (hd : ¬ d = "I" ∧ ¬ d = "J") {ty : FieldType} (hty : parseFieldDescriptor d = some ty) (hdg : decode cc pc = .ok (.putfield index, 3)) {v : Nat} (hn : narrow ty (.ref v) = .ref v) (hfit : fits ty (.ref v) = true) {K : Hp → Option ρ} (h : b1 (pR ci k a v σ) K = some r)
    (kk : ∀ σ1 H1 locs1, HV g σ1 H1 → FR g locs1 → K σ1 = some r → W p l e R s m args below meth c H1 locs1 cells slots Q (F0 m (pc + 3) ls rest)) : W p l e R s m args below meth c H locs cells slots Q (F0 m pc ls (.ref v :: .ref a :: rest)) := by
  obtain ⟨σ1, h1, h2⟩ := b1_inv h
  obtain ⟨ht, rfl⟩ := pR_inv h1
  refine r_put (σ1 := setR σ a k (some v)) X hV hF f hfin ht hty hn hfit (fun _ => rfl) rfl (fun b j hb => ⟨rfl, ?_, rfl⟩) ?_ (fun j hj => ⟨rfl, ?_, rfl⟩) hdg (fun H1 locs1 w1 w2 => kk _ _ _ w1 w2 h2)
  · rw [hR_setR, if_neg (fun q => hb q.1)]
  · show fV (setR σ a k (some v)) a d k = _
    unfold fV
    rw [if_neg hd.1, if_neg hd.2, hR_setR, if_pos ⟨rfl, rfl⟩]
    rfl
  · rw [hR_setR, if_neg (fun q => hj q.2)]
theorem r_arr (hV : HV g σ H) {t n : Nat} (ht : hT σ a = some (.inr (t, n))) : H[a]? = some (arrV (g.2.2.2.1 t) n (aV σ t a)) := (hV.2.2.2 a _ ht).2
theorem r_ia (X : FX g p m c s args meth cc nL own ret nm) (hV : HV g σ H) (hdg : decode cc pc = .ok (.iaload, 1)) {j : Int32} {K : Int32 → Option ρ} (h : b1 (aI 0 a j σ) K = some r)
    (kk : ∀ v, K v = some r → W p l e R s m args below meth c H locs cells slots Q (F0 m (pc + 1) ls (.int v :: rest))) : W p l e R s m args below meth c H locs cells slots Q (F0 m pc ls (.int j :: .ref a :: rest)) := by
  obtain ⟨v, h1, h2⟩ := b1_inv h
  obtain ⟨n, ht, hin, rfl⟩ := aI_inv h1
  have hlt : j.toNatClampNeg < n := Nat.not_le.mp fun q => hin (Or.inr q)
  exact W.iald (v := .int (hI σ a j.toNatClampNeg)) X.1 X.2.1 (r_arr hV ht) ((X.2.2.2.2.2.1.2.1 0 (by decide)).1 n _) (fun q => by cases q) (by rw [arrV_size]; exact hin) (by rw [arrV_read _ _ hlt]; rfl) rfl rfl hdg (kk _ h2)
theorem r_za (X : FX g p m c s args meth cc nL own ret nm) (hV : HV g σ H) (hdg : decode cc pc = .ok (.baload, 1)) {j : Int32} {K : Int32 → Option ρ} (h : b1 (aI 1 a j σ) K = some r)
    (kk : ∀ v, K v = some r → W p l e R s m args below meth c H locs cells slots Q (F0 m (pc + 1) ls (.int v :: rest))) : W p l e R s m args below meth c H locs cells slots Q (F0 m pc ls (.int j :: .ref a :: rest)) := by
  obtain ⟨v, h1, h2⟩ := b1_inv h
  obtain ⟨n, ht, hin, rfl⟩ := aI_inv h1
  have hlt : j.toNatClampNeg < n := Nat.not_le.mp fun q => hin (Or.inr q)
  exact W.zald (v := .int (hI σ a j.toNatClampNeg)) X.1 X.2.1 (r_arr hV ht) ((X.2.2.2.2.2.1.2.1 1 (by decide)).1 n _) (fun q => by cases q) (by rw [arrV_size]; exact hin) (by rw [arrV_read _ _ hlt]; rfl) rfl rfl hdg (kk _ h2)
theorem r_ba (X : FX g p m c s args meth cc nL own ret nm) (hV : HV g σ H) (hdg : decode cc pc = .ok (.baload, 1)) {j : Int32} {K : Int32 → Option ρ} (h : b1 (aI 2 a j σ) K = some r)
    (kk : ∀ v, K v = some r → W p l e R s m args below meth c H locs cells slots Q (F0 m (pc + 1) ls (.int v :: rest))) : W p l e R s m args below meth c H locs cells slots Q (F0 m pc ls (.int j :: .ref a :: rest)) := by
  obtain ⟨v, h1, h2⟩ := b1_inv h
  obtain ⟨n, ht, hin, rfl⟩ := aI_inv h1
  have hlt : j.toNatClampNeg < n := Nat.not_le.mp fun q => hin (Or.inr q)
  exact W.bald (v := .int (hI σ a j.toNatClampNeg)) X.1 X.2.1 (r_arr hV ht) ((X.2.2.2.2.2.1.2.1 2 (by decide)).1 n _) (fun q => by cases q) (by rw [arrV_size]; exact hin) (by rw [arrV_read _ _ hlt]; rfl) rfl rfl hdg (kk _ h2)
theorem r_aa (X : FX g p m c s args meth cc nL own ret nm) (hV : HV g σ H) (hdg : decode cc pc = .ok (.aaload, 1)) {t : Nat} (ht3 : 3 ≤ t ∧ t < 8) {j : Int32} {K : Nat → Option ρ} (h : b1 (aR t a j σ) K = some r)
    (kk : ∀ v, K v = some r → W p l e R s m args below meth c H locs cells slots Q (F0 m (pc + 1) ls (.ref v :: rest))) : W p l e R s m args below meth c H locs cells slots Q (F0 m pc ls (.int j :: .ref a :: rest)) := by
  obtain ⟨v, h1, h2⟩ := b1_inv h
  obtain ⟨n, ht, hin, hv⟩ := aR_inv h1
  have hlt : j.toNatClampNeg < n := Nat.not_le.mp fun q => hin (Or.inr q)
  refine W.aald (v := .ref v) (ty := tyA t) X.1 X.2.1 (r_arr hV ht) ((X.2.2.2.2.2.1.2.1 t ht3.2).1 n _) ?_ (fun q => by cases q) (by rw [arrV_size]; exact hin) ?_ rfl rfl hdg (kk _ h2)
  · have h8 := ht3.2
    have h3 := ht3.1
    match t, h3, h8 with
    | 3, _, _ => rfl
    | 4, _, _ => rfl
    | 5, _, _ => rfl
    | 6, _, _ => rfl
    | 7, _, _ => rfl
  · rw [arrV_read _ _ hlt]
    unfold aV
    rw [if_neg (by omega), hv]
    rfl
theorem r_len (X : FX g p m c s args meth cc nL own ret nm) (hV : HV g σ H) (hdg : decode cc pc = .ok (.arraylength, 1)) {t : Nat} (ht8 : t < 8) {K : Int32 → Option ρ} (h : b1 (aL t a σ) K = some r)
    (kk : ∀ v, K v = some r → W p l e R s m args below meth c H locs cells slots Q (F0 m (pc + 1) ls (.int v :: rest))) : W p l e R s m args below meth c H locs cells slots Q (F0 m pc ls (.ref a :: rest)) := by
  obtain ⟨v, h1, h2⟩ := b1_inv h
  obtain ⟨n, ht, rfl⟩ := aL_inv h1
  exact W.alen (n := Int32.ofNat n) (ty := tyA t) X.1 X.2.1 (r_arr hV ht) ((X.2.2.2.2.2.1.2.1 t ht8).1 n _) (by rw [arrV_size] <;> rfl) rfl rfl hdg (kk _ h2)
theorem r_stI (hV : HV g σ H) {H1 : Heap} {t n i : Nat} {x : Int32} (ht3 : t < 3) (ht : hT σ a = some (.inr (t, n))) (w1 : H1[a]? = some ((arrV (g.2.2.2.1 t) n (aV σ t a)).setSlot i (.int x))) (z : H1.size = H.size) (oq : ∀ q, q ≠ a → H1[q]? = H[q]?) : HV g (setI σ a i x) H1 := by
  refine hV.upd ht (fun _ => rfl) rfl (fun b j hb => ⟨?_, rfl, rfl⟩) z oq ?_
  · rw [hI_setI, if_neg (fun q => hb q.1)]
  · show H1[a]? = some (arrV (g.2.2.2.1 t) n (aV (setI σ a i x) t a))
    rw [w1, arrV_store]
    congr 2
    funext q
    show (if q = i then Value.int x else aV σ t a q) = aV (setI σ a i x) t a q
    unfold aV
    rw [if_pos ht3, if_pos ht3, hI_setI]
    by_cases hq : q = i
    · rw [if_pos hq, if_pos ⟨rfl, hq⟩]
    · rw [if_neg hq, if_neg (fun z => hq z.2)]
theorem r_stR (hV : HV g σ H) {H1 : Heap} {t n i v : Nat} (ht3 : ¬ t < 3) (ht : hT σ a = some (.inr (t, n))) (w1 : H1[a]? = some ((arrV (g.2.2.2.1 t) n (aV σ t a)).setSlot i (.ref v))) (z : H1.size = H.size) (oq : ∀ q, q ≠ a → H1[q]? = H[q]?) : HV g (setR σ a i (some v)) H1 := by
  refine hV.upd ht (fun _ => rfl) rfl (fun b j hb => ⟨rfl, ?_, rfl⟩) z oq ?_
  · rw [hR_setR, if_neg (fun q => hb q.1)]
  · show H1[a]? = some (arrV (g.2.2.2.1 t) n (aV (setR σ a i (some v)) t a))
    rw [w1, arrV_store]
    congr 2
    funext q
    show (if q = i then Value.ref v else aV σ t a q) = aV (setR σ a i (some v)) t a q
    unfold aV
    rw [if_neg ht3, if_neg ht3, hR_setR]
    by_cases hq : q = i
    · rw [if_pos hq, if_pos ⟨rfl, hq⟩]
      rfl
    · rw [if_neg hq, if_neg (fun z => hq z.2)]
theorem r_is (X : FX g p m c s args meth cc nL own ret nm) (hV : HV g σ H) (hF : FR g locs) (hdg : decode cc pc = .ok (.iastore, 1)) {j x : Int32} {K : Hp → Option ρ} (h : b1 (sI 0 a j x σ) K = some r)
    (kk : ∀ σ1 H1 locs1, HV g σ1 H1 → FR g locs1 → K σ1 = some r → W p l e R s m args below meth c H1 locs1 cells slots Q (F0 m (pc + 1) ls rest)) : W p l e R s m args below meth c H locs cells slots Q (F0 m pc ls (.int x :: .int j :: .ref a :: rest)) := by
  obtain ⟨σ1, h1, h2⟩ := b1_inv h
  obtain ⟨n, ht, hin, rfl⟩ := sI_inv h1
  exact W.iast X.1 X.2.1 (r_arr hV ht) ((X.2.2.2.2.2.1.2.1 0 (by decide)).1 n _) (fun q => by cases q) (by rw [arrV_size]; exact hin) rfl rfl hdg fun H1 w z oq => kk _ _ _ (r_stI hV (by decide) ht w z oq) (FR_put hF (hV.2.2.2 a _ ht).1) h2
theorem r_zs (X : FX g p m c s args meth cc nL own ret nm) (hV : HV g σ H) (hF : FR g locs) (hdg : decode cc pc = .ok (.bastore, 1)) {j x : Int32} {K : Hp → Option ρ} (h : b1 (sI 1 a j (vp_nar .boolean x) σ) K = some r)
    (kk : ∀ σ1 H1 locs1, HV g σ1 H1 → FR g locs1 → K σ1 = some r → W p l e R s m args below meth c H1 locs1 cells slots Q (F0 m (pc + 1) ls rest)) : W p l e R s m args below meth c H locs cells slots Q (F0 m pc ls (.int x :: .int j :: .ref a :: rest)) := by
  obtain ⟨σ1, h1, h2⟩ := b1_inv h
  obtain ⟨n, ht, hin, rfl⟩ := sI_inv h1
  exact W.zast X.1 X.2.1 (r_arr hV ht) ((X.2.2.2.2.2.1.2.1 1 (by decide)).1 n _) (fun q => by cases q) (by rw [arrV_size]; exact hin) rfl rfl hdg fun H1 w z oq => kk _ _ _ (r_stI hV (by decide) ht w z oq) (FR_put hF (hV.2.2.2 a _ ht).1) h2
theorem r_bs (X : FX g p m c s args meth cc nL own ret nm) (hV : HV g σ H) (hF : FR g locs) (hdg : decode cc pc = .ok (.bastore, 1)) {j x : Int32} {K : Hp → Option ρ} (h : b1 (sI 2 a j (vp_nar .byte x) σ) K = some r)
    (kk : ∀ σ1 H1 locs1, HV g σ1 H1 → FR g locs1 → K σ1 = some r → W p l e R s m args below meth c H1 locs1 cells slots Q (F0 m (pc + 1) ls rest)) : W p l e R s m args below meth c H locs cells slots Q (F0 m pc ls (.int x :: .int j :: .ref a :: rest)) := by
  obtain ⟨σ1, h1, h2⟩ := b1_inv h
  obtain ⟨n, ht, hin, rfl⟩ := sI_inv h1
  exact W.bast X.1 X.2.1 (r_arr hV ht) ((X.2.2.2.2.2.1.2.1 2 (by decide)).1 n _) (fun q => by cases q) (by rw [arrV_size]; exact hin) rfl rfl hdg fun H1 w z oq => kk _ _ _ (r_stI hV (by decide) ht w z oq) (FR_put hF (hV.2.2.2 a _ ht).1) h2
theorem r_dz {y x : Int32} (hx : p.tables.exec = Jvm.exec) (hb : c.code = cc) (hdg : decode cc pc = .ok (.idiv, 1)) {K : Option ρ} (h : dz y K = some r) (kk : K = some r → W p l e R s m args below meth c H locs cells slots Q (F0 m (pc + 1) ls (.int (x / y) :: rest))) : W p l e R s m args below meth c H locs cells slots Q (F0 m pc ls (.int y :: .int x :: rest)) := by
  unfold dz at h
  split at h
  · cases h
  · rename_i hne
    exact lv_idiv hx hb hdg hne (kk h)
theorem r_rz {y x : Int32} (hx : p.tables.exec = Jvm.exec) (hb : c.code = cc) (hdg : decode cc pc = .ok (.irem, 1)) {K : Option ρ} (h : dz y K = some r) (kk : K = some r → W p l e R s m args below meth c H locs cells slots Q (F0 m (pc + 1) ls (.int (x - x / y * y) :: rest))) : W p l e R s m args below meth c H locs cells slots Q (F0 m pc ls (.int y :: .int x :: rest)) := by
  unfold dz at h
  split at h
  · cases h
  · rename_i hne
    exact lv_irem hx hb hdg hne (kk h)
section BR
variable {A B : Option ρ} {x y : Int32} {off : Int} {tgt : Nat}
theorem r_ifeq (hx : p.tables.exec = Jvm.exec) (hb : c.code = cc) (hdg : decode cc pc = .ok (.ifCond .eq off, 3)) (ht : (pc : Int) + off = (tgt : Int)) (h : (if x = 0 then A else B) = some r) (kt : A = some r → W p l e R s m args below meth c H locs cells slots Q (F0 m tgt ls rest)) (kf : B = some r → W p l e R s m args below meth c H locs cells slots Q (F0 m (pc + 3) ls rest)) : W p l e R s m args below meth c H locs cells slots Q (F0 m pc ls (.int x :: rest)) :=
  lv_if_eq hx hb hdg ht (fun q => kt (by rwa [if_pos q] at h)) (fun q => kf (by rwa [if_neg q] at h))
theorem r_ifne (hx : p.tables.exec = Jvm.exec) (hb : c.code = cc) (hdg : decode cc pc = .ok (.ifCond .ne off, 3)) (ht : (pc : Int) + off = (tgt : Int)) (h : (if x = 0 then A else B) = some r) (kt : B = some r → W p l e R s m args below meth c H locs cells slots Q (F0 m tgt ls rest)) (kf : A = some r → W p l e R s m args below meth c H locs cells slots Q (F0 m (pc + 3) ls rest)) : W p l e R s m args below meth c H locs cells slots Q (F0 m pc ls (.int x :: rest)) :=
  lv_if_ne hx hb hdg ht (fun q => kt (by first | rwa [if_neg q] at h | rwa [if_neg (by simpa using q)] at h)) (fun q => kf (by first | rwa [if_pos q] at h | rwa [if_pos (by simpa using q)] at h))
theorem r_iflt (hx : p.tables.exec = Jvm.exec) (hb : c.code = cc) (hdg : decode cc pc = .ok (.ifCond .lt off, 3)) (ht : (pc : Int) + off = (tgt : Int)) (h : (if x < 0 then A else B) = some r) (kt : A = some r → W p l e R s m args below meth c H locs cells slots Q (F0 m tgt ls rest)) (kf : B = some r → W p l e R s m args below meth c H locs cells slots Q (F0 m (pc + 3) ls rest)) : W p l e R s m args below meth c H locs cells slots Q (F0 m pc ls (.int x :: rest)) :=
  lv_if_lt hx hb hdg ht (fun q => kt (by rwa [if_pos q] at h)) (fun q => kf (by rwa [if_neg q] at h))
theorem r_ifge (hx : p.tables.exec = Jvm.exec) (hb : c.code = cc) (hdg : decode cc pc = .ok (.ifCond .ge off, 3)) (ht : (pc : Int) + off = (tgt : Int)) (h : (if 0 ≤ x then A else B) = some r) (kt : A = some r → W p l e R s m args below meth c H locs cells slots Q (F0 m tgt ls rest)) (kf : B = some r → W p l e R s m args below meth c H locs cells slots Q (F0 m (pc + 3) ls rest)) : W p l e R s m args below meth c H locs cells slots Q (F0 m pc ls (.int x :: rest)) :=
  lv_if_ge hx hb hdg ht (fun q => kt (by rwa [if_pos q] at h)) (fun q => kf (by rwa [if_neg q] at h))
theorem r_ifgt (hx : p.tables.exec = Jvm.exec) (hb : c.code = cc) (hdg : decode cc pc = .ok (.ifCond .gt off, 3)) (ht : (pc : Int) + off = (tgt : Int)) (h : (if 0 < x then A else B) = some r) (kt : A = some r → W p l e R s m args below meth c H locs cells slots Q (F0 m tgt ls rest)) (kf : B = some r → W p l e R s m args below meth c H locs cells slots Q (F0 m (pc + 3) ls rest)) : W p l e R s m args below meth c H locs cells slots Q (F0 m pc ls (.int x :: rest)) :=
  lv_if_gt hx hb hdg ht (fun q => kt (by rwa [if_pos q] at h)) (fun q => kf (by rwa [if_neg q] at h))
theorem r_ifle (hx : p.tables.exec = Jvm.exec) (hb : c.code = cc) (hdg : decode cc pc = .ok (.ifCond .le off, 3)) (ht : (pc : Int) + off = (tgt : Int)) (h : (if x ≤ 0 then A else B) = some r) (kt : A = some r → W p l e R s m args below meth c H locs cells slots Q (F0 m tgt ls rest)) (kf : B = some r → W p l e R s m args below meth c H locs cells slots Q (F0 m (pc + 3) ls rest)) : W p l e R s m args below meth c H locs cells slots Q (F0 m pc ls (.int x :: rest)) :=
  lv_if_le hx hb hdg ht (fun q => kt (by rwa [if_pos q] at h)) (fun q => kf (by rwa [if_neg q] at h))
theorem r_eq (hx : p.tables.exec = Jvm.exec) (hb : c.code = cc) (hdg : decode cc pc = .ok (.if_icmp .eq off, 3)) (ht : (pc : Int) + off = (tgt : Int)) (h : (if x = y then A else B) = some r) (kt : A = some r → W p l e R s m args below meth c H locs cells slots Q (F0 m tgt ls rest)) (kf : B = some r → W p l e R s m args below meth c H locs cells slots Q (F0 m (pc + 3) ls rest)) : W p l e R s m args below meth c H locs cells slots Q (F0 m pc ls (.int y :: .int x :: rest)) :=
  lv_icmp_eq hx hb hdg ht (fun q => kt (by rwa [if_pos q] at h)) (fun q => kf (by rwa [if_neg q] at h))
theorem r_ne (hx : p.tables.exec = Jvm.exec) (hb : c.code = cc) (hdg : decode cc pc = .ok (.if_icmp .ne off, 3)) (ht : (pc : Int) + off = (tgt : Int)) (h : (if x = y then A else B) = some r) (kt : B = some r → W p l e R s m args below meth c H locs cells slots Q (F0 m tgt ls rest)) (kf : A = some r → W p l e R s m args below meth c H locs cells slots Q (F0 m (pc + 3) ls rest)) : W p l e R s m args below meth c H locs cells slots Q (F0 m pc ls (.int y :: .int x :: rest)) :=
  lv_icmp_ne hx hb hdg ht (fun q => kt (by first | rwa [if_neg q] at h | rwa [if_neg (by simpa using q)] at h)) (fun q => kf (by first | rwa [if_pos q] at h | rwa [if_pos (by simpa using q)] at h))
theorem r_lt (hx : p.tables.exec = Jvm.exec) (hb : c.code = cc) (hdg : decode cc pc = .ok (.if_icmp .lt off, 3)) (ht : (pc : Int) + off = (tgt : Int)) (h : (if x < y then A else B) = some r) (kt : A = some r → W p l e R s m args below meth c H locs cells slots Q (F0 m tgt ls rest)) (kf : B = some r → W p l e R s m args below meth c H locs cells slots Q (F0 m (pc + 3) ls rest)) : W p l e R s m args below meth c H locs cells slots Q (F0 m pc ls (.int y :: .int x :: rest)) :=
  lv_icmp_lt hx hb hdg ht (fun q => kt (by rwa [if_pos q] at h)) (fun q => kf (by rwa [if_neg q] at h))
theorem r_ge (hx : p.tables.exec = Jvm.exec) (hb : c.code = cc) (hdg : decode cc pc = .ok (.if_icmp .ge off, 3)) (ht : (pc : Int) + off = (tgt : Int)) (h : (if y ≤ x then A else B) = some r) (kt : A = some r → W p l e R s m args below meth c H locs cells slots Q (F0 m tgt ls rest)) (kf : B = some r → W p l e R s m args below meth c H locs cells slots Q (F0 m (pc + 3) ls rest)) : W p l e R s m args below meth c H locs cells slots Q (F0 m pc ls (.int y :: .int x :: rest)) :=
  lv_icmp_ge hx hb hdg ht (fun q => kt (by rwa [if_pos q] at h)) (fun q => kf (by rwa [if_neg q] at h))
theorem r_gt (hx : p.tables.exec = Jvm.exec) (hb : c.code = cc) (hdg : decode cc pc = .ok (.if_icmp .gt off, 3)) (ht : (pc : Int) + off = (tgt : Int)) (h : (if y < x then A else B) = some r) (kt : A = some r → W p l e R s m args below meth c H locs cells slots Q (F0 m tgt ls rest)) (kf : B = some r → W p l e R s m args below meth c H locs cells slots Q (F0 m (pc + 3) ls rest)) : W p l e R s m args below meth c H locs cells slots Q (F0 m pc ls (.int y :: .int x :: rest)) :=
  lv_icmp_gt hx hb hdg ht (fun q => kt (by rwa [if_pos q] at h)) (fun q => kf (by rwa [if_neg q] at h))
theorem r_le (hx : p.tables.exec = Jvm.exec) (hb : c.code = cc) (hdg : decode cc pc = .ok (.if_icmp .le off, 3)) (ht : (pc : Int) + off = (tgt : Int)) (h : (if x ≤ y then A else B) = some r) (kt : A = some r → W p l e R s m args below meth c H locs cells slots Q (F0 m tgt ls rest)) (kf : B = some r → W p l e R s m args below meth c H locs cells slots Q (F0 m (pc + 3) ls rest)) : W p l e R s m args below meth c H locs cells slots Q (F0 m pc ls (.int y :: .int x :: rest)) :=
  lv_icmp_le hx hb hdg ht (fun q => kt (by rwa [if_pos q] at h)) (fun q => kf (by rwa [if_neg q] at h))
/-- one case of a table: x = k goes to tgt, else on (with x ≠ k) -/
theorem r_case {dflt lo hi : Int} {offs : Array Int} {len : Nat} (k : Int32) (hx : p.tables.exec = Jvm.exec) (hb : c.code = cc) (hdg : decode cc pc = .ok (.tableswitch dflt lo hi offs, len)) (h1 : ¬ k.toInt < lo) (h2 : ¬ hi < k.toInt) (ho : offs[(k.toInt - lo).toNat]? = some off) (ht : (pc : Int) + off = (tgt : Int)) (h : (if x = k then A else B) = some r)
    (kt : A = some r → W p l e R s m args below meth c H locs cells slots Q (F0 m tgt ls rest)) (kf : ¬ x = k → B = some r → W p l e R s m args below meth c H locs cells slots Q (F0 m pc ls (.int x :: rest))) : W p l e R s m args below meth c H locs cells slots Q (F0 m pc ls (.int x :: rest)) := by
  by_cases q : x = k
  · rw [if_pos q] at h
    subst q
    exact lv_tableIn hx hb hdg h1 h2 ho ht (kt h)
  · rw [if_neg q] at h
    exact kf q h
end BR
theorem tsw_out {x : Int32} {n : Nat} (hn : n < 2 ^ 31) (h : ∀ i : Nat, i < n → ¬ x = nI i) : x.toInt < 0 ∨ (n : Int) - 1 < x.toInt := by
  rcases pk_ix x hn with q | q | ⟨j, hj, q⟩
  · left
    have := Int32.lt_iff_toInt_lt.mp q
    simpa using this
  · right
    have := Int32.le_iff_toInt_le.mp q
    rw [nI_toInt hn] at this
    omega
  · exact absurd q (h j hj)
/-! new cells -/
def dfD (d : String) : Value := if d = "I" then .int 0 else if d = "J" then .long 0 else .null
def NWk (own : String) (index ci n : Nat) : Prop := ∃ (C : String) (T : u_T) (N : Nat) (ty : Nat → FieldType), clF ci = some (C, T, N) ∧ (∀ w ∈ u_ws C T N, w ∈ lw_all) ∧ (∀ k, k < N → parseFieldDescriptor (T k).2.2.1 = some (ty k)) ∧ (∀ k, k < N → defaultValue (ty k) = dfD (T k).2.2.1) ∧ Cond.classLink own index C ∈ lw_all ∧ Cond.instantiable C n ∈ lw_all ∧ Cond.initialized C ∈ lw_all
theorem fV_born (σ : Hp) (kd : Kd) (d : String) (k : Nat) : fV (born σ kd) (hZ σ) d k = dfD d := by
  unfold fV dfD
  rw [hI_born, hL_born, hR_born, if_pos rfl, if_pos rfl, if_pos rfl]
  rfl
theorem r_new (X : FX g p m c s args meth cc nL own ret nm) (hV : HV g σ H) {index ci n : Nat} (f : NWk own index ci n) (hcells : cells + 1 ≤ R.cells) (hslots : slots + n ≤ R.slots) (hdg : decode cc pc = .ok (.new index, 3))
    (kk : ∀ H1, HV g (born σ (.inl ci)) H1 → W p l e R s m args below meth c H1 locs (cells + 1) (slots + n) Q (F0 m (pc + 3) ls (.ref (hZ σ) :: rest))) : W p l e R s m args below meth c H locs cells slots Q (F0 m pc ls rest) := by
  obtain ⟨C, T, N, ty, hc, hin, hty, hdf, hcl, hins, hini⟩ := f
  obtain ⟨hx, hb, -, hown, hts, hK, -, -, -⟩ := X
  have hKn := hK.1 ci _ hc
  refine W.newcK hx hb hown (hts _ hcl) (hts _ hins) (hts _ hini) rfl hdg hcells hslots hKn.2.1 rfl fun H1 kC hkC e1 z1 o1 => ?_
  rw [hV.2.2.1.symm] at e1 ⊢
  refine kk H1 (hV.born z1 o1 ?_)
  rw [hV.2.2.1.symm]
  refine ⟨_, _, hc, fun k hk _ => ?_, u_born ty hts hin hKn hkC e1 hty⟩
  show defaultValue (ty k) = fV (born σ (.inl ci)) (hZ σ) (T k).2.2.1 k
  rw [fV_born, hdf k hk]
theorem aV_born (σ : Hp) (kd : Kd) (t j : Nat) : aV (born σ kd) t (hZ σ) j = if t < 3 then .int 0 else .null := by
  unfold aV
  rw [hI_born, hR_born, if_pos rfl, if_pos rfl]
  rfl
theorem r_newa (X : FX g p m c s args meth cc nL own ret nm) (hV : HV g σ H) {atype : ArrayType} {t : Nat} (ht3 : t < 3) (htt : newarray.typeOf atype = tyA t) (hdv : defaultValue (tyA t) = .int 0) (harr : Cond.arrayClass (tyA t) ∈ lw_all) {n : Int32} {N : Nat} (hn : ¬ n < 0) (hN : n.toNatClampNeg = N) (hbytes : N * componentBytes (tyA t) ≤ 536870912) (hcells : cells + 1 ≤ R.cells) (hslots : slots + N ≤ R.slots) (hdg : decode cc pc = .ok (.newarray atype, 2))
    (kk : ∀ H1, HV g (born σ (.inr (t, N))) H1 → W p l e R s m args below meth c H1 locs (cells + 1) (slots + N) Q (F0 m (pc + 2) ls (.ref (hZ σ) :: rest))) : W p l e R s m args below meth c H locs cells slots Q (F0 m pc ls (.int n :: rest)) := by
  obtain ⟨hx, hb, -, hown, hts, hK, -, -, -⟩ := X
  refine va_newaK hx hb (by rw [htt]; exact hts _ harr) rfl hdg rfl hn hN (by rw [htt]; exact hbytes) hcells hslots rfl fun H1 cA e1 z1 o1 hAr hNm => ?_
  have hA := (hK.2.1 t (by omega)).2
  have hcA : cA = g.2.2.2.1 t := by
    rw [htt] at hNm
    have h2 : s.vm.findClass ("[" ++ (tyA t).toString) = some (g.2.2.2.1 t) := by
      match t, ht3 with
      | 0, _ => exact hA
      | 1, _ => exact hA
      | 2, _ => exact hA
    exact Option.some.inj (hNm.symm.trans h2)
  subst hcA
  rw [hV.2.2.1.symm] at e1 ⊢
  refine kk H1 (hV.born z1 o1 ?_)
  rw [hV.2.2.1.symm]
  show H1[hZ σ]? = some (arrV _ N (aV (born σ (.inr (t, N))) t (hZ σ)))
  rw [e1, htt, hdv]
  congr 2
  funext j
  rw [aV_born, if_pos ht3]
theorem r_anew (X : FX g p m c s args meth cc nL own ret nm) (hV : HV g σ H) {index t : Nat} {C : String} (ht3 : ¬ t < 3) (ht8 : t < 8) (htt : tyA t = .object C) (hao : FieldType.object C ∈ aoT) (hcl : Cond.classLink own index C ∈ lw_all) {n : Int32} {N : Nat} (hn : ¬ n < 0) (hN : n.toNatClampNeg = N) (hbytes : N * 4 ≤ 536870912) (hcells : cells + 1 ≤ R.cells) (hslots : slots + N ≤ R.slots) (hdg : decode cc pc = .ok (.anewarray index, 3))
    (kk : ∀ H1, HV g (born σ (.inr (t, N))) H1 → W p l e R s m args below meth c H1 locs (cells + 1) (slots + N) Q (F0 m (pc + 3) ls (.ref (hZ σ) :: rest))) : W p l e R s m args below meth c H locs cells slots Q (F0 m pc ls (.int n :: rest)) := by
  obtain ⟨hx, hb, -, hown, hts, hK, -, -, -⟩ := X
  subst hN
  refine W.anew hx hb hown (hts _ hcl) (va_AO.use (hK.2.2.2.2.2.2.1 _ hao)) rfl hdg rfl hn hbytes hcells hslots fun cA kA comp h1 h2 h3 h4 => ?_
  have hA := (hK.2.1 t ht8).2
  rw [htt] at hA
  obtain ⟨kA', comp', -, -, -, h5⟩ := hA
  have hcA : cA = g.2.2.2.1 t := Option.some.inj (h1.symm.trans h5)
  subst hcA
  have hz := hV.2.2.1
  have hb1 : HV g (born σ (.inr (t, n.toNatClampNeg))) (H.push { cls := g.2.2.2.1 t, slots := Array.replicate n.toNatClampNeg .null, vm := .none }) := by
    refine hV.born (by simp) (fun q hq => by rw [Array.getElem?_push, if_neg (Nat.ne_of_lt hq)]) ?_
    show (H.push _)[H.size]? = some (arrV _ _ (aV (born σ (.inr (t, n.toNatClampNeg))) t H.size))
    rw [← hz]
    have e : aV (born σ (.inr (t, n.toNatClampNeg))) t (hZ σ) = fun _ => .null := by
      funext j
      rw [aV_born, if_neg ht3]
    rw [e, ← arrV_new, hz]
    simp
  have := kk _ hb1
  rw [hz] at this
  exact this
/-- aastore: a cell of class number ci into an array of type number t, assignable -/
theorem r_ast (X : FX g p m c s args meth cc nL own ret nm) (hV : HV g σ H) (hF : FR g locs) {t ci v : Nat} {q : vw_C} {E : String} (ht3 : ¬ t < 3) (ht8 : t < 8) (htt : tyA t = .object E) (hc : clF ci = some q) (hasg : q.1 = E ∨ (q.1, E) ∈ casT) (hv : hT σ v = some (.inl ci)) (hdg : decode cc pc = .ok (.aastore, 1)) {j : Int32} {K : Hp → Option ρ} (h : b1 (sR t a j v σ) K = some r)
    (kk : ∀ σ1 H1 locs1, HV g σ1 H1 → FR g locs1 → K σ1 = some r → W p l e R s m args below meth c H1 locs1 cells slots Q (F0 m (pc + 1) ls rest)) : W p l e R s m args below meth c H locs cells slots Q (F0 m pc ls (.ref v :: .int j :: .ref a :: rest)) := by
  obtain ⟨σ1, h1, h2⟩ := b1_inv h
  obtain ⟨n, ht, hin, rfl⟩ := sR_inv h1
  obtain ⟨hx, hb, -, hown, hts, hK, -, -, -⟩ := X
  have hlt : j.toNatClampNeg < n := Nat.not_le.mp fun q => hin (Or.inr q)
  have h0 : ¬ j < 0 := fun q => hin (Or.inl q)
  obtain ⟨q', V', hq', -, cellV, g1, g2, g3, -⟩ := (hV.2.2.2 v _ hv).2
  cases hc.symm.trans hq'
  have hcls := (hK.1 ci q hc).2
  have hA := (hK.2.1 t ht8).2
  rw [htt] at hA
  obtain ⟨kA, comp, k1, k2, k3, -⟩ := hA
  obtain ⟨kC, hkC, -⟩ := hcls.2
  have hk3 : ∃ kE : Class, s.vm.classes[comp]? = some kE := by
    obtain ⟨kE, hkE, -⟩ := Vm.findClass_spec k3
    exact ⟨kE, hkE⟩
  obtain ⟨kE, hkE⟩ := hk3
  have has : s.vm.assignable cellV.cls comp = true := by
    rw [g2]
    rcases hasg with e | e
    · subst e
      cases hcls.1.symm.trans k3
      exact va_assign hcls
    · obtain ⟨c0, t0, f1, f2, f3⟩ := Cond.castable_spec (hK.2.2.2.2.2.1 _ e)
      cases hcls.1.symm.trans f1
      cases k3.symm.trans f2
      exact f3
  refine W.aast hx hb (r_arr hV ht) (fun q h => by cases h) (fun h => by cases h) k1 k2 rfl hkE ⟨h0, by rw [arrV_size]; exact hlt⟩ g1 (fun q h => by rw [g3] at h; cases h) (by rw [g2]; exact hkC) has rfl rfl hdg fun H1 w z oq => ?_
  exact kk _ _ _ (r_stR hV ht3 ht w z oq) (FR_put hF (hV.2.2.2 a _ ht).1) h2
/-! ends and calls -/
end RW
def Qi (g : Gl) (x : Int32 × Hp) : Array Value → State → Outcome → State → Prop := fun _ _ o t => o = .returned (some (.int x.1)) ∧ WV g x.2 t
def Qv (g : Gl) (x : Hp) : Array Value → State → Outcome → State → Prop := fun _ _ o t => o = .returned none ∧ WV g x t
def Qn (g : Gl) (x : Nat × Hp) : Array Value → State → Outcome → State → Prop := fun _ _ o t => o = .returned (some (.ref x.1)) ∧ WV g x.2 t
section RE
variable {p : Program} {l : Launch} {e : Env} {R : Room} {s : State} {m : MethodId} {args : Array Value} {below : List Frame} {meth : Method} {c : Code} {H : Heap} {locs : List Loc} {cells slots : Nat} {Q : State → Prop}
variable {cc : ByteArray} {pc nL : Nat} {ls : Array Slot} {rest : List Value} {g : Gl} {σ : Hp} {own nm : String} {a : Nat} {rt : Option FieldType}
theorem r_iret (X : FX g p m c s args meth cc nL own (some .int) nm) (hV : HV g σ H) (hF : FR g locs) {v : Int32} {x : Int32 × Hp} (h : some (v, σ) = some x) (hdg : decode cc pc = .ok (.ireturn, 1)) : W p l e R s m args below meth c H locs cells slots (MQ below (Qi g x) args s cells slots (frN g)) (F0 m pc ls [.int v]) := by
  cases h
  exact W.iret X.1 X.2.1 X.2.2.2.2.2.2.1 (fun t ht hW => ⟨rfl, X.2.2.2.2.2.1.warm hW, by rw [ht]; exact hV⟩) hF hdg X.2.2.2.2.2.2.2.1
theorem r_zret (X : FX g p m c s args meth cc nL own (some .boolean) nm) (hV : HV g σ H) (hF : FR g locs) {v : Int32} {x : Int32 × Hp} (h : some (v, σ) = some x) (hn : narrow .boolean (.int v) = .int v) (hdg : decode cc pc = .ok (.ireturn, 1)) : W p l e R s m args below meth c H locs cells slots (MQ below (Qi g x) args s cells slots (frN g)) (F0 m pc ls [.int v]) := by
  cases h
  exact W.zret X.1 X.2.1 X.2.2.2.2.2.2.1 hn (fun t ht hW => ⟨rfl, X.2.2.2.2.2.1.warm hW, by rw [ht]; exact hV⟩) hF hdg X.2.2.2.2.2.2.2.1
theorem r_zrv (X : FX g p m c s args meth cc nL own (some .boolean) nm) (hV : HV g σ H) (hF : FR g locs) {v : Int32} {x : Int32 × Hp} (h : zr v (some (v, σ)) = some x) (hdg : decode cc pc = .ok (.ireturn, 1)) : W p l e R s m args below meth c H locs cells slots (MQ below (Qi g x) args s cells slots (frN g)) (F0 m pc ls [.int v]) := by
  obtain ⟨hv, h⟩ := zr_inv h
  refine r_zret X hV hF h ?_ hdg
  rcases hv with rfl | rfl <;> rfl
theorem r_vret (X : FX g p m c s args meth cc nL own none nm) (hV : HV g σ H) (hF : FR g locs) {x : Hp} (h : some σ = some x) (hdg : decode cc pc = .ok (.return_, 1)) : W p l e R s m args below meth c H locs cells slots (MQ below (Qv g x) args s cells slots (frN g)) (F0 m pc ls []) := by
  cases h
  exact W.vret X.1 X.2.1 X.2.2.2.2.2.2.1 (fun t ht hW => ⟨rfl, X.2.2.2.2.2.1.warm hW, by rw [ht]; exact hV⟩) hF hdg X.2.2.2.2.2.2.2.1
theorem WV_blind {av : List Value} : FrameBlind (va_Pc av (WV g σ)) := fun a U gg mk q => ⟨q.1, q.2.1.same rfl, q.2.2⟩
theorem preS (X : FX g p m c s args meth cc nL own rt nm) (hV : HV g σ H) {As : List Value} : PreS s H (va_Pc As (WV g σ)) As :=
  ⟨WV_blind, fun U hU hW => ⟨rfl, X.2.2.2.2.2.1.warm hW, by rw [hU]; exact hV⟩⟩
theorem preV (X : FX g p m c s args meth cc nL own rt nm) (hV : HV g σ H) {ci : Nat} {q : vw_C} (ht : hT σ a = some (.inl ci)) (hc : clF ci = some q) {As : List Value} : PreV s H q.1 a (va_Pc (.ref a :: As) (WV g σ)) As := by
  refine ⟨WV_blind, ?_, fun U hU hW => ⟨rfl, X.2.2.2.2.2.1.warm hW, by rw [hU]; exact hV⟩⟩
  obtain ⟨q', V', hq', -, cell, q1, q2, q3, -⟩ := (hV.2.2.2 a _ ht).2
  cases hc.symm.trans hq'
  exact ⟨cell, q1, by rw [q3]; rfl, by rw [q2]; exact (X.2.2.2.2.2.1.1 ci q hc).2.1⟩
theorem FR_app {L : List Loc} (h : FR g locs) (hL : ∀ q ∈ L, frN g q.base) : FR g (locs ++ L) := by
  intro q hq
  rcases List.mem_append.mp hq with h1 | h1
  · exact h q h1
  · exact hL q h1
theorem r_ci {mc ms : Nat} {st0 : List Value} {av : Array Value} {v : Int32} {σ1 : Hp} (hr : va_Run p l e R s m args below meth c H locs cells slots mc ms (F0 m pc ls st0) rest (Qi g (v, σ1) av) (frN g)) (hF : FR g locs)
    (kk : ∀ H1 locs1, HV g σ1 H1 → FR g locs1 → W p l e R s m args below meth c H1 locs1 (cells + mc) (slots + ms) Q (F0 m (pc + 3) ls (.int v :: rest))) : W p l e R s m args below meth c H locs cells slots Q (F0 m pc ls st0) := by
  intro T hT X
  obtain ⟨v, st₀, t, T', L, h0, X', hL, e1, e2, ⟨hv, -, hV⟩, st⟩ := hr T hT X
  cases hv
  obtain ⟨t2, a1, b1⟩ := kk T'.heap (locs ++ L) (by rw [e1]; exact hV) (FR_app hF hL) T' rfl X'
  exact ⟨t2, st t2 a1, b1⟩
theorem r_cv {mc ms : Nat} {st0 : List Value} {av : Array Value} {x : Hp} (hr : va_Run p l e R s m args below meth c H locs cells slots mc ms (F0 m pc ls st0) rest (Qv g x av) (frN g)) (hF : FR g locs)
    (kk : ∀ H1 locs1, HV g x H1 → FR g locs1 → W p l e R s m args below meth c H1 locs1 (cells + mc) (slots + ms) Q (F0 m (pc + 3) ls rest)) : W p l e R s m args below meth c H locs cells slots Q (F0 m pc ls st0) := by
  intro T hT X
  obtain ⟨v, st₀, t, T', L, h0, X', hL, e1, e2, ⟨hv, -, hV⟩, st⟩ := hr T hT X
  cases hv
  obtain ⟨t2, a1, b1⟩ := kk T'.heap (locs ++ L) (by rw [e1]; exact hV) (FR_app hF hL) T' rfl X'
  exact ⟨t2, st t2 a1, b1⟩
theorem cfX (X : FX g p m c s args meth cc nL own rt nm) : CallFix p m c cc nL s args lw_all own := ⟨X.1, X.2.1, X.2.2.1, X.2.2.2.1, X.2.2.2.2.1⟩
/-- a contract out of the walk of its body -/
theorem ct_of {y : MethodName} {rm : Room} {av : List Value} {Qc : Array Value → State → Outcome → State → Prop} {mc ms : Nat} {ret : Option FieldType} (hy : plainName y.cls = true) (hlen : (lg_sl av).length ≤ nL)
    (body : ∀ p e s m below meth c ls, FX g p m c s av.toArray meth cc nL y.cls ret y.name → HV g σ s.heap → lv_has ls nL (lv_args 0 av) → W p l e rm s m av.toArray below meth c s.heap [] 0 0 (MQ below Qc av.toArray s mc ms (frN g)) (F0 m 0 ls [])) :
    Met l y (ws_ y cc nL ret) rm (va_Pc av (WV g σ)) Qc mc ms (frN g) := by
  refine Met.ofW (cc := cc) (maxL := nL) (ret := ret) hy rfl ?_
  intro p e s m args below meth c s₁ B hml hv
  obtain ⟨rfl, hK, hV⟩ := hv
  have hts := atoms_spec (ws := ws_ y cc nL ret) B.pre
  have X : FX g p m c s av.toArray meth cc nL y.cls ret y.name := ⟨B.exec, B.bytes, hml, findClass_of_methodNamed B.named, fun w h => hts w (List.mem_cons_of_mem _ h), hK, B.returns, B.notSynchronized, (name_of_methodNamed B.named B.method).1⟩
  have hl := lv_entry av hlen
  rw [lg_entry_eq]
  generalize (lg_sl av ++ List.replicate (nL - (lg_sl av).length) Slot.unset).toArray = ls at hl ⊢
  exact body p e s m below meth c ls X hV hl
end RE
