set_option maxRecDepth 100000
section SX
variable {p : Program} {l : Launch} {e : Env} {R : Room} {s : State} {m : MethodId} {args : Array Value} {below : List Frame} {meth : Method} {c : Code} {H : Heap} {locs : List Loc} {cells slots : Nat} {Q : State → Prop}
variable {cc : ByteArray} {pc nL : Nat} {ls : Array Slot} {rest : List Value} {g : Gl} {σ : Hp} {own nm : String} {rt : Option FieldType} {ρ : Type} {r : ρ} {b L : Nat} {xs : Nat → Int32}
theorem r_sX (X : FX g p m c s args meth cc nL own rt nm) (hV : HV g σ H) (hS : va_X b L xs s g.2.1) (hb : b < g.1) (hdg : decode cc pc = .ok (.iaload, 1)) {j : Int32} {K : Int32 → Option ρ} (h : sX L xs j K = some r)
    (kk : ∀ v, K v = some r → W p l e R s m args below meth c H locs cells slots Q (F0 m (pc + 1) ls (.int v :: rest))) : W p l e R s m args below meth c H locs cells slots Q (F0 m pc ls (.int j :: .ref b :: rest)) := by
  unfold sX at h
  split at h
  · cases h
  · rename_i hin
    obtain ⟨scr, h1, h2, h3, h4, h5⟩ := hS
    have hlt : j.toNatClampNeg < L := Nat.not_le.mp fun q => hin (Or.inr q)
    exact W.iald X.1 X.2.1 (by rw [hV.2.1 b hb]; exact h1) h2 h3 (by rw [h4]; exact hin) (h5 _ hlt) rfl rfl hdg (kk _ h)
theorem r_sXl (X : FX g p m c s args meth cc nL own rt nm) (hV : HV g σ H) (hS : va_X b L xs s g.2.1) (hb : b < g.1) (hdg : decode cc pc = .ok (.arraylength, 1))
    (kk : W p l e R s m args below meth c H locs cells slots Q (F0 m (pc + 1) ls (.int (Int32.ofNat L) :: rest))) : W p l e R s m args below meth c H locs cells slots Q (F0 m pc ls (.ref b :: rest)) := by
  obtain ⟨scr, h1, h2, h3, h4, h5⟩ := hS
  exact W.alen (n := Int32.ofNat L) X.1 X.2.1 (by rw [hV.2.1 b hb]; exact h1) h2 (by rw [h4] <;> rfl) rfl rfl hdg kk
end SX
theorem st_cls {s : State} {b : Nat} (hts : ∀ w ∈ lw_tbl, w.before #[Value.ref b] s = true) : ∃ (dC : Nat → ClassId) (dI : Nat → Nat → Nat), ∀ (ci : Nat) (q : vw_C), clF ci = some q → u_Kn s q.1 q.2.1 q.2.2 (dC ci) (dI ci) := by
  have h : ∀ ci : Nat, ∃ z : ClassId × (Nat → Nat), ∀ q, clF ci = some q → u_Kn s q.1 q.2.1 q.2.2 z.1 z.2 := by
    intro ci
    match ci with
    | 0 =>
      obtain ⟨c, i, h⟩ := u_known (C := RX0) (T := TX0) (N := 22) (n := 22) hts (fun w h => lw_all_tbl (in_X0 w h)) (hts _ (lw_all_tbl q78))
      exact ⟨(c, i), fun q hq => by cases hq; exact h⟩
    | 1 =>
      obtain ⟨c, i, h⟩ := u_known (C := RX1) (T := TX1) (N := 2) (n := 2) hts (fun w h => lw_all_tbl (in_X1 w h)) (hts _ (lw_all_tbl q88))
      exact ⟨(c, i), fun q hq => by cases hq; exact h⟩
    | 2 => exact ⟨(0, fun _ => 0), fun q hq => by cases hq⟩
    | 3 =>
      obtain ⟨c, i, h⟩ := u_known (C := RX3) (T := TX3) (N := 4) (n := 4) hts (fun w h => lw_all_tbl (in_X3 w h)) (hts _ (lw_all_tbl q95))
      exact ⟨(c, i), fun q hq => by cases hq; exact h⟩
    | 4 =>
      obtain ⟨c, i, h⟩ := u_known (C := RX4) (T := TX4) (N := 2) (n := 2) hts (fun w h => lw_all_tbl (in_X4 w h)) (hts _ (lw_all_tbl q104))
      exact ⟨(c, i), fun q hq => by cases hq; exact h⟩
    | 5 =>
      obtain ⟨c, i, h⟩ := u_known (C := RX5) (T := TX5) (N := 6) (n := 6) hts (fun w h => lw_all_tbl (in_X5 w h)) (hts _ (lw_all_tbl q155))
      exact ⟨(c, i), fun q hq => by cases hq; exact h⟩
    | 6 => exact ⟨(0, fun _ => 0), fun q hq => by cases hq⟩
    | 7 =>
      obtain ⟨c, i, h⟩ := u_known (C := RX7) (T := TX7) (N := 6) (n := 6) hts (fun w h => lw_all_tbl (in_X7 w h)) (hts _ (lw_all_tbl q185))
      exact ⟨(c, i), fun q hq => by cases hq; exact h⟩
    | 8 =>
      obtain ⟨c, i, h⟩ := u_known (C := RX8) (T := TX8) (N := 6) (n := 6) hts (fun w h => lw_all_tbl (in_X8 w h)) (hts _ (lw_all_tbl q215))
      exact ⟨(c, i), fun q hq => by cases hq; exact h⟩
    | 9 =>
      obtain ⟨c, i, h⟩ := u_known (C := RX9) (T := TX9) (N := 3) (n := 3) hts (fun w h => lw_all_tbl (in_X9 w h)) (hts _ (lw_all_tbl q231))
      exact ⟨(c, i), fun q hq => by cases hq; exact h⟩
    | 10 =>
      obtain ⟨c, i, h⟩ := u_known (C := RX10) (T := TX10) (N := 39) (n := 39) hts (fun w h => lw_all_tbl (in_X10 w h)) (hts _ (lw_all_tbl q974))
      exact ⟨(c, i), fun q hq => by cases hq; exact h⟩
    | 11 =>
      obtain ⟨c, i, h⟩ := u_known (C := RX11) (T := TX11) (N := 7) (n := 7) hts (fun w h => lw_all_tbl (in_X11 w h)) (hts _ (lw_all_tbl q570))
      exact ⟨(c, i), fun q hq => by cases hq; exact h⟩
    | 12 => exact ⟨(0, fun _ => 0), fun q hq => by cases hq⟩
    | 13 =>
      obtain ⟨c, i, h⟩ := u_known (C := RX13) (T := TX13) (N := 2) (n := 2) hts (fun w h => lw_all_tbl (in_X13 w h)) (hts _ (lw_all_tbl q634))
      exact ⟨(c, i), fun q hq => by cases hq; exact h⟩
    | 14 =>
      obtain ⟨c, i, h⟩ := u_known (C := RX14) (T := TX14) (N := 1) (n := 1) hts (fun w h => lw_all_tbl (in_X14 w h)) (hts _ (lw_all_tbl q651))
      exact ⟨(c, i), fun q hq => by cases hq; exact h⟩
    | 15 =>
      obtain ⟨c, i, h⟩ := u_known (C := RX15) (T := TX15) (N := 1) (n := 1) hts (fun w h => lw_all_tbl (in_X15 w h)) (hts _ (lw_all_tbl q662))
      exact ⟨(c, i), fun q hq => by cases hq; exact h⟩
    | 16 =>
      obtain ⟨c, i, h⟩ := u_known (C := RX16) (T := TX16) (N := 2) (n := 2) hts (fun w h => lw_all_tbl (in_X16 w h)) (hts _ (lw_all_tbl q674))
      exact ⟨(c, i), fun q hq => by cases hq; exact h⟩
    | _ + 17 => exact ⟨(0, fun _ => 0), fun q hq => by cases hq⟩
  obtain ⟨f, hf⟩ := Classical.axiomOfChoice h
  exact ⟨fun ci => (f ci).1, fun ci => (f ci).2, fun ci q hq => hf ci q hq⟩
theorem st_arrP {s : State} {A : Array Value} {ty : FieldType} (h : (Cond.arrayClass ty).before A s = true) (hra : ∀ cA, s.vm.findClass ("[" ++ ty.toString) = some cA → va_RA s cA ty) : ∃ cA, ArrOfT s cA ty ∧ va_RA s cA ty := by
  obtain ⟨c, k, cc, h1, h2, h3⟩ := Cond.arrayClass_spec h
  exact ⟨c, fun n z => ⟨(fun k h => by cases h), k, h2, cc, h3⟩, hra c h1⟩
theorem st_arrO {s : State} {A : Array Value} {C : String} (h : (Cond.arrayOver (.object C)).before A s = true) : ∃ cA, ArrOfT s cA (.object C) ∧ va_RA s cA (.object C) := by
  obtain ⟨comp, cA, kA, hcomp, hidx, hkA, hkind, hname⟩ := Cond.arrayOver_spec h
  exact ⟨cA, fun n z => ⟨(fun k h => by cases h), kA, hkA, comp, hkind⟩, kA, comp, hkA, hkind, hcomp, hname⟩
theorem st_arrA {s : State} {A : Array Value} {t : FieldType} (h : (Cond.arrayOver (.array t)).before A s = true) : ∃ cA, ArrOfT s cA (.array t) ∧ va_RA s cA (.array t) := by
  obtain ⟨comp, cA, kA, hcomp, hidx, hkA, hkind, hname⟩ := arrayOverA_spec h
  exact ⟨cA, fun n z => ⟨(fun k h => by cases h), kA, hkA, comp, hkind⟩, hname⟩
theorem st_arr {s : State} {b : Nat} (hts : ∀ w ∈ lw_tbl, w.before #[Value.ref b] s = true) : ∃ dA : Nat → ClassId, ∀ t : Nat, t < 8 → ArrOfT s (dA t) (tyA t) ∧ va_RA s (dA t) (tyA t) := by
  have h : ∀ t : Nat, ∃ c : ClassId, t < 8 → ArrOfT s c (tyA t) ∧ va_RA s c (tyA t) := by
    intro t
    match t with
    | 0 =>
      obtain ⟨c, h⟩ := st_arrP (hts _ (lw_all_tbl q131)) (fun _ h => h)
      exact ⟨c, fun _ => h⟩
    | 1 =>
      obtain ⟨c, h⟩ := st_arrP (hts _ (lw_all_tbl q130)) (fun _ h => h)
      exact ⟨c, fun _ => h⟩
    | 2 =>
      obtain ⟨c, h⟩ := st_arrP (hts _ (lw_all_tbl q181)) (fun _ h => h)
      exact ⟨c, fun _ => h⟩
    | 3 =>
      obtain ⟨c, h⟩ := st_arrO (hts _ q94)
      exact ⟨c, fun _ => h⟩
    | 4 =>
      obtain ⟨c, h⟩ := st_arrO (hts _ q153)
      exact ⟨c, fun _ => h⟩
    | 5 =>
      obtain ⟨c, h⟩ := st_arrO (hts _ q230)
      exact ⟨c, fun _ => h⟩
    | 6 =>
      obtain ⟨c, h⟩ := st_arrA (hts _ q86)
      exact ⟨c, fun _ => h⟩
    | 7 =>
      obtain ⟨c, h⟩ := st_arrA (hts _ q183)
      exact ⟨c, fun _ => h⟩
    | _ + 8 => exact ⟨0, fun h => absurd h (by omega)⟩
  obtain ⟨f, hf⟩ := Classical.axiomOfChoice h
  exact ⟨f, fun t ht => hf t ht⟩
theorem casT_tbl : ∀ x ∈ casT, Cond.castable x.1 x.2 ∈ lw_tbl := List.forall_mem_cons.mpr ⟨q571, List.forall_mem_cons.mpr ⟨q1372, List.forall_mem_cons.mpr ⟨q1373, List.forall_mem_cons.mpr ⟨q1374, List.forall_mem_cons.mpr ⟨q1375, fun _ h => absurd h List.not_mem_nil⟩⟩⟩⟩⟩
theorem aoT_tbl : ∀ x ∈ aoT, Cond.arrayOver x ∈ lw_tbl := List.forall_mem_cons.mpr ⟨q94, List.forall_mem_cons.mpr ⟨q153, List.forall_mem_cons.mpr ⟨q230, List.forall_mem_cons.mpr ⟨q86, List.forall_mem_cons.mpr ⟨q183, fun _ h => absurd h List.not_mem_nil⟩⟩⟩⟩⟩
def strTm : Nat → Term := fun i => match i with
  | 0 => .string "PalaceOfRooms$Reader" 73
  | 1 => .string "PalaceOfRooms$Reader" 87
  | 2 => .string "PalaceOfRooms$Reader" 92
  | 3 => .string "PalaceOfRooms$Reader" 97
  | 4 => .string "PalaceOfRooms$Reader" 99
  | 5 => .string "PalaceOfRooms$Reader" 117
  | _ => .string "PalaceOfRooms$Fault" 1
theorem st_str {s : State} {b : Nat} (hts : ∀ w ∈ lw_tbl, w.before #[Value.ref b] s = true) (hgv : (Jvm.Cond.and given_1 narrow_1).before #[Value.ref b] s = true) : ∃ adK adV : Nat → Nat, vk_S 7 slen sbyt adK adV (fun q => s.heap.size ≤ q) s s.heap ∧ ∀ i : Nat, i < 7 → (strTm i).eval #[Value.ref b] s none [] s = some (.ref (adK i)) := by
  have hs := flat_of_before _ hgv
  refine vk_Sof (N := 7) (tm := strTm) (len := slen) (byt := sbyt) ?_ ?_ ?_ ?_ ?_ ?_ ?_ (fun a h q => absurd h (by omega))
  · intro i hi
    match i, hi with
    | 0, _ => decide
    | 1, _ => decide
    | 2, _ => decide
    | 3, _ => decide
    | 4, _ => decide
    | 5, _ => decide
    | 6, _ => decide
  · intro i hi
    match i, hi with
    | 0, _ => exact hs _ (by decide +kernel)
    | 1, _ => exact hs _ (by decide +kernel)
    | 2, _ => exact hs _ (by decide +kernel)
    | 3, _ => exact hs _ (by decide +kernel)
    | 4, _ => exact hs _ (by decide +kernel)
    | 5, _ => exact hs _ (by decide +kernel)
    | 6, _ => exact hs _ (by decide +kernel)
  · intro i hi
    match i, hi with
    | 0, _ => exact hs _ (by decide +kernel)
    | 1, _ => exact hs _ (by decide +kernel)
    | 2, _ => exact hs _ (by decide +kernel)
    | 3, _ => exact hs _ (by decide +kernel)
    | 4, _ => exact hs _ (by decide +kernel)
    | 5, _ => exact hs _ (by decide +kernel)
    | 6, _ => exact hs _ (by decide +kernel)
  · intro i hi
    match i, hi with
    | 0, _ => exact hs _ (by decide +kernel)
    | 1, _ => exact hs _ (by decide +kernel)
    | 2, _ => exact hs _ (by decide +kernel)
    | 3, _ => exact hs _ (by decide +kernel)
    | 4, _ => exact hs _ (by decide +kernel)
    | 5, _ => exact hs _ (by decide +kernel)
    | 6, _ => exact hs _ (by decide +kernel)
  · intro i hi
    match i, hi with
    | 0, _ => exact hs _ (by decide +kernel)
    | 1, _ => exact hs _ (by decide +kernel)
    | 2, _ => exact hs _ (by decide +kernel)
    | 3, _ => exact hs _ (by decide +kernel)
    | 4, _ => exact hs _ (by decide +kernel)
    | 5, _ => exact hs _ (by decide +kernel)
    | 6, _ => exact hs _ (by decide +kernel)
  · intro i hi j hj
    match i, hi with
    | 0, _ =>
      have hj : j < 4 := hj
      match j, hj with
      | 0, _ => exact hs _ (by decide +kernel)
      | 1, _ => exact hs _ (by decide +kernel)
      | 2, _ => exact hs _ (by decide +kernel)
      | 3, _ => exact hs _ (by decide +kernel)
    | 1, _ =>
      have hj : j < 5 := hj
      match j, hj with
      | 0, _ => exact hs _ (by decide +kernel)
      | 1, _ => exact hs _ (by decide +kernel)
      | 2, _ => exact hs _ (by decide +kernel)
      | 3, _ => exact hs _ (by decide +kernel)
      | 4, _ => exact hs _ (by decide +kernel)
    | 2, _ =>
      have hj : j < 5 := hj
      match j, hj with
      | 0, _ => exact hs _ (by decide +kernel)
      | 1, _ => exact hs _ (by decide +kernel)
      | 2, _ => exact hs _ (by decide +kernel)
      | 3, _ => exact hs _ (by decide +kernel)
      | 4, _ => exact hs _ (by decide +kernel)
    | 3, _ =>
      have hj : j < 4 := hj
      match j, hj with
      | 0, _ => exact hs _ (by decide +kernel)
      | 1, _ => exact hs _ (by decide +kernel)
      | 2, _ => exact hs _ (by decide +kernel)
      | 3, _ => exact hs _ (by decide +kernel)
    | 4, _ =>
      have hj : j < 5 := hj
      match j, hj with
      | 0, _ => exact hs _ (by decide +kernel)
      | 1, _ => exact hs _ (by decide +kernel)
      | 2, _ => exact hs _ (by decide +kernel)
      | 3, _ => exact hs _ (by decide +kernel)
      | 4, _ => exact hs _ (by decide +kernel)
    | 5, _ =>
      have hj : j < 1 := hj
      match j, hj with
      | 0, _ => exact hs _ (by decide +kernel)
    | 6, _ =>
      have hj : j < 0 := hj
      exact absurd hj (by omega)
  · intro i j hi hj hij
    match i, hi, j, hj with
    | 0, _, 0, _ => exact absurd rfl hij
    | 0, _, 1, _ => first | exact Or.inl (hs _ (by decide +kernel)) | exact Or.inr (hs _ (by decide +kernel))
    | 0, _, 2, _ => first | exact Or.inl (hs _ (by decide +kernel)) | exact Or.inr (hs _ (by decide +kernel))
    | 0, _, 3, _ => first | exact Or.inl (hs _ (by decide +kernel)) | exact Or.inr (hs _ (by decide +kernel))
    | 0, _, 4, _ => first | exact Or.inl (hs _ (by decide +kernel)) | exact Or.inr (hs _ (by decide +kernel))
    | 0, _, 5, _ => first | exact Or.inl (hs _ (by decide +kernel)) | exact Or.inr (hs _ (by decide +kernel))
    | 0, _, 6, _ => first | exact Or.inl (hs _ (by decide +kernel)) | exact Or.inr (hs _ (by decide +kernel))
    | 1, _, 0, _ => first | exact Or.inl (hs _ (by decide +kernel)) | exact Or.inr (hs _ (by decide +kernel))
    | 1, _, 1, _ => exact absurd rfl hij
    | 1, _, 2, _ => first | exact Or.inl (hs _ (by decide +kernel)) | exact Or.inr (hs _ (by decide +kernel))
    | 1, _, 3, _ => first | exact Or.inl (hs _ (by decide +kernel)) | exact Or.inr (hs _ (by decide +kernel))
    | 1, _, 4, _ => first | exact Or.inl (hs _ (by decide +kernel)) | exact Or.inr (hs _ (by decide +kernel))
    | 1, _, 5, _ => first | exact Or.inl (hs _ (by decide +kernel)) | exact Or.inr (hs _ (by decide +kernel))
    | 1, _, 6, _ => first | exact Or.inl (hs _ (by decide +kernel)) | exact Or.inr (hs _ (by decide +kernel))
    | 2, _, 0, _ => first | exact Or.inl (hs _ (by decide +kernel)) | exact Or.inr (hs _ (by decide +kernel))
    | 2, _, 1, _ => first | exact Or.inl (hs _ (by decide +kernel)) | exact Or.inr (hs _ (by decide +kernel))
    | 2, _, 2, _ => exact absurd rfl hij
    | 2, _, 3, _ => first | exact Or.inl (hs _ (by decide +kernel)) | exact Or.inr (hs _ (by decide +kernel))
    | 2, _, 4, _ => first | exact Or.inl (hs _ (by decide +kernel)) | exact Or.inr (hs _ (by decide +kernel))
    | 2, _, 5, _ => first | exact Or.inl (hs _ (by decide +kernel)) | exact Or.inr (hs _ (by decide +kernel))
    | 2, _, 6, _ => first | exact Or.inl (hs _ (by decide +kernel)) | exact Or.inr (hs _ (by decide +kernel))
    | 3, _, 0, _ => first | exact Or.inl (hs _ (by decide +kernel)) | exact Or.inr (hs _ (by decide +kernel))
    | 3, _, 1, _ => first | exact Or.inl (hs _ (by decide +kernel)) | exact Or.inr (hs _ (by decide +kernel))
    | 3, _, 2, _ => first | exact Or.inl (hs _ (by decide +kernel)) | exact Or.inr (hs _ (by decide +kernel))
    | 3, _, 3, _ => exact absurd rfl hij
    | 3, _, 4, _ => first | exact Or.inl (hs _ (by decide +kernel)) | exact Or.inr (hs _ (by decide +kernel))
    | 3, _, 5, _ => first | exact Or.inl (hs _ (by decide +kernel)) | exact Or.inr (hs _ (by decide +kernel))
    | 3, _, 6, _ => first | exact Or.inl (hs _ (by decide +kernel)) | exact Or.inr (hs _ (by decide +kernel))
    | 4, _, 0, _ => first | exact Or.inl (hs _ (by decide +kernel)) | exact Or.inr (hs _ (by decide +kernel))
    | 4, _, 1, _ => first | exact Or.inl (hs _ (by decide +kernel)) | exact Or.inr (hs _ (by decide +kernel))
    | 4, _, 2, _ => first | exact Or.inl (hs _ (by decide +kernel)) | exact Or.inr (hs _ (by decide +kernel))
    | 4, _, 3, _ => first | exact Or.inl (hs _ (by decide +kernel)) | exact Or.inr (hs _ (by decide +kernel))
    | 4, _, 4, _ => exact absurd rfl hij
    | 4, _, 5, _ => first | exact Or.inl (hs _ (by decide +kernel)) | exact Or.inr (hs _ (by decide +kernel))
    | 4, _, 6, _ => first | exact Or.inl (hs _ (by decide +kernel)) | exact Or.inr (hs _ (by decide +kernel))
    | 5, _, 0, _ => first | exact Or.inl (hs _ (by decide +kernel)) | exact Or.inr (hs _ (by decide +kernel))
    | 5, _, 1, _ => first | exact Or.inl (hs _ (by decide +kernel)) | exact Or.inr (hs _ (by decide +kernel))
    | 5, _, 2, _ => first | exact Or.inl (hs _ (by decide +kernel)) | exact Or.inr (hs _ (by decide +kernel))
    | 5, _, 3, _ => first | exact Or.inl (hs _ (by decide +kernel)) | exact Or.inr (hs _ (by decide +kernel))
    | 5, _, 4, _ => first | exact Or.inl (hs _ (by decide +kernel)) | exact Or.inr (hs _ (by decide +kernel))
    | 5, _, 5, _ => exact absurd rfl hij
    | 5, _, 6, _ => first | exact Or.inl (hs _ (by decide +kernel)) | exact Or.inr (hs _ (by decide +kernel))
    | 6, _, 0, _ => first | exact Or.inl (hs _ (by decide +kernel)) | exact Or.inr (hs _ (by decide +kernel))
    | 6, _, 1, _ => first | exact Or.inl (hs _ (by decide +kernel)) | exact Or.inr (hs _ (by decide +kernel))
    | 6, _, 2, _ => first | exact Or.inl (hs _ (by decide +kernel)) | exact Or.inr (hs _ (by decide +kernel))
    | 6, _, 3, _ => first | exact Or.inl (hs _ (by decide +kernel)) | exact Or.inr (hs _ (by decide +kernel))
    | 6, _, 4, _ => first | exact Or.inl (hs _ (by decide +kernel)) | exact Or.inr (hs _ (by decide +kernel))
    | 6, _, 5, _ => first | exact Or.inl (hs _ (by decide +kernel)) | exact Or.inr (hs _ (by decide +kernel))
    | 6, _, 6, _ => exact absurd rfl hij
theorem st_noface {s : State} {A : Array Value} {C D n d n' d' : String} (h : (Cond.selects C ⟨D, n, d⟩ ⟨D, n, d⟩).before A s = true) {k : Class} {m : MethodId} (h1 : s.methodNamed? ⟨D, n', d'⟩ = some m) (h2 : s.vm.classes[m.cls]? = some k) : k.isInterface = false := by
  obtain ⟨c2, r2, m2, q1, q2, q3, q4, kP, hkP, hkPi⟩ := Cond.selects_spec h
  have e1 := findClass_of_methodNamed h1
  have e2 := findClass_of_methodNamed q3
  have e3 : m2.cls = m.cls := Option.some.inj (e2.symm.trans e1)
  rw [e3] at hkP
  cases hkP.symm.trans h2
  exact hkPi
theorem st_KN {s : State} {b : Nat} (hts : ∀ w ∈ lw_tbl, w.before #[Value.ref b] s = true) (hgv : (Jvm.Cond.and given_1 narrow_1).before #[Value.ref b] s = true) : ∃ g : Gl, g.1 = s.heap.size ∧ g.2.1 = s.heap ∧ KN g s := by
  have hs := flat_of_before _ hgv
  obtain ⟨dC, dI, h1⟩ := st_cls hts
  obtain ⟨dA, h2⟩ := st_arr hts
  obtain ⟨adK, adV, h3, h4⟩ := st_str hts hgv
  have hA : ∀ a : Nat, a < s.heap.size → ¬ (fun q => s.heap.size ≤ q) a := fun a h q => absurd h (Nat.not_lt.mpr q)
  refine ⟨(s.heap.size, s.heap, (dC, dI), dA, adK, adV), rfl, rfl, h1, h2, fun x hx => va_Nw.of rfl (hts _ (nestF_tbl x hx)), fun x hx => va_Nw.of rfl (hts _ (nestM_tbl x hx)), fun x hx => va_Nw.of rfl (hts _ (nestD_tbl x hx)), fun x hx => va_Nw.of rfl (hts _ (casT_tbl x hx)), fun x hx => ?_, ⟨h3, fun x hx => ?_, ?_, ?_, ?_, ?_⟩, fun x hx => ?_⟩
  · have h := hts _ (aoT_tbl x hx)
    simp only [aoT, List.mem_cons, List.not_mem_nil, or_false] at hx
    rcases hx with rfl | rfl | rfl | rfl | rfl
    · exact va_AO.of h
    · exact va_AO.of h
    · exact va_AO.of h
    · exact over_moved (Vm.Alike.refl _) h
    · exact over_moved (Vm.Alike.refl _) h
  · simp only [strTab, List.mem_cons, List.not_mem_nil, or_false] at hx
    rcases hx with rfl | rfl | rfl | rfl | rfl | rfl | rfl
    · exact vk_R.of (hts _ q504) (h4 0 (by decide))
    · exact vk_R.of (hts _ q649) (h4 1 (by decide))
    · exact vk_R.of (hts _ q660) (h4 2 (by decide))
    · exact vk_R.of (hts _ q671) (h4 3 (by decide))
    · exact vk_R.of (hts _ q672) (h4 4 (by decide))
    · exact vk_R.of (hts _ q686) (h4 5 (by decide))
    · exact vk_R.of (hts _ q609) (h4 6 (by decide))
  · exact va_Zof (hts _ q522) (hts _ (lw_all_tbl q62)) (va_eqi (hs _ (by decide +kernel))) hA
  · exact va_Zqof (hts _ q538) (hts _ (lw_all_tbl q64)) (hs _ (by decide +kernel)) hA
  · exact va_Zqof (hts _ q594) (hts _ (lw_all_tbl q66)) (hs _ (by decide +kernel)) hA
  · exact va_Zqof (hts _ q596) (hts _ (lw_all_tbl q66)) (hs _ (by decide +kernel)) hA
  · simp only [selT, List.mem_cons, List.not_mem_nil, or_false] at hx
    have hni : ∀ (k : Class) (m : MethodId), s.methodNamed? ⟨"PalaceOfRooms$Orders", "isMet", "(I)Z"⟩ = some m → s.vm.classes[m.cls]? = some k → k.isInterface = false := by
      intro k m h1 h2
      exact st_noface (hts _ (lw_all_tbl q822)) h1 h2
    rcases hx with rfl | rfl
    · exact va_Nw.of rfl (sel_priv (C := "PalaceOfRooms$Laid") (by decide) (hts _ (lw_all_tbl q185)) (hts _ q826) (hts _ (lw_all_tbl q827)) hni)
    · exact va_Nw.of rfl (sel_priv (C := "PalaceOfRooms$Code") (by decide) (hts _ (lw_all_tbl q215)) (hts _ q826) (hts _ (lw_all_tbl q827)) hni)
